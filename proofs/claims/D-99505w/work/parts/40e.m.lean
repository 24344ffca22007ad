/-! THE TWIN, walked. Printed by wip/D-99505w/gen/mkx6.py -/
set_option maxRecDepth 100000
def rm_horseOf : Room := { frames := 1, cells := 0, slots := 0, locals := 21 }
noncomputable def m_horseOf (V : gz_V) (a1 : Int32) (a2 : Int32) : Option (gz_V × Int32) := gz_let (gz_up V (1, 0, 0) 0 0) (fun V1 => (if (m_isHorse V1 a1) = 0 then some (V1, (-1)) else (if a2 = 0 then gz_gd (gz_inb (101 + a1) 121 = true) (some (V1, (V1 (2, 1, 0) (101 + a1).toNatClampNeg))) else (if a2 = 1 then gz_gd (gz_inb a1 10 = true) (some (V1, (V1 (2, 8, 0) a1.toNatClampNeg))) else (if a2 = 2 then gz_gd (gz_inb a1 10 = true) (some (V1, (V1 (2, 9, 0) a1.toNatClampNeg))) else (if a2 = 3 then gz_gd (gz_inb (111 + a1) 121 = true) (some (V1, (V1 (2, 1, 0) (111 + a1).toNatClampNeg))) else some (V1, (-1))))))))
theorem c_horseOf {l : Launch} {D : va_G} {aC : Nat → ClassId} {ad : gz_A0} {V : gz_V} {a1 : Int32} {a2 : Int32} {W1 : gz_V} {r : Int32} (h : m_horseOf V a1 a2 = some (W1, r)) : gz_Met l yX6_horseOf cX6_horseOf 3 (some .int) rm_horseOf D aC ad tw_S V tw_R [.ref (ad (1, 0, 0)), .int a1, .int a2] (gz_F1 tw_S tw_R ad W1 (some (.int r))) 0 0 := by
  refine gt_ofW (own := RX6) (mn := "horseOf") (lv := [(0, .ref (ad (1, 0, 0))), (1, .int a1), (2, .int a2)]) (by decide) rfl rfl (Nat.le_of_ble_eq_true rfl) rfl ?_
  intro X hX hZ hF
  rw [m_horseOf] at h
  refine gz_aload_n (q := 0) hX dX6_horseOf_0 rfl rfl ?_
  refine gz_iconst (v := 0) hX dX6_horseOf_1 gk_c_0 ?_
  obtain ⟨V1, e2, h⟩ := gz_let_o h
  refine tp_told hX dX6_horseOf_2 e2 ?_
  refine gz_aload_n (q := 0) hX dX6_horseOf_5 rfl rfl ?_
  refine gz_iload_n (q := 1) hX dX6_horseOf_6 rfl rfl ?_
  refine tc_V (As := [.int a1]) hX (c_isHorse rfl) (lw_isHorse_ q1720) rfl rfl nn_isHorse ⟨Nat.le_of_ble_eq_true rfl, Nat.le_of_ble_eq_true rfl⟩ rfl rfl (Nat.le_of_ble_eq_true rfl) dX6_horseOf_7 rfl ?_
  refine gz_if_ne (tgt := 15) hX dX6_horseOf_10 (by decide) (fun c3 => ?_) (fun c3 => ?_)
  · have h := gz_ifn c3 h
    refine gz_iload_n (q := 2) hX dX6_horseOf_15 rfl rfl ?_
    refine gz_if_ne (tgt := 29) hX dX6_horseOf_16 (by decide) (fun c4 => ?_) (fun c4 => ?_)
    · have h := gz_ifn c4 h
      refine gz_iload_n (q := 2) hX dX6_horseOf_29 rfl rfl ?_
      refine gz_iconst (v := 1) hX dX6_horseOf_30 gk_c_1 ?_
      refine gz_icmp_ne (tgt := 43) hX dX6_horseOf_31 (by decide) (fun c5 => ?_) (fun c5 => ?_)
      · have h := gz_ifn c5 h
        refine gz_iload_n (q := 2) hX dX6_horseOf_43 rfl rfl ?_
        refine gz_iconst (v := 2) hX dX6_horseOf_44 gk_c_2 ?_
        refine gz_icmp_ne (tgt := 57) hX dX6_horseOf_45 (by decide) (fun c6 => ?_) (fun c6 => ?_)
        · have h := gz_ifn c6 h
          refine gz_iload_n (q := 2) hX dX6_horseOf_57 rfl rfl ?_
          refine gz_iconst (v := 3) hX dX6_horseOf_58 gk_c_3 ?_
          refine gz_icmp_ne (tgt := 74) hX dX6_horseOf_59 (by decide) (fun c7 => ?_) (fun c7 => ?_)
          · have h := gz_ifn c7 h
            refine gz_iconst (v := (-1)) hX dX6_horseOf_74 gk_c_m1 ?_
            obtain ⟨e1, e2⟩ := gz_in2 h
            exact gt_iret hX hZ hF e1 e2 dX6_horseOf_75
          · have h := gz_ifp c7 h
            refine gz_aload_n (q := 0) hX dX6_horseOf_62 rfl rfl ?_
            refine tg_now hX dX6_horseOf_63 ?_
            refine gz_bipush (v := 111) hX dX6_horseOf_66 gk_b_111 ?_
            refine gz_iload_n (q := 1) hX dX6_horseOf_68 rfl rfl ?_
            refine gz_iadd hX dX6_horseOf_69 ?_
            obtain ⟨b8, h⟩ := gz_gd_o h
            refine gz_iald (L := 121) hX tw_S1 (gz_inb_o b8) dX6_horseOf_70 ?_
            refine gz_goto (tgt := 75) hX dX6_horseOf_71 (by decide) ?_
            obtain ⟨e1, e2⟩ := gz_in2 h
            exact gt_iret hX hZ hF e1 e2 dX6_horseOf_75
        · have h := gz_ifp c6 h
          refine gz_aload_n (q := 0) hX dX6_horseOf_48 rfl rfl ?_
          refine tg_spirit hX dX6_horseOf_49 ?_
          refine gz_iload_n (q := 1) hX dX6_horseOf_52 rfl rfl ?_
          obtain ⟨b9, h⟩ := gz_gd_o h
          refine gz_iald (L := 10) hX tw_S9 (gz_inb_o b9) dX6_horseOf_53 ?_
          refine gz_goto (tgt := 75) hX dX6_horseOf_54 (by decide) ?_
          obtain ⟨e1, e2⟩ := gz_in2 h
          exact gt_iret hX hZ hF e1 e2 dX6_horseOf_75
      · have h := gz_ifp c5 h
        refine gz_aload_n (q := 0) hX dX6_horseOf_34 rfl rfl ?_
        refine tg_worth hX dX6_horseOf_35 ?_
        refine gz_iload_n (q := 1) hX dX6_horseOf_38 rfl rfl ?_
        obtain ⟨b10, h⟩ := gz_gd_o h
        refine gz_iald (L := 10) hX tw_S8 (gz_inb_o b10) dX6_horseOf_39 ?_
        refine gz_goto (tgt := 75) hX dX6_horseOf_40 (by decide) ?_
        obtain ⟨e1, e2⟩ := gz_in2 h
        exact gt_iret hX hZ hF e1 e2 dX6_horseOf_75
    · have h := gz_ifp c4 h
      refine gz_aload_n (q := 0) hX dX6_horseOf_19 rfl rfl ?_
      refine tg_now hX dX6_horseOf_20 ?_
      refine gz_bipush (v := 101) hX dX6_horseOf_23 gk_b_101 ?_
      refine gz_iload_n (q := 1) hX dX6_horseOf_25 rfl rfl ?_
      refine gz_iadd hX dX6_horseOf_26 ?_
      obtain ⟨b11, h⟩ := gz_gd_o h
      refine gz_iald (L := 121) hX tw_S1 (gz_inb_o b11) dX6_horseOf_27 ?_
      obtain ⟨e1, e2⟩ := gz_in2 h
      exact gt_iret hX hZ hF e1 e2 dX6_horseOf_28
  · have h := gz_ifp c3 h
    refine gz_iconst (v := (-1)) hX dX6_horseOf_13 gk_c_m1 ?_
    obtain ⟨e1, e2⟩ := gz_in2 h
    exact gt_iret hX hZ hF e1 e2 dX6_horseOf_14
theorem lw_horseOf_ {i : Nat} (hl : Cond.methodLink RX6 i yX6_horseOf ∈ lw_all) : GoodIn lw_all (wsV RX6 i RX6 yX6_horseOf (ws_ yX6_horseOf cX6_horseOf 3 (some .int))) := lw_V hl q1999 q2000 q153 q2001
theorem nn_horseOf : yX6_horseOf.cls = RX6 ∧ yX6_horseOf.cls ≠ "java/lang/invoke/MethodHandle" ∧ yX6_horseOf.cls ≠ "java/lang/invoke/VarHandle" ∧ (parseMethodDescriptor yX6_horseOf.desc).map (fun d => d.parameters.length) = some 2 := by decide +kernel
def rm_keeps : Room := { frames := 0, cells := 0, slots := 0, locals := 0 }
noncomputable def m_keeps (V : gz_V) (a1 : Int32) : Option (gz_V × Int32) := gz_let (gz_up V (1, 0, 0) 67 ((V (1, 0, 0) 67) + 1)) (fun V1 => (if (V1 (1, 0, 0) 65) = 0 then gz_gd (gz_inb ((V1 (1, 0, 0) 67) - 1) 2400 = true) (some (V1, (V1 (2, 68, 0) ((V1 (1, 0, 0) 67) - 1).toNatClampNeg))) else gz_gd (gz_inb ((V1 (1, 0, 0) 67) - 1) 2400 = true) (gz_let (gz_up V1 (2, 68, 0) ((V1 (1, 0, 0) 67) - 1).toNatClampNeg a1) (fun V5 => some (V5, a1)))))
theorem c_keeps {l : Launch} {D : va_G} {aC : Nat → ClassId} {ad : gz_A0} {V : gz_V} {a1 : Int32} {W1 : gz_V} {r : Int32} (h : m_keeps V a1 = some (W1, r)) : gz_Met l yX6_keeps cX6_keeps 2 (some .int) rm_keeps D aC ad tw_S V tw_R [.ref (ad (1, 0, 0)), .int a1] (gz_F1 tw_S tw_R ad W1 (some (.int r))) 0 0 := by
  refine gt_ofW (own := RX6) (mn := "keeps") (lv := [(0, .ref (ad (1, 0, 0))), (1, .int a1)]) (by decide) rfl rfl (Nat.le_of_ble_eq_true rfl) rfl ?_
  intro X hX hZ hF
  rw [m_keeps] at h
  refine gz_aload_n (q := 0) hX dX6_keeps_0 rfl rfl ?_
  refine gz_aload_n (q := 0) hX dX6_keeps_1 rfl rfl ?_
  refine tg_keptAt hX dX6_keeps_2 ?_
  refine gz_iconst (v := 1) hX dX6_keeps_5 gk_c_1 ?_
  refine gz_iadd hX dX6_keeps_6 ?_
  obtain ⟨V1, e2, h⟩ := gz_let_o h
  refine tp_keptAt hX dX6_keeps_7 e2 ?_
  refine gz_aload_n (q := 0) hX dX6_keeps_10 rfl rfl ?_
  refine tg_isTaking hX dX6_keeps_11 ?_
  refine gz_if_ne (tgt := 29) hX dX6_keeps_14 (by decide) (fun c3 => ?_) (fun c3 => ?_)
  · have h := gz_ifn c3 h
    refine gz_aload_n (q := 0) hX dX6_keeps_29 rfl rfl ?_
    refine tg_images hX dX6_keeps_30 ?_
    refine gz_aload_n (q := 0) hX dX6_keeps_33 rfl rfl ?_
    refine tg_keptAt hX dX6_keeps_34 ?_
    refine gz_iconst (v := 1) hX dX6_keeps_37 gk_c_1 ?_
    refine gz_isub hX dX6_keeps_38 ?_
    refine gz_iload_n (q := 1) hX dX6_keeps_39 rfl rfl ?_
    obtain ⟨b4, h⟩ := gz_gd_o h
    obtain ⟨V5, e6, h⟩ := gz_let_o h
    refine gz_iast (L := 2400) hX tw_S68 (by decide) (gz_inb_o b4) dX6_keeps_40 e6 ?_
    refine gz_iload_n (q := 1) hX dX6_keeps_41 rfl rfl ?_
    obtain ⟨e1, e2⟩ := gz_in2 h
    exact gt_iret hX hZ hF e1 e2 dX6_keeps_42
  · have h := gz_ifp c3 h
    refine gz_aload_n (q := 0) hX dX6_keeps_17 rfl rfl ?_
    refine tg_images hX dX6_keeps_18 ?_
    refine gz_aload_n (q := 0) hX dX6_keeps_21 rfl rfl ?_
    refine tg_keptAt hX dX6_keeps_22 ?_
    refine gz_iconst (v := 1) hX dX6_keeps_25 gk_c_1 ?_
    refine gz_isub hX dX6_keeps_26 ?_
    obtain ⟨b7, h⟩ := gz_gd_o h
    refine gz_iald (L := 2400) hX tw_S68 (gz_inb_o b7) dX6_keeps_27 ?_
    obtain ⟨e1, e2⟩ := gz_in2 h
    exact gt_iret hX hZ hF e1 e2 dX6_keeps_28
theorem lw_keeps_ {i : Nat} (hl : Cond.methodLink RX6 i yX6_keeps ∈ lw_all) : GoodIn lw_all (wsV RX6 i RX6 yX6_keeps (ws_ yX6_keeps cX6_keeps 2 (some .int))) := lw_V hl q2190 qs139 q153 q2191
theorem nn_keeps : yX6_keeps.cls = RX6 ∧ yX6_keeps.cls ≠ "java/lang/invoke/MethodHandle" ∧ yX6_keeps.cls ≠ "java/lang/invoke/VarHandle" ∧ (parseMethodDescriptor yX6_keeps.desc).map (fun d => d.parameters.length) = some 1 := by decide +kernel
def rm_keepsMany : Room := { frames := 1, cells := 0, slots := 0, locals := 21 }
noncomputable def m_keepsMany (V : gz_V) : Option gz_V := gz_b2 (m_keeps V (V (1, 0, 0) 6)) (fun V3 r1 => gz_let (gz_up V3 (1, 0, 0) 6 r1) (fun V4 => gz_b2 (m_keeps V4 (V4 (1, 0, 0) 7)) (fun V8 r6 => gz_let (gz_up V8 (1, 0, 0) 7 r6) (fun V9 => gz_b2 (m_keeps V9 (V9 (1, 0, 0) 34)) (fun V13 r11 => gz_let (gz_up V13 (1, 0, 0) 34 r11) (fun V14 => gz_b2 (m_keeps V14 (V14 (1, 0, 0) 36)) (fun V18 r16 => gz_let (gz_up V18 (1, 0, 0) 36 r16) (fun V19 => gz_b2 (m_keeps V19 (V19 (1, 0, 0) 38)) (fun V23 r21 => gz_let (gz_up V23 (1, 0, 0) 38 r21) (fun V24 => gz_b2 (m_keeps V24 (V24 (1, 0, 0) 48)) (fun V28 r26 => gz_let (gz_up V28 (1, 0, 0) 48 r26) (fun V29 => gz_b2 (m_keeps V29 (V29 (1, 0, 0) 51)) (fun V33 r31 => gz_let (gz_up V33 (1, 0, 0) 51 r31) (fun V34 => gz_b2 (m_keeps V34 (V34 (1, 0, 0) 57)) (fun V38 r36 => gz_let (gz_up V38 (1, 0, 0) 57 r36) (fun V39 => gz_b2 (m_keeps V39 (V39 (1, 0, 0) 59)) (fun V43 r41 => gz_let (gz_up V43 (1, 0, 0) 59 r41) (fun V44 => gz_b2 (m_keeps V44 (V44 (1, 0, 0) 62)) (fun V48 r46 => gz_let (gz_up V48 (1, 0, 0) 62 r46) (fun V49 => some V49))))))))))))))))))))
theorem c_keepsMany {l : Launch} {D : va_G} {aC : Nat → ClassId} {ad : gz_A0} {V : gz_V} {W1 : gz_V} (h : m_keepsMany V = some W1) : gz_Met l yX6_keepsMany cX6_keepsMany 1 none rm_keepsMany D aC ad tw_S V tw_R [.ref (ad (1, 0, 0))] (gz_F1 tw_S tw_R ad W1 none) 0 0 := by
  refine gt_ofW (own := RX6) (mn := "keepsMany") (lv := [(0, .ref (ad (1, 0, 0)))]) (by decide) rfl rfl (Nat.le_of_ble_eq_true rfl) rfl ?_
  intro X hX hZ hF
  rw [m_keepsMany] at h
  refine gz_aload_n (q := 0) hX dX6_keepsMany_0 rfl rfl ?_
  refine gz_aload_n (q := 0) hX dX6_keepsMany_1 rfl rfl ?_
  refine gz_aload_n (q := 0) hX dX6_keepsMany_2 rfl rfl ?_
  refine tg_people hX dX6_keepsMany_3 ?_
  obtain ⟨V3, r1, e2, h⟩ := gz_b2_o h
  refine tc_V (As := [.int (V (1, 0, 0) 6)]) hX (c_keeps e2) (lw_keeps_ q2188) rfl rfl nn_keeps ⟨Nat.le_of_ble_eq_true rfl, Nat.le_of_ble_eq_true rfl⟩ rfl rfl (Nat.le_of_ble_eq_true rfl) dX6_keepsMany_6 rfl ?_
  obtain ⟨V4, e5, h⟩ := gz_let_o h
  refine tp_people hX dX6_keepsMany_9 e5 ?_
  refine gz_aload_n (q := 0) hX dX6_keepsMany_12 rfl rfl ?_
  refine gz_aload_n (q := 0) hX dX6_keepsMany_13 rfl rfl ?_
  refine gz_aload_n (q := 0) hX dX6_keepsMany_14 rfl rfl ?_
  refine tg_horses hX dX6_keepsMany_15 ?_
  obtain ⟨V8, r6, e7, h⟩ := gz_b2_o h
  refine tc_V (As := [.int (V4 (1, 0, 0) 7)]) hX (c_keeps e7) (lw_keeps_ q2188) rfl rfl nn_keeps ⟨Nat.le_of_ble_eq_true rfl, Nat.le_of_ble_eq_true rfl⟩ rfl rfl (Nat.le_of_ble_eq_true rfl) dX6_keepsMany_18 rfl ?_
  obtain ⟨V9, e10, h⟩ := gz_let_o h
  refine tp_horses hX dX6_keepsMany_21 e10 ?_
  refine gz_aload_n (q := 0) hX dX6_keepsMany_24 rfl rfl ?_
  refine gz_aload_n (q := 0) hX dX6_keepsMany_25 rfl rfl ?_
  refine gz_aload_n (q := 0) hX dX6_keepsMany_26 rfl rfl ?_
  refine tg_offerMany hX dX6_keepsMany_27 ?_
  obtain ⟨V13, r11, e12, h⟩ := gz_b2_o h
  refine tc_V (As := [.int (V9 (1, 0, 0) 34)]) hX (c_keeps e12) (lw_keeps_ q2188) rfl rfl nn_keeps ⟨Nat.le_of_ble_eq_true rfl, Nat.le_of_ble_eq_true rfl⟩ rfl rfl (Nat.le_of_ble_eq_true rfl) dX6_keepsMany_30 rfl ?_
  obtain ⟨V14, e15, h⟩ := gz_let_o h
  refine tp_offerMany hX dX6_keepsMany_33 e15 ?_
  refine gz_aload_n (q := 0) hX dX6_keepsMany_36 rfl rfl ?_
  refine gz_aload_n (q := 0) hX dX6_keepsMany_37 rfl rfl ?_
  refine gz_aload_n (q := 0) hX dX6_keepsMany_38 rfl rfl ?_
  refine tg_deedMany hX dX6_keepsMany_39 ?_
  obtain ⟨V18, r16, e17, h⟩ := gz_b2_o h
  refine tc_V (As := [.int (V14 (1, 0, 0) 36)]) hX (c_keeps e17) (lw_keeps_ q2188) rfl rfl nn_keeps ⟨Nat.le_of_ble_eq_true rfl, Nat.le_of_ble_eq_true rfl⟩ rfl rfl (Nat.le_of_ble_eq_true rfl) dX6_keepsMany_42 rfl ?_
  obtain ⟨V19, e20, h⟩ := gz_let_o h
  refine tp_deedMany hX dX6_keepsMany_45 e20 ?_
  refine gz_aload_n (q := 0) hX dX6_keepsMany_48 rfl rfl ?_
  refine gz_aload_n (q := 0) hX dX6_keepsMany_49 rfl rfl ?_
  refine gz_aload_n (q := 0) hX dX6_keepsMany_50 rfl rfl ?_
  refine tg_kinMany hX dX6_keepsMany_51 ?_
  obtain ⟨V23, r21, e22, h⟩ := gz_b2_o h
  refine tc_V (As := [.int (V19 (1, 0, 0) 38)]) hX (c_keeps e22) (lw_keeps_ q2188) rfl rfl nn_keeps ⟨Nat.le_of_ble_eq_true rfl, Nat.le_of_ble_eq_true rfl⟩ rfl rfl (Nat.le_of_ble_eq_true rfl) dX6_keepsMany_54 rfl ?_
  obtain ⟨V24, e25, h⟩ := gz_let_o h
  refine tp_kinMany hX dX6_keepsMany_57 e25 ?_
  refine gz_aload_n (q := 0) hX dX6_keepsMany_60 rfl rfl ?_
  refine gz_aload_n (q := 0) hX dX6_keepsMany_61 rfl rfl ?_
  refine gz_aload_n (q := 0) hX dX6_keepsMany_62 rfl rfl ?_
  refine tg_claspMany hX dX6_keepsMany_63 ?_
  obtain ⟨V28, r26, e27, h⟩ := gz_b2_o h
  refine tc_V (As := [.int (V24 (1, 0, 0) 48)]) hX (c_keeps e27) (lw_keeps_ q2188) rfl rfl nn_keeps ⟨Nat.le_of_ble_eq_true rfl, Nat.le_of_ble_eq_true rfl⟩ rfl rfl (Nat.le_of_ble_eq_true rfl) dX6_keepsMany_66 rfl ?_
  obtain ⟨V29, e30, h⟩ := gz_let_o h
  refine tp_claspMany hX dX6_keepsMany_69 e30 ?_
  refine gz_aload_n (q := 0) hX dX6_keepsMany_72 rfl rfl ?_
  refine gz_aload_n (q := 0) hX dX6_keepsMany_73 rfl rfl ?_
  refine gz_aload_n (q := 0) hX dX6_keepsMany_74 rfl rfl ?_
  refine tg_numberMany hX dX6_keepsMany_75 ?_
  obtain ⟨V33, r31, e32, h⟩ := gz_b2_o h
  refine tc_V (As := [.int (V29 (1, 0, 0) 51)]) hX (c_keeps e32) (lw_keeps_ q2188) rfl rfl nn_keeps ⟨Nat.le_of_ble_eq_true rfl, Nat.le_of_ble_eq_true rfl⟩ rfl rfl (Nat.le_of_ble_eq_true rfl) dX6_keepsMany_78 rfl ?_
  obtain ⟨V34, e35, h⟩ := gz_let_o h
  refine tp_numberMany hX dX6_keepsMany_81 e35 ?_
  refine gz_aload_n (q := 0) hX dX6_keepsMany_84 rfl rfl ?_
  refine gz_aload_n (q := 0) hX dX6_keepsMany_85 rfl rfl ?_
  refine gz_aload_n (q := 0) hX dX6_keepsMany_86 rfl rfl ?_
  refine tg_weightMany hX dX6_keepsMany_87 ?_
  obtain ⟨V38, r36, e37, h⟩ := gz_b2_o h
  refine tc_V (As := [.int (V34 (1, 0, 0) 57)]) hX (c_keeps e37) (lw_keeps_ q2188) rfl rfl nn_keeps ⟨Nat.le_of_ble_eq_true rfl, Nat.le_of_ble_eq_true rfl⟩ rfl rfl (Nat.le_of_ble_eq_true rfl) dX6_keepsMany_90 rfl ?_
  obtain ⟨V39, e40, h⟩ := gz_let_o h
  refine tp_weightMany hX dX6_keepsMany_93 e40 ?_
  refine gz_aload_n (q := 0) hX dX6_keepsMany_96 rfl rfl ?_
  refine gz_aload_n (q := 0) hX dX6_keepsMany_97 rfl rfl ?_
  refine gz_aload_n (q := 0) hX dX6_keepsMany_98 rfl rfl ?_
  refine tg_herdMany hX dX6_keepsMany_99 ?_
  obtain ⟨V43, r41, e42, h⟩ := gz_b2_o h
  refine tc_V (As := [.int (V39 (1, 0, 0) 59)]) hX (c_keeps e42) (lw_keeps_ q2188) rfl rfl nn_keeps ⟨Nat.le_of_ble_eq_true rfl, Nat.le_of_ble_eq_true rfl⟩ rfl rfl (Nat.le_of_ble_eq_true rfl) dX6_keepsMany_102 rfl ?_
  obtain ⟨V44, e45, h⟩ := gz_let_o h
  refine tp_herdMany hX dX6_keepsMany_105 e45 ?_
  refine gz_aload_n (q := 0) hX dX6_keepsMany_108 rfl rfl ?_
  refine gz_aload_n (q := 0) hX dX6_keepsMany_109 rfl rfl ?_
  refine gz_aload_n (q := 0) hX dX6_keepsMany_110 rfl rfl ?_
  refine tg_rowMany hX dX6_keepsMany_111 ?_
  obtain ⟨V48, r46, e47, h⟩ := gz_b2_o h
  refine tc_V (As := [.int (V44 (1, 0, 0) 62)]) hX (c_keeps e47) (lw_keeps_ q2188) rfl rfl nn_keeps ⟨Nat.le_of_ble_eq_true rfl, Nat.le_of_ble_eq_true rfl⟩ rfl rfl (Nat.le_of_ble_eq_true rfl) dX6_keepsMany_114 rfl ?_
  obtain ⟨V49, e50, h⟩ := gz_let_o h
  refine tp_rowMany hX dX6_keepsMany_117 e50 ?_
  exact gt_vret hX hZ hF (gz_in1 h) dX6_keepsMany_120
theorem lw_keepsMany_ {i : Nat} (hl : Cond.methodLink RX6 i yX6_keepsMany ∈ lw_all) : GoodIn lw_all (wsV RX6 i RX6 yX6_keepsMany (ws_ yX6_keepsMany cX6_keepsMany 1 none)) := lw_V hl q2194 qs140 q153 q2195
theorem nn_keepsMany : yX6_keepsMany.cls = RX6 ∧ yX6_keepsMany.cls ≠ "java/lang/invoke/MethodHandle" ∧ yX6_keepsMany.cls ≠ "java/lang/invoke/VarHandle" ∧ (parseMethodDescriptor yX6_keepsMany.desc).map (fun d => d.parameters.length) = some 0 := by decide +kernel
theorem gk_b_12 : (Int8.ofInt 12).toInt32 = 12 := by decide
theorem gk_b_16 : (Int8.ofInt 16).toInt32 = 16 := by decide
theorem gk_b_80 : (Int8.ofInt 80).toInt32 = 80 := by decide
def rm_keepsTold : Room := { frames := 1, cells := 0, slots := 0, locals := 21 }
noncomputable def m_keepsTold_L2 (N : Nat) : Nat → gz_V → Int32 → Option (gz_V)
  | 0, _, _ => none
  | n + 1, V, v1 => (if 10 ≤ v1 then some V else gz_gd (gz_inb v1 10 = true) (gz_b2 (m_keeps V (V (2, 8, 0) v1.toNatClampNeg)) (fun V5 r3 => gz_gd (gz_inb v1 10 = true) (gz_let (gz_up V5 (2, 8, 0) v1.toNatClampNeg r3) (fun V7 => gz_gd (gz_inb v1 10 = true) (gz_b2 (m_keeps V7 (V7 (2, 9, 0) v1.toNatClampNeg)) (fun V12 r10 => gz_gd (gz_inb v1 10 = true) (gz_let (gz_up V12 (2, 9, 0) v1.toNatClampNeg r10) (fun V14 => m_keepsTold_L2 N n V14 (v1 + 1))))))))))
theorem w_m_keepsTold_L2 {X : gz_X} {ad : gz_A0} (hX : gz_ok X cX6_keepsTold RX6 "keepsTold" 2 rm_keepsTold none) (hZ : gz_Z X) {N : Nat} {W1 : gz_V} (k : gW X 2 tw_S tw_R ad W1 0 0 46 [(0, .ref (ad (1, 0, 0)))] []) : ∀ (n : Nat) {V : gz_V} {v1 : Int32}, m_keepsTold_L2 N n V v1 = some W1 → gW X 2 tw_S tw_R ad V 0 0 2 [(0, .ref (ad (1, 0, 0))), (1, .int v1)] [] := by
  intro n
  induction n with
  | zero => intro V v1 h; rw [m_keepsTold_L2] at h; cases h
  | succ n ih =>
    intro V v1 h
    rw [m_keepsTold_L2] at h
    refine gz_iload_n (q := 1) hX dX6_keepsTold_2 rfl rfl ?_
    refine gz_bipush (v := 10) hX dX6_keepsTold_3 gk_b_10 ?_
    refine gz_icmp_ge (tgt := 46) hX dX6_keepsTold_5 (by decide) (fun c1 => ?_) (fun c1 => ?_)
    · have h := gz_ifp c1 h
      obtain rfl := gz_in1 h
      exact gz_lv [0] rfl k
    · have h := gz_ifn c1 h
      refine gz_aload_n (q := 0) hX dX6_keepsTold_8 rfl rfl ?_
      refine tg_worth hX dX6_keepsTold_9 ?_
      refine gz_iload_n (q := 1) hX dX6_keepsTold_12 rfl rfl ?_
      refine gz_aload_n (q := 0) hX dX6_keepsTold_13 rfl rfl ?_
      refine gz_aload_n (q := 0) hX dX6_keepsTold_14 rfl rfl ?_
      refine tg_worth hX dX6_keepsTold_15 ?_
      refine gz_iload_n (q := 1) hX dX6_keepsTold_18 rfl rfl ?_
      obtain ⟨b2, h⟩ := gz_gd_o h
      refine gz_iald (L := 10) hX tw_S8 (gz_inb_o b2) dX6_keepsTold_19 ?_
      obtain ⟨V5, r3, e4, h⟩ := gz_b2_o h
      refine tc_V (As := [.int (V (2, 8, 0) v1.toNatClampNeg)]) hX (c_keeps e4) (lw_keeps_ q2188) rfl rfl nn_keeps ⟨Nat.le_of_ble_eq_true rfl, Nat.le_of_ble_eq_true rfl⟩ rfl rfl (Nat.le_of_ble_eq_true rfl) dX6_keepsTold_20 rfl ?_
      obtain ⟨b6, h⟩ := gz_gd_o h
      obtain ⟨V7, e8, h⟩ := gz_let_o h
      refine gz_iast (L := 10) hX tw_S8 (by decide) (gz_inb_o b6) dX6_keepsTold_23 e8 ?_
      refine gz_aload_n (q := 0) hX dX6_keepsTold_24 rfl rfl ?_
      refine tg_spirit hX dX6_keepsTold_25 ?_
      refine gz_iload_n (q := 1) hX dX6_keepsTold_28 rfl rfl ?_
      refine gz_aload_n (q := 0) hX dX6_keepsTold_29 rfl rfl ?_
      refine gz_aload_n (q := 0) hX dX6_keepsTold_30 rfl rfl ?_
      refine tg_spirit hX dX6_keepsTold_31 ?_
      refine gz_iload_n (q := 1) hX dX6_keepsTold_34 rfl rfl ?_
      obtain ⟨b9, h⟩ := gz_gd_o h
      refine gz_iald (L := 10) hX tw_S9 (gz_inb_o b9) dX6_keepsTold_35 ?_
      obtain ⟨V12, r10, e11, h⟩ := gz_b2_o h
      refine tc_V (As := [.int (V7 (2, 9, 0) v1.toNatClampNeg)]) hX (c_keeps e11) (lw_keeps_ q2188) rfl rfl nn_keeps ⟨Nat.le_of_ble_eq_true rfl, Nat.le_of_ble_eq_true rfl⟩ rfl rfl (Nat.le_of_ble_eq_true rfl) dX6_keepsTold_36 rfl ?_
      obtain ⟨b13, h⟩ := gz_gd_o h
      obtain ⟨V14, e15, h⟩ := gz_let_o h
      refine gz_iast (L := 10) hX tw_S9 (by decide) (gz_inb_o b13) dX6_keepsTold_39 e15 ?_
      refine gz_iinc (q := 1) (lv2 := [(1, .int (v1 + 1)), (0, .ref (ad (1, 0, 0)))]) hX dX6_keepsTold_40 rfl gk_c_1 (by decide) rfl ?_
      refine gz_goto (tgt := 2) hX dX6_keepsTold_43 (by decide) ?_
      exact gz_lv [1, 0] rfl (ih h)
noncomputable def m_keepsTold_L48 (N : Nat) : Nat → gz_V → Int32 → Option (gz_V)
  | 0, _, _ => none
  | n + 1, V, v1 => (if 12 ≤ v1 then some V else gz_gd (gz_inb v1 24 = true) (gz_b2 (m_keeps V (V (2, 39, 0) v1.toNatClampNeg)) (fun V7 r5 => gz_gd (gz_inb v1 24 = true) (gz_let (gz_up V7 (2, 39, 0) v1.toNatClampNeg r5) (fun V9 => m_keepsTold_L48 N n V9 (v1 + 1))))))
theorem w_m_keepsTold_L48 {X : gz_X} {ad : gz_A0} (hX : gz_ok X cX6_keepsTold RX6 "keepsTold" 2 rm_keepsTold none) (hZ : gz_Z X) {N : Nat} {W1 : gz_V} (k : gW X 2 tw_S tw_R ad W1 0 0 76 [(0, .ref (ad (1, 0, 0)))] []) : ∀ (n : Nat) {V : gz_V} {v1 : Int32}, m_keepsTold_L48 N n V v1 = some W1 → gW X 2 tw_S tw_R ad V 0 0 48 [(0, .ref (ad (1, 0, 0))), (1, .int v1)] [] := by
  intro n
  induction n with
  | zero => intro V v1 h; rw [m_keepsTold_L48] at h; cases h
  | succ n ih =>
    intro V v1 h
    rw [m_keepsTold_L48] at h
    refine gz_iload_n (q := 1) hX dX6_keepsTold_48 rfl rfl ?_
    refine gz_bipush (v := 12) hX dX6_keepsTold_49 gk_b_12 ?_
    refine gz_icmp_ge (tgt := 76) hX dX6_keepsTold_51 (by decide) (fun c3 => ?_) (fun c3 => ?_)
    · have h := gz_ifp c3 h
      obtain rfl := gz_in1 h
      exact gz_lv [0] rfl k
    · have h := gz_ifn c3 h
      refine gz_aload_n (q := 0) hX dX6_keepsTold_54 rfl rfl ?_
      refine tg_kinOf hX dX6_keepsTold_55 ?_
      refine gz_iload_n (q := 1) hX dX6_keepsTold_58 rfl rfl ?_
      refine gz_aload_n (q := 0) hX dX6_keepsTold_59 rfl rfl ?_
      refine gz_aload_n (q := 0) hX dX6_keepsTold_60 rfl rfl ?_
      refine tg_kinOf hX dX6_keepsTold_61 ?_
      refine gz_iload_n (q := 1) hX dX6_keepsTold_64 rfl rfl ?_
      obtain ⟨b4, h⟩ := gz_gd_o h
      refine gz_iald (L := 24) hX tw_S39 (gz_inb_o b4) dX6_keepsTold_65 ?_
      obtain ⟨V7, r5, e6, h⟩ := gz_b2_o h
      refine tc_V (As := [.int (V (2, 39, 0) v1.toNatClampNeg)]) hX (c_keeps e6) (lw_keeps_ q2188) rfl rfl nn_keeps ⟨Nat.le_of_ble_eq_true rfl, Nat.le_of_ble_eq_true rfl⟩ rfl rfl (Nat.le_of_ble_eq_true rfl) dX6_keepsTold_66 rfl ?_
      obtain ⟨b8, h⟩ := gz_gd_o h
      obtain ⟨V9, e10, h⟩ := gz_let_o h
      refine gz_iast (L := 24) hX tw_S39 (by decide) (gz_inb_o b8) dX6_keepsTold_69 e10 ?_
      refine gz_iinc (q := 1) (lv2 := [(1, .int (v1 + 1)), (0, .ref (ad (1, 0, 0)))]) hX dX6_keepsTold_70 rfl gk_c_1 (by decide) rfl ?_
      refine gz_goto (tgt := 48) hX dX6_keepsTold_73 (by decide) ?_
      exact gz_lv [1, 0] rfl (ih h)
noncomputable def m_keepsTold_L78 (N : Nat) : Nat → gz_V → Int32 → Option (gz_V)
  | 0, _, _ => none
  | n + 1, V, v1 => (if 16 ≤ v1 then some V else gz_gd (gz_inb v1 16 = true) (gz_b2 (m_keeps V (V (2, 49, 0) v1.toNatClampNeg)) (fun V9 r7 => gz_gd (gz_inb v1 16 = true) (gz_let (gz_up V9 (2, 49, 0) v1.toNatClampNeg r7) (fun V11 => gz_gd (gz_inb v1 16 = true) (gz_b2 (m_keeps V11 (V11 (2, 50, 0) v1.toNatClampNeg)) (fun V16 r14 => gz_gd (gz_inb v1 16 = true) (gz_let (gz_up V16 (2, 50, 0) v1.toNatClampNeg r14) (fun V18 => m_keepsTold_L78 N n V18 (v1 + 1))))))))))
theorem w_m_keepsTold_L78 {X : gz_X} {ad : gz_A0} (hX : gz_ok X cX6_keepsTold RX6 "keepsTold" 2 rm_keepsTold none) (hZ : gz_Z X) {N : Nat} {W1 : gz_V} (k : gW X 2 tw_S tw_R ad W1 0 0 122 [(0, .ref (ad (1, 0, 0)))] []) : ∀ (n : Nat) {V : gz_V} {v1 : Int32}, m_keepsTold_L78 N n V v1 = some W1 → gW X 2 tw_S tw_R ad V 0 0 78 [(0, .ref (ad (1, 0, 0))), (1, .int v1)] [] := by
  intro n
  induction n with
  | zero => intro V v1 h; rw [m_keepsTold_L78] at h; cases h
  | succ n ih =>
    intro V v1 h
    rw [m_keepsTold_L78] at h
    refine gz_iload_n (q := 1) hX dX6_keepsTold_78 rfl rfl ?_
    refine gz_bipush (v := 16) hX dX6_keepsTold_79 gk_b_16 ?_
    refine gz_icmp_ge (tgt := 122) hX dX6_keepsTold_81 (by decide) (fun c5 => ?_) (fun c5 => ?_)
    · have h := gz_ifp c5 h
      obtain rfl := gz_in1 h
      exact gz_lv [0] rfl k
    · have h := gz_ifn c5 h
      refine gz_aload_n (q := 0) hX dX6_keepsTold_84 rfl rfl ?_
      refine tg_claspOne hX dX6_keepsTold_85 ?_
      refine gz_iload_n (q := 1) hX dX6_keepsTold_88 rfl rfl ?_
      refine gz_aload_n (q := 0) hX dX6_keepsTold_89 rfl rfl ?_
      refine gz_aload_n (q := 0) hX dX6_keepsTold_90 rfl rfl ?_
      refine tg_claspOne hX dX6_keepsTold_91 ?_
      refine gz_iload_n (q := 1) hX dX6_keepsTold_94 rfl rfl ?_
      obtain ⟨b6, h⟩ := gz_gd_o h
      refine gz_iald (L := 16) hX tw_S49 (gz_inb_o b6) dX6_keepsTold_95 ?_
      obtain ⟨V9, r7, e8, h⟩ := gz_b2_o h
      refine tc_V (As := [.int (V (2, 49, 0) v1.toNatClampNeg)]) hX (c_keeps e8) (lw_keeps_ q2188) rfl rfl nn_keeps ⟨Nat.le_of_ble_eq_true rfl, Nat.le_of_ble_eq_true rfl⟩ rfl rfl (Nat.le_of_ble_eq_true rfl) dX6_keepsTold_96 rfl ?_
      obtain ⟨b10, h⟩ := gz_gd_o h
      obtain ⟨V11, e12, h⟩ := gz_let_o h
      refine gz_iast (L := 16) hX tw_S49 (by decide) (gz_inb_o b10) dX6_keepsTold_99 e12 ?_
      refine gz_aload_n (q := 0) hX dX6_keepsTold_100 rfl rfl ?_
      refine tg_claspOther hX dX6_keepsTold_101 ?_
      refine gz_iload_n (q := 1) hX dX6_keepsTold_104 rfl rfl ?_
      refine gz_aload_n (q := 0) hX dX6_keepsTold_105 rfl rfl ?_
      refine gz_aload_n (q := 0) hX dX6_keepsTold_106 rfl rfl ?_
      refine tg_claspOther hX dX6_keepsTold_107 ?_
      refine gz_iload_n (q := 1) hX dX6_keepsTold_110 rfl rfl ?_
      obtain ⟨b13, h⟩ := gz_gd_o h
      refine gz_iald (L := 16) hX tw_S50 (gz_inb_o b13) dX6_keepsTold_111 ?_
      obtain ⟨V16, r14, e15, h⟩ := gz_b2_o h
      refine tc_V (As := [.int (V11 (2, 50, 0) v1.toNatClampNeg)]) hX (c_keeps e15) (lw_keeps_ q2188) rfl rfl nn_keeps ⟨Nat.le_of_ble_eq_true rfl, Nat.le_of_ble_eq_true rfl⟩ rfl rfl (Nat.le_of_ble_eq_true rfl) dX6_keepsTold_112 rfl ?_
      obtain ⟨b17, h⟩ := gz_gd_o h
      obtain ⟨V18, e19, h⟩ := gz_let_o h
      refine gz_iast (L := 16) hX tw_S50 (by decide) (gz_inb_o b17) dX6_keepsTold_115 e19 ?_
      refine gz_iinc (q := 1) (lv2 := [(1, .int (v1 + 1)), (0, .ref (ad (1, 0, 0)))]) hX dX6_keepsTold_116 rfl gk_c_1 (by decide) rfl ?_
      refine gz_goto (tgt := 78) hX dX6_keepsTold_119 (by decide) ?_
      exact gz_lv [1, 0] rfl (ih h)
noncomputable def m_keepsTold_L124 (N : Nat) : Nat → gz_V → Int32 → Option (gz_V)
  | 0, _, _ => none
  | n + 1, V, v1 => (if 9 ≤ v1 then some V else gz_gd (gz_inb v1 9 = true) (gz_b2 (m_keeps V (V (2, 52, 0) v1.toNatClampNeg)) (fun V11 r9 => gz_gd (gz_inb v1 9 = true) (gz_let (gz_up V11 (2, 52, 0) v1.toNatClampNeg r9) (fun V13 => m_keepsTold_L124 N n V13 (v1 + 1))))))
theorem w_m_keepsTold_L124 {X : gz_X} {ad : gz_A0} (hX : gz_ok X cX6_keepsTold RX6 "keepsTold" 2 rm_keepsTold none) (hZ : gz_Z X) {N : Nat} {W1 : gz_V} (k : gW X 2 tw_S tw_R ad W1 0 0 152 [(0, .ref (ad (1, 0, 0)))] []) : ∀ (n : Nat) {V : gz_V} {v1 : Int32}, m_keepsTold_L124 N n V v1 = some W1 → gW X 2 tw_S tw_R ad V 0 0 124 [(0, .ref (ad (1, 0, 0))), (1, .int v1)] [] := by
  intro n
  induction n with
  | zero => intro V v1 h; rw [m_keepsTold_L124] at h; cases h
  | succ n ih =>
    intro V v1 h
    rw [m_keepsTold_L124] at h
    refine gz_iload_n (q := 1) hX dX6_keepsTold_124 rfl rfl ?_
    refine gz_bipush (v := 9) hX dX6_keepsTold_125 gk_b_9 ?_
    refine gz_icmp_ge (tgt := 152) hX dX6_keepsTold_127 (by decide) (fun c7 => ?_) (fun c7 => ?_)
    · have h := gz_ifp c7 h
      obtain rfl := gz_in1 h
      exact gz_lv [0] rfl k
    · have h := gz_ifn c7 h
      refine gz_aload_n (q := 0) hX dX6_keepsTold_130 rfl rfl ?_
      refine tg_numbers hX dX6_keepsTold_131 ?_
      refine gz_iload_n (q := 1) hX dX6_keepsTold_134 rfl rfl ?_
      refine gz_aload_n (q := 0) hX dX6_keepsTold_135 rfl rfl ?_
      refine gz_aload_n (q := 0) hX dX6_keepsTold_136 rfl rfl ?_
      refine tg_numbers hX dX6_keepsTold_137 ?_
      refine gz_iload_n (q := 1) hX dX6_keepsTold_140 rfl rfl ?_
      obtain ⟨b8, h⟩ := gz_gd_o h
      refine gz_iald (L := 9) hX tw_S52 (gz_inb_o b8) dX6_keepsTold_141 ?_
      obtain ⟨V11, r9, e10, h⟩ := gz_b2_o h
      refine tc_V (As := [.int (V (2, 52, 0) v1.toNatClampNeg)]) hX (c_keeps e10) (lw_keeps_ q2188) rfl rfl nn_keeps ⟨Nat.le_of_ble_eq_true rfl, Nat.le_of_ble_eq_true rfl⟩ rfl rfl (Nat.le_of_ble_eq_true rfl) dX6_keepsTold_142 rfl ?_
      obtain ⟨b12, h⟩ := gz_gd_o h
      obtain ⟨V13, e14, h⟩ := gz_let_o h
      refine gz_iast (L := 9) hX tw_S52 (by decide) (gz_inb_o b12) dX6_keepsTold_145 e14 ?_
      refine gz_iinc (q := 1) (lv2 := [(1, .int (v1 + 1)), (0, .ref (ad (1, 0, 0)))]) hX dX6_keepsTold_146 rfl gk_c_1 (by decide) rfl ?_
      refine gz_goto (tgt := 124) hX dX6_keepsTold_149 (by decide) ?_
      exact gz_lv [1, 0] rfl (ih h)
noncomputable def m_keepsTold_L154 (N : Nat) : Nat → gz_V → Int32 → Option (gz_V)
  | 0, _, _ => none
  | n + 1, V, v1 => (if 5 ≤ v1 then some V else gz_gd (gz_inb v1 5 = true) (gz_b2 (m_keeps V (V (2, 58, 0) v1.toNatClampNeg)) (fun V13 r11 => gz_gd (gz_inb v1 5 = true) (gz_let (gz_up V13 (2, 58, 0) v1.toNatClampNeg r11) (fun V15 => m_keepsTold_L154 N n V15 (v1 + 1))))))
theorem w_m_keepsTold_L154 {X : gz_X} {ad : gz_A0} (hX : gz_ok X cX6_keepsTold RX6 "keepsTold" 2 rm_keepsTold none) (hZ : gz_Z X) {N : Nat} {W1 : gz_V} (k : gW X 2 tw_S tw_R ad W1 0 0 181 [(0, .ref (ad (1, 0, 0)))] []) : ∀ (n : Nat) {V : gz_V} {v1 : Int32}, m_keepsTold_L154 N n V v1 = some W1 → gW X 2 tw_S tw_R ad V 0 0 154 [(0, .ref (ad (1, 0, 0))), (1, .int v1)] [] := by
  intro n
  induction n with
  | zero => intro V v1 h; rw [m_keepsTold_L154] at h; cases h
  | succ n ih =>
    intro V v1 h
    rw [m_keepsTold_L154] at h
    refine gz_iload_n (q := 1) hX dX6_keepsTold_154 rfl rfl ?_
    refine gz_iconst (v := 5) hX dX6_keepsTold_155 gk_c_5 ?_
    refine gz_icmp_ge (tgt := 181) hX dX6_keepsTold_156 (by decide) (fun c9 => ?_) (fun c9 => ?_)
    · have h := gz_ifp c9 h
      obtain rfl := gz_in1 h
      exact gz_lv [0] rfl k
    · have h := gz_ifn c9 h
      refine gz_aload_n (q := 0) hX dX6_keepsTold_159 rfl rfl ?_
      refine tg_weights hX dX6_keepsTold_160 ?_
      refine gz_iload_n (q := 1) hX dX6_keepsTold_163 rfl rfl ?_
      refine gz_aload_n (q := 0) hX dX6_keepsTold_164 rfl rfl ?_
      refine gz_aload_n (q := 0) hX dX6_keepsTold_165 rfl rfl ?_
      refine tg_weights hX dX6_keepsTold_166 ?_
      refine gz_iload_n (q := 1) hX dX6_keepsTold_169 rfl rfl ?_
      obtain ⟨b10, h⟩ := gz_gd_o h
      refine gz_iald (L := 5) hX tw_S58 (gz_inb_o b10) dX6_keepsTold_170 ?_
      obtain ⟨V13, r11, e12, h⟩ := gz_b2_o h
      refine tc_V (As := [.int (V (2, 58, 0) v1.toNatClampNeg)]) hX (c_keeps e12) (lw_keeps_ q2188) rfl rfl nn_keeps ⟨Nat.le_of_ble_eq_true rfl, Nat.le_of_ble_eq_true rfl⟩ rfl rfl (Nat.le_of_ble_eq_true rfl) dX6_keepsTold_171 rfl ?_
      obtain ⟨b14, h⟩ := gz_gd_o h
      obtain ⟨V15, e16, h⟩ := gz_let_o h
      refine gz_iast (L := 5) hX tw_S58 (by decide) (gz_inb_o b14) dX6_keepsTold_174 e16 ?_
      refine gz_iinc (q := 1) (lv2 := [(1, .int (v1 + 1)), (0, .ref (ad (1, 0, 0)))]) hX dX6_keepsTold_175 rfl gk_c_1 (by decide) rfl ?_
      refine gz_goto (tgt := 154) hX dX6_keepsTold_178 (by decide) ?_
      exact gz_lv [1, 0] rfl (ih h)
noncomputable def m_keepsTold_L183 (N : Nat) : Nat → gz_V → Int32 → Option (gz_V)
  | 0, _, _ => none
  | n + 1, V, v1 => (if 7 ≤ v1 then some V else gz_gd (gz_inb v1 7 = true) (gz_b2 (m_keeps V (V (2, 60, 0) v1.toNatClampNeg)) (fun V15 r13 => gz_gd (gz_inb v1 7 = true) (gz_let (gz_up V15 (2, 60, 0) v1.toNatClampNeg r13) (fun V17 => m_keepsTold_L183 N n V17 (v1 + 1))))))
theorem w_m_keepsTold_L183 {X : gz_X} {ad : gz_A0} (hX : gz_ok X cX6_keepsTold RX6 "keepsTold" 2 rm_keepsTold none) (hZ : gz_Z X) {N : Nat} {W1 : gz_V} (k : gW X 2 tw_S tw_R ad W1 0 0 211 [(0, .ref (ad (1, 0, 0)))] []) : ∀ (n : Nat) {V : gz_V} {v1 : Int32}, m_keepsTold_L183 N n V v1 = some W1 → gW X 2 tw_S tw_R ad V 0 0 183 [(0, .ref (ad (1, 0, 0))), (1, .int v1)] [] := by
  intro n
  induction n with
  | zero => intro V v1 h; rw [m_keepsTold_L183] at h; cases h
  | succ n ih =>
    intro V v1 h
    rw [m_keepsTold_L183] at h
    refine gz_iload_n (q := 1) hX dX6_keepsTold_183 rfl rfl ?_
    refine gz_bipush (v := 7) hX dX6_keepsTold_184 gk_b_7 ?_
    refine gz_icmp_ge (tgt := 211) hX dX6_keepsTold_186 (by decide) (fun c11 => ?_) (fun c11 => ?_)
    · have h := gz_ifp c11 h
      obtain rfl := gz_in1 h
      exact gz_lv [0] rfl k
    · have h := gz_ifn c11 h
      refine gz_aload_n (q := 0) hX dX6_keepsTold_189 rfl rfl ?_
      refine tg_herds hX dX6_keepsTold_190 ?_
      refine gz_iload_n (q := 1) hX dX6_keepsTold_193 rfl rfl ?_
      refine gz_aload_n (q := 0) hX dX6_keepsTold_194 rfl rfl ?_
      refine gz_aload_n (q := 0) hX dX6_keepsTold_195 rfl rfl ?_
      refine tg_herds hX dX6_keepsTold_196 ?_
      refine gz_iload_n (q := 1) hX dX6_keepsTold_199 rfl rfl ?_
      obtain ⟨b12, h⟩ := gz_gd_o h
      refine gz_iald (L := 7) hX tw_S60 (gz_inb_o b12) dX6_keepsTold_200 ?_
      obtain ⟨V15, r13, e14, h⟩ := gz_b2_o h
      refine tc_V (As := [.int (V (2, 60, 0) v1.toNatClampNeg)]) hX (c_keeps e14) (lw_keeps_ q2188) rfl rfl nn_keeps ⟨Nat.le_of_ble_eq_true rfl, Nat.le_of_ble_eq_true rfl⟩ rfl rfl (Nat.le_of_ble_eq_true rfl) dX6_keepsTold_201 rfl ?_
      obtain ⟨b16, h⟩ := gz_gd_o h
      obtain ⟨V17, e18, h⟩ := gz_let_o h
      refine gz_iast (L := 7) hX tw_S60 (by decide) (gz_inb_o b16) dX6_keepsTold_204 e18 ?_
      refine gz_iinc (q := 1) (lv2 := [(1, .int (v1 + 1)), (0, .ref (ad (1, 0, 0)))]) hX dX6_keepsTold_205 rfl gk_c_1 (by decide) rfl ?_
      refine gz_goto (tgt := 183) hX dX6_keepsTold_208 (by decide) ?_
      exact gz_lv [1, 0] rfl (ih h)
noncomputable def m_keepsTold_L213 (N : Nat) : Nat → gz_V → Int32 → Option (gz_V)
  | 0, _, _ => none
  | n + 1, V, v1 => (if 6 ≤ v1 then some V else gz_gd (gz_inb v1 6 = true) (gz_b2 (m_keeps V (V (2, 63, 0) v1.toNatClampNeg)) (fun V17 r15 => gz_gd (gz_inb v1 6 = true) (gz_let (gz_up V17 (2, 63, 0) v1.toNatClampNeg r15) (fun V19 => m_keepsTold_L213 N n V19 (v1 + 1))))))
theorem w_m_keepsTold_L213 {X : gz_X} {ad : gz_A0} (hX : gz_ok X cX6_keepsTold RX6 "keepsTold" 2 rm_keepsTold none) (hZ : gz_Z X) {N : Nat} {W1 : gz_V} (k : gW X 2 tw_S tw_R ad W1 0 0 241 [(0, .ref (ad (1, 0, 0)))] []) : ∀ (n : Nat) {V : gz_V} {v1 : Int32}, m_keepsTold_L213 N n V v1 = some W1 → gW X 2 tw_S tw_R ad V 0 0 213 [(0, .ref (ad (1, 0, 0))), (1, .int v1)] [] := by
  intro n
  induction n with
  | zero => intro V v1 h; rw [m_keepsTold_L213] at h; cases h
  | succ n ih =>
    intro V v1 h
    rw [m_keepsTold_L213] at h
    refine gz_iload_n (q := 1) hX dX6_keepsTold_213 rfl rfl ?_
    refine gz_bipush (v := 6) hX dX6_keepsTold_214 gk_b_6 ?_
    refine gz_icmp_ge (tgt := 241) hX dX6_keepsTold_216 (by decide) (fun c13 => ?_) (fun c13 => ?_)
    · have h := gz_ifp c13 h
      obtain rfl := gz_in1 h
      exact gz_lv [0] rfl k
    · have h := gz_ifn c13 h
      refine gz_aload_n (q := 0) hX dX6_keepsTold_219 rfl rfl ?_
      refine tg_handRows hX dX6_keepsTold_220 ?_
      refine gz_iload_n (q := 1) hX dX6_keepsTold_223 rfl rfl ?_
      refine gz_aload_n (q := 0) hX dX6_keepsTold_224 rfl rfl ?_
      refine gz_aload_n (q := 0) hX dX6_keepsTold_225 rfl rfl ?_
      refine tg_handRows hX dX6_keepsTold_226 ?_
      refine gz_iload_n (q := 1) hX dX6_keepsTold_229 rfl rfl ?_
      obtain ⟨b14, h⟩ := gz_gd_o h
      refine gz_iald (L := 6) hX tw_S63 (gz_inb_o b14) dX6_keepsTold_230 ?_
      obtain ⟨V17, r15, e16, h⟩ := gz_b2_o h
      refine tc_V (As := [.int (V (2, 63, 0) v1.toNatClampNeg)]) hX (c_keeps e16) (lw_keeps_ q2188) rfl rfl nn_keeps ⟨Nat.le_of_ble_eq_true rfl, Nat.le_of_ble_eq_true rfl⟩ rfl rfl (Nat.le_of_ble_eq_true rfl) dX6_keepsTold_231 rfl ?_
      obtain ⟨b18, h⟩ := gz_gd_o h
      obtain ⟨V19, e20, h⟩ := gz_let_o h
      refine gz_iast (L := 6) hX tw_S63 (by decide) (gz_inb_o b18) dX6_keepsTold_234 e20 ?_
      refine gz_iinc (q := 1) (lv2 := [(1, .int (v1 + 1)), (0, .ref (ad (1, 0, 0)))]) hX dX6_keepsTold_235 rfl gk_c_1 (by decide) rfl ?_
      refine gz_goto (tgt := 213) hX dX6_keepsTold_238 (by decide) ?_
      exact gz_lv [1, 0] rfl (ih h)
noncomputable def m_keepsTold_L243 (N : Nat) : Nat → gz_V → Int32 → Option (gz_V)
  | 0, _, _ => none
  | n + 1, V, v1 => (if 80 ≤ v1 then some V else gz_gd (gz_inb v1 160 = true) (gz_b2 (m_keeps V (V (2, 35, 0) v1.toNatClampNeg)) (fun V19 r17 => gz_gd (gz_inb v1 160 = true) (gz_let (gz_up V19 (2, 35, 0) v1.toNatClampNeg r17) (fun V21 => m_keepsTold_L243 N n V21 (v1 + 1))))))
theorem w_m_keepsTold_L243 {X : gz_X} {ad : gz_A0} (hX : gz_ok X cX6_keepsTold RX6 "keepsTold" 2 rm_keepsTold none) (hZ : gz_Z X) {N : Nat} {W1 : gz_V} (k : gW X 2 tw_S tw_R ad W1 0 0 271 [(0, .ref (ad (1, 0, 0)))] []) : ∀ (n : Nat) {V : gz_V} {v1 : Int32}, m_keepsTold_L243 N n V v1 = some W1 → gW X 2 tw_S tw_R ad V 0 0 243 [(0, .ref (ad (1, 0, 0))), (1, .int v1)] [] := by
  intro n
  induction n with
  | zero => intro V v1 h; rw [m_keepsTold_L243] at h; cases h
  | succ n ih =>
    intro V v1 h
    rw [m_keepsTold_L243] at h
    refine gz_iload_n (q := 1) hX dX6_keepsTold_243 rfl rfl ?_
    refine gz_bipush (v := 80) hX dX6_keepsTold_244 gk_b_80 ?_
    refine gz_icmp_ge (tgt := 271) hX dX6_keepsTold_246 (by decide) (fun c15 => ?_) (fun c15 => ?_)
    · have h := gz_ifp c15 h
      obtain rfl := gz_in1 h
      exact gz_lv [0] rfl k
    · have h := gz_ifn c15 h
      refine gz_aload_n (q := 0) hX dX6_keepsTold_249 rfl rfl ?_
      refine tg_offers hX dX6_keepsTold_250 ?_
      refine gz_iload_n (q := 1) hX dX6_keepsTold_253 rfl rfl ?_
      refine gz_aload_n (q := 0) hX dX6_keepsTold_254 rfl rfl ?_
      refine gz_aload_n (q := 0) hX dX6_keepsTold_255 rfl rfl ?_
      refine tg_offers hX dX6_keepsTold_256 ?_
      refine gz_iload_n (q := 1) hX dX6_keepsTold_259 rfl rfl ?_
      obtain ⟨b16, h⟩ := gz_gd_o h
      refine gz_iald (L := 160) hX tw_S35 (gz_inb_o b16) dX6_keepsTold_260 ?_
      obtain ⟨V19, r17, e18, h⟩ := gz_b2_o h
      refine tc_V (As := [.int (V (2, 35, 0) v1.toNatClampNeg)]) hX (c_keeps e18) (lw_keeps_ q2188) rfl rfl nn_keeps ⟨Nat.le_of_ble_eq_true rfl, Nat.le_of_ble_eq_true rfl⟩ rfl rfl (Nat.le_of_ble_eq_true rfl) dX6_keepsTold_261 rfl ?_
      obtain ⟨b20, h⟩ := gz_gd_o h
      obtain ⟨V21, e22, h⟩ := gz_let_o h
      refine gz_iast (L := 160) hX tw_S35 (by decide) (gz_inb_o b20) dX6_keepsTold_264 e22 ?_
      refine gz_iinc (q := 1) (lv2 := [(1, .int (v1 + 1)), (0, .ref (ad (1, 0, 0)))]) hX dX6_keepsTold_265 rfl gk_c_1 (by decide) rfl ?_
      refine gz_goto (tgt := 243) hX dX6_keepsTold_268 (by decide) ?_
      exact gz_lv [1, 0] rfl (ih h)
noncomputable def m_keepsTold_L273 (N : Nat) : Nat → gz_V → Int32 → Option (gz_V)
  | 0, _, _ => none
  | n + 1, V, v1 => (if 80 ≤ v1 then some V else gz_gd (gz_inb v1 160 = true) (gz_b2 (m_keeps V (V (2, 37, 0) v1.toNatClampNeg)) (fun V21 r19 => gz_gd (gz_inb v1 160 = true) (gz_let (gz_up V21 (2, 37, 0) v1.toNatClampNeg r19) (fun V23 => m_keepsTold_L273 N n V23 (v1 + 1))))))
theorem w_m_keepsTold_L273 {X : gz_X} {ad : gz_A0} (hX : gz_ok X cX6_keepsTold RX6 "keepsTold" 2 rm_keepsTold none) (hZ : gz_Z X) {N : Nat} {W1 : gz_V} (k : gW X 2 tw_S tw_R ad W1 0 0 301 [] []) : ∀ (n : Nat) {V : gz_V} {v1 : Int32}, m_keepsTold_L273 N n V v1 = some W1 → gW X 2 tw_S tw_R ad V 0 0 273 [(0, .ref (ad (1, 0, 0))), (1, .int v1)] [] := by
  intro n
  induction n with
  | zero => intro V v1 h; rw [m_keepsTold_L273] at h; cases h
  | succ n ih =>
    intro V v1 h
    rw [m_keepsTold_L273] at h
    refine gz_iload_n (q := 1) hX dX6_keepsTold_273 rfl rfl ?_
    refine gz_bipush (v := 80) hX dX6_keepsTold_274 gk_b_80 ?_
    refine gz_icmp_ge (tgt := 301) hX dX6_keepsTold_276 (by decide) (fun c17 => ?_) (fun c17 => ?_)
    · have h := gz_ifp c17 h
      obtain rfl := gz_in1 h
      exact gz_lv [] rfl k
    · have h := gz_ifn c17 h
      refine gz_aload_n (q := 0) hX dX6_keepsTold_279 rfl rfl ?_
      refine tg_deeds hX dX6_keepsTold_280 ?_
      refine gz_iload_n (q := 1) hX dX6_keepsTold_283 rfl rfl ?_
      refine gz_aload_n (q := 0) hX dX6_keepsTold_284 rfl rfl ?_
      refine gz_aload_n (q := 0) hX dX6_keepsTold_285 rfl rfl ?_
      refine tg_deeds hX dX6_keepsTold_286 ?_
      refine gz_iload_n (q := 1) hX dX6_keepsTold_289 rfl rfl ?_
      obtain ⟨b18, h⟩ := gz_gd_o h
      refine gz_iald (L := 160) hX tw_S37 (gz_inb_o b18) dX6_keepsTold_290 ?_
      obtain ⟨V21, r19, e20, h⟩ := gz_b2_o h
      refine tc_V (As := [.int (V (2, 37, 0) v1.toNatClampNeg)]) hX (c_keeps e20) (lw_keeps_ q2188) rfl rfl nn_keeps ⟨Nat.le_of_ble_eq_true rfl, Nat.le_of_ble_eq_true rfl⟩ rfl rfl (Nat.le_of_ble_eq_true rfl) dX6_keepsTold_291 rfl ?_
      obtain ⟨b22, h⟩ := gz_gd_o h
      obtain ⟨V23, e24, h⟩ := gz_let_o h
      refine gz_iast (L := 160) hX tw_S37 (by decide) (gz_inb_o b22) dX6_keepsTold_294 e24 ?_
      refine gz_iinc (q := 1) (lv2 := [(1, .int (v1 + 1)), (0, .ref (ad (1, 0, 0)))]) hX dX6_keepsTold_295 rfl gk_c_1 (by decide) rfl ?_
      refine gz_goto (tgt := 273) hX dX6_keepsTold_298 (by decide) ?_
      exact gz_lv [1, 0] rfl (ih h)
noncomputable def m_keepsTold (N : Nat) (V : gz_V) : Option gz_V := gz_bd (m_keepsTold_L2 N N V 0) (fun V1 => gz_bd (m_keepsTold_L48 N N V1 0) (fun V3 => gz_bd (m_keepsTold_L78 N N V3 0) (fun V5 => gz_bd (m_keepsTold_L124 N N V5 0) (fun V7 => gz_bd (m_keepsTold_L154 N N V7 0) (fun V9 => gz_bd (m_keepsTold_L183 N N V9 0) (fun V11 => gz_bd (m_keepsTold_L213 N N V11 0) (fun V13 => gz_bd (m_keepsTold_L243 N N V13 0) (fun V15 => gz_bd (m_keepsTold_L273 N N V15 0) (fun V17 => some V17)))))))))
theorem c_keepsTold {l : Launch} {D : va_G} {aC : Nat → ClassId} {ad : gz_A0} {N : Nat} {V : gz_V} {W1 : gz_V} (h : m_keepsTold N V = some W1) : gz_Met l yX6_keepsTold cX6_keepsTold 2 none rm_keepsTold D aC ad tw_S V tw_R [.ref (ad (1, 0, 0))] (gz_F1 tw_S tw_R ad W1 none) 0 0 := by
  refine gt_ofW (own := RX6) (mn := "keepsTold") (lv := [(0, .ref (ad (1, 0, 0)))]) (by decide) rfl rfl (Nat.le_of_ble_eq_true rfl) rfl ?_
  intro X hX hZ hF
  rw [m_keepsTold] at h
  refine gz_iconst (v := 0) hX dX6_keepsTold_0 gk_c_0 ?_
  refine gz_istore_n (lv2 := [(1, .int 0), (0, .ref (ad (1, 0, 0)))]) hX dX6_keepsTold_1 rfl (by decide) rfl ?_
  obtain ⟨V1, e2, h⟩ := gz_bd_o h
  refine gz_lv [1, 0] rfl (w_m_keepsTold_L2 hX hZ ?_ N e2)
  refine gz_iconst (v := 0) hX dX6_keepsTold_46 gk_c_0 ?_
  refine gz_istore_n (lv2 := [(1, .int 0), (0, .ref (ad (1, 0, 0)))]) hX dX6_keepsTold_47 rfl (by decide) rfl ?_
  obtain ⟨V3, e4, h⟩ := gz_bd_o h
  refine gz_lv [1, 0] rfl (w_m_keepsTold_L48 hX hZ ?_ N e4)
  refine gz_iconst (v := 0) hX dX6_keepsTold_76 gk_c_0 ?_
  refine gz_istore_n (lv2 := [(1, .int 0), (0, .ref (ad (1, 0, 0)))]) hX dX6_keepsTold_77 rfl (by decide) rfl ?_
  obtain ⟨V5, e6, h⟩ := gz_bd_o h
  refine gz_lv [1, 0] rfl (w_m_keepsTold_L78 hX hZ ?_ N e6)
  refine gz_iconst (v := 0) hX dX6_keepsTold_122 gk_c_0 ?_
  refine gz_istore_n (lv2 := [(1, .int 0), (0, .ref (ad (1, 0, 0)))]) hX dX6_keepsTold_123 rfl (by decide) rfl ?_
  obtain ⟨V7, e8, h⟩ := gz_bd_o h
  refine gz_lv [1, 0] rfl (w_m_keepsTold_L124 hX hZ ?_ N e8)
  refine gz_iconst (v := 0) hX dX6_keepsTold_152 gk_c_0 ?_
  refine gz_istore_n (lv2 := [(1, .int 0), (0, .ref (ad (1, 0, 0)))]) hX dX6_keepsTold_153 rfl (by decide) rfl ?_
  obtain ⟨V9, e10, h⟩ := gz_bd_o h
  refine gz_lv [1, 0] rfl (w_m_keepsTold_L154 hX hZ ?_ N e10)
  refine gz_iconst (v := 0) hX dX6_keepsTold_181 gk_c_0 ?_
  refine gz_istore_n (lv2 := [(1, .int 0), (0, .ref (ad (1, 0, 0)))]) hX dX6_keepsTold_182 rfl (by decide) rfl ?_
  obtain ⟨V11, e12, h⟩ := gz_bd_o h
  refine gz_lv [1, 0] rfl (w_m_keepsTold_L183 hX hZ ?_ N e12)
  refine gz_iconst (v := 0) hX dX6_keepsTold_211 gk_c_0 ?_
  refine gz_istore_n (lv2 := [(1, .int 0), (0, .ref (ad (1, 0, 0)))]) hX dX6_keepsTold_212 rfl (by decide) rfl ?_
  obtain ⟨V13, e14, h⟩ := gz_bd_o h
  refine gz_lv [1, 0] rfl (w_m_keepsTold_L213 hX hZ ?_ N e14)
  refine gz_iconst (v := 0) hX dX6_keepsTold_241 gk_c_0 ?_
  refine gz_istore_n (lv2 := [(1, .int 0), (0, .ref (ad (1, 0, 0)))]) hX dX6_keepsTold_242 rfl (by decide) rfl ?_
  obtain ⟨V15, e16, h⟩ := gz_bd_o h
  refine gz_lv [1, 0] rfl (w_m_keepsTold_L243 hX hZ ?_ N e16)
  refine gz_iconst (v := 0) hX dX6_keepsTold_271 gk_c_0 ?_
  refine gz_istore_n (lv2 := [(1, .int 0), (0, .ref (ad (1, 0, 0)))]) hX dX6_keepsTold_272 rfl (by decide) rfl ?_
  obtain ⟨V17, e18, h⟩ := gz_bd_o h
  refine gz_lv [1, 0] rfl (w_m_keepsTold_L273 hX hZ ?_ N e18)
  exact gt_vret hX hZ hF (gz_in1 h) dX6_keepsTold_301
theorem lw_keepsTold_ {i : Nat} (hl : Cond.methodLink RX6 i yX6_keepsTold ∈ lw_all) : GoodIn lw_all (wsV RX6 i RX6 yX6_keepsTold (ws_ yX6_keepsTold cX6_keepsTold 2 none)) := lw_V hl q2198 qs141 q153 q2199
theorem nn_keepsTold : yX6_keepsTold.cls = RX6 ∧ yX6_keepsTold.cls ≠ "java/lang/invoke/MethodHandle" ∧ yX6_keepsTold.cls ≠ "java/lang/invoke/VarHandle" ∧ (parseMethodDescriptor yX6_keepsTold.desc).map (fun d => d.parameters.length) = some 0 := by decide +kernel
def rm_keepsLaw : Room := { frames := 1, cells := 0, slots := 0, locals := 21 }
noncomputable def m_keepsLaw_L18 (N : Nat) : Nat → gz_V → Int32 → Option (gz_V)
  | 0, _, _ => none
  | n + 1, V, v1 => (if 16 ≤ v1 then some V else gz_gd (gz_inb v1 48 = true) (gz_b2 (m_keeps V (V (2, 19, 0) v1.toNatClampNeg)) (fun V10 r8 => gz_gd (gz_inb v1 48 = true) (gz_let (gz_up V10 (2, 19, 0) v1.toNatClampNeg r8) (fun V12 => gz_gd (gz_inb v1 48 = true) (gz_b2 (m_keeps V12 (V12 (2, 20, 0) v1.toNatClampNeg)) (fun V17 r15 => gz_gd (gz_inb v1 48 = true) (gz_let (gz_up V17 (2, 20, 0) v1.toNatClampNeg r15) (fun V19 => gz_gd (gz_inb v1 48 = true) (gz_b2 (m_keeps V19 (V19 (2, 21, 0) v1.toNatClampNeg)) (fun V24 r22 => gz_gd (gz_inb v1 48 = true) (gz_let (gz_up V24 (2, 21, 0) v1.toNatClampNeg r22) (fun V26 => gz_gd (gz_inb v1 48 = true) (gz_b2 (m_keeps V26 (V26 (2, 22, 0) v1.toNatClampNeg)) (fun V31 r29 => gz_gd (gz_inb v1 48 = true) (gz_let (gz_up V31 (2, 22, 0) v1.toNatClampNeg r29) (fun V33 => m_keepsLaw_L18 N n V33 (v1 + 1))))))))))))))))))
theorem w_m_keepsLaw_L18 {X : gz_X} {ad : gz_A0} (hX : gz_ok X cX6_keepsLaw RX6 "keepsLaw" 2 rm_keepsLaw none) (hZ : gz_Z X) {N : Nat} {W1 : gz_V} (k : gW X 2 tw_S tw_R ad W1 0 0 94 [(0, .ref (ad (1, 0, 0)))] []) : ∀ (n : Nat) {V : gz_V} {v1 : Int32}, m_keepsLaw_L18 N n V v1 = some W1 → gW X 2 tw_S tw_R ad V 0 0 18 [(0, .ref (ad (1, 0, 0))), (1, .int v1)] [] := by
  intro n
  induction n with
  | zero => intro V v1 h; rw [m_keepsLaw_L18] at h; cases h
  | succ n ih =>
    intro V v1 h
    rw [m_keepsLaw_L18] at h
    refine gz_iload_n (q := 1) hX dX6_keepsLaw_18 rfl rfl ?_
    refine gz_bipush (v := 16) hX dX6_keepsLaw_19 gk_b_16 ?_
    refine gz_icmp_ge (tgt := 94) hX dX6_keepsLaw_21 (by decide) (fun c6 => ?_) (fun c6 => ?_)
    · have h := gz_ifp c6 h
      obtain rfl := gz_in1 h
      exact gz_lv [0] rfl k
    · have h := gz_ifn c6 h
      refine gz_aload_n (q := 0) hX dX6_keepsLaw_24 rfl rfl ?_
      refine tg_lineWord hX dX6_keepsLaw_25 ?_
      refine gz_iload_n (q := 1) hX dX6_keepsLaw_28 rfl rfl ?_
      refine gz_aload_n (q := 0) hX dX6_keepsLaw_29 rfl rfl ?_
      refine gz_aload_n (q := 0) hX dX6_keepsLaw_30 rfl rfl ?_
      refine tg_lineWord hX dX6_keepsLaw_31 ?_
      refine gz_iload_n (q := 1) hX dX6_keepsLaw_34 rfl rfl ?_
      obtain ⟨b7, h⟩ := gz_gd_o h
      refine gz_iald (L := 48) hX tw_S19 (gz_inb_o b7) dX6_keepsLaw_35 ?_
      obtain ⟨V10, r8, e9, h⟩ := gz_b2_o h
      refine tc_V (As := [.int (V (2, 19, 0) v1.toNatClampNeg)]) hX (c_keeps e9) (lw_keeps_ q2188) rfl rfl nn_keeps ⟨Nat.le_of_ble_eq_true rfl, Nat.le_of_ble_eq_true rfl⟩ rfl rfl (Nat.le_of_ble_eq_true rfl) dX6_keepsLaw_36 rfl ?_
      obtain ⟨b11, h⟩ := gz_gd_o h
      obtain ⟨V12, e13, h⟩ := gz_let_o h
      refine gz_iast (L := 48) hX tw_S19 (by decide) (gz_inb_o b11) dX6_keepsLaw_39 e13 ?_
      refine gz_aload_n (q := 0) hX dX6_keepsLaw_40 rfl rfl ?_
      refine tg_lineFrom hX dX6_keepsLaw_41 ?_
      refine gz_iload_n (q := 1) hX dX6_keepsLaw_44 rfl rfl ?_
      refine gz_aload_n (q := 0) hX dX6_keepsLaw_45 rfl rfl ?_
      refine gz_aload_n (q := 0) hX dX6_keepsLaw_46 rfl rfl ?_
      refine tg_lineFrom hX dX6_keepsLaw_47 ?_
      refine gz_iload_n (q := 1) hX dX6_keepsLaw_50 rfl rfl ?_
      obtain ⟨b14, h⟩ := gz_gd_o h
      refine gz_iald (L := 48) hX tw_S20 (gz_inb_o b14) dX6_keepsLaw_51 ?_
      obtain ⟨V17, r15, e16, h⟩ := gz_b2_o h
      refine tc_V (As := [.int (V12 (2, 20, 0) v1.toNatClampNeg)]) hX (c_keeps e16) (lw_keeps_ q2188) rfl rfl nn_keeps ⟨Nat.le_of_ble_eq_true rfl, Nat.le_of_ble_eq_true rfl⟩ rfl rfl (Nat.le_of_ble_eq_true rfl) dX6_keepsLaw_52 rfl ?_
      obtain ⟨b18, h⟩ := gz_gd_o h
      obtain ⟨V19, e20, h⟩ := gz_let_o h
      refine gz_iast (L := 48) hX tw_S20 (by decide) (gz_inb_o b18) dX6_keepsLaw_55 e20 ?_
      refine gz_aload_n (q := 0) hX dX6_keepsLaw_56 rfl rfl ?_
      refine tg_lineWhen hX dX6_keepsLaw_57 ?_
      refine gz_iload_n (q := 1) hX dX6_keepsLaw_60 rfl rfl ?_
      refine gz_aload_n (q := 0) hX dX6_keepsLaw_61 rfl rfl ?_
      refine gz_aload_n (q := 0) hX dX6_keepsLaw_62 rfl rfl ?_
      refine tg_lineWhen hX dX6_keepsLaw_63 ?_
      refine gz_iload_n (q := 1) hX dX6_keepsLaw_66 rfl rfl ?_
      obtain ⟨b21, h⟩ := gz_gd_o h
      refine gz_iald (L := 48) hX tw_S21 (gz_inb_o b21) dX6_keepsLaw_67 ?_
      obtain ⟨V24, r22, e23, h⟩ := gz_b2_o h
      refine tc_V (As := [.int (V19 (2, 21, 0) v1.toNatClampNeg)]) hX (c_keeps e23) (lw_keeps_ q2188) rfl rfl nn_keeps ⟨Nat.le_of_ble_eq_true rfl, Nat.le_of_ble_eq_true rfl⟩ rfl rfl (Nat.le_of_ble_eq_true rfl) dX6_keepsLaw_68 rfl ?_
      obtain ⟨b25, h⟩ := gz_gd_o h
      obtain ⟨V26, e27, h⟩ := gz_let_o h
      refine gz_iast (L := 48) hX tw_S21 (by decide) (gz_inb_o b25) dX6_keepsLaw_71 e27 ?_
      refine gz_aload_n (q := 0) hX dX6_keepsLaw_72 rfl rfl ?_
      refine tg_lineTo hX dX6_keepsLaw_73 ?_
      refine gz_iload_n (q := 1) hX dX6_keepsLaw_76 rfl rfl ?_
      refine gz_aload_n (q := 0) hX dX6_keepsLaw_77 rfl rfl ?_
      refine gz_aload_n (q := 0) hX dX6_keepsLaw_78 rfl rfl ?_
      refine tg_lineTo hX dX6_keepsLaw_79 ?_
      refine gz_iload_n (q := 1) hX dX6_keepsLaw_82 rfl rfl ?_
      obtain ⟨b28, h⟩ := gz_gd_o h
      refine gz_iald (L := 48) hX tw_S22 (gz_inb_o b28) dX6_keepsLaw_83 ?_
      obtain ⟨V31, r29, e30, h⟩ := gz_b2_o h
      refine tc_V (As := [.int (V26 (2, 22, 0) v1.toNatClampNeg)]) hX (c_keeps e30) (lw_keeps_ q2188) rfl rfl nn_keeps ⟨Nat.le_of_ble_eq_true rfl, Nat.le_of_ble_eq_true rfl⟩ rfl rfl (Nat.le_of_ble_eq_true rfl) dX6_keepsLaw_84 rfl ?_
      obtain ⟨b32, h⟩ := gz_gd_o h
      obtain ⟨V33, e34, h⟩ := gz_let_o h
      refine gz_iast (L := 48) hX tw_S22 (by decide) (gz_inb_o b32) dX6_keepsLaw_87 e34 ?_
      refine gz_iinc (q := 1) (lv2 := [(1, .int (v1 + 1)), (0, .ref (ad (1, 0, 0)))]) hX dX6_keepsLaw_88 rfl gk_c_1 (by decide) rfl ?_
      refine gz_goto (tgt := 18) hX dX6_keepsLaw_91 (by decide) ?_
      exact gz_lv [1, 0] rfl (ih h)
noncomputable def m_keepsLaw_L96 (N : Nat) : Nat → gz_V → Int32 → Option (gz_V)
  | 0, _, _ => none
  | n + 1, V, v1 => (if 400 ≤ v1 then some V else gz_gd (gz_inb v1 1200 = true) (gz_b2 (m_keeps V (V (2, 23, 0) v1.toNatClampNeg)) (fun V12 r10 => gz_gd (gz_inb v1 1200 = true) (gz_let (gz_up V12 (2, 23, 0) v1.toNatClampNeg r10) (fun V14 => gz_gd (gz_inb v1 1200 = true) (gz_b2 (m_keeps V14 (V14 (2, 24, 0) v1.toNatClampNeg)) (fun V19 r17 => gz_gd (gz_inb v1 1200 = true) (gz_let (gz_up V19 (2, 24, 0) v1.toNatClampNeg r17) (fun V21 => m_keepsLaw_L96 N n V21 (v1 + 1))))))))))
theorem w_m_keepsLaw_L96 {X : gz_X} {ad : gz_A0} (hX : gz_ok X cX6_keepsLaw RX6 "keepsLaw" 2 rm_keepsLaw none) (hZ : gz_Z X) {N : Nat} {W1 : gz_V} (k : gW X 2 tw_S tw_R ad W1 0 0 141 [] []) : ∀ (n : Nat) {V : gz_V} {v1 : Int32}, m_keepsLaw_L96 N n V v1 = some W1 → gW X 2 tw_S tw_R ad V 0 0 96 [(0, .ref (ad (1, 0, 0))), (1, .int v1)] [] := by
  intro n
  induction n with
  | zero => intro V v1 h; rw [m_keepsLaw_L96] at h; cases h
  | succ n ih =>
    intro V v1 h
    rw [m_keepsLaw_L96] at h
    refine gz_iload_n (q := 1) hX dX6_keepsLaw_96 rfl rfl ?_
    refine gz_sipush (v := 400) hX dX6_keepsLaw_97 gk_s_400 ?_
    refine gz_icmp_ge (tgt := 141) hX dX6_keepsLaw_100 (by decide) (fun c8 => ?_) (fun c8 => ?_)
    · have h := gz_ifp c8 h
      obtain rfl := gz_in1 h
      exact gz_lv [] rfl k
    · have h := gz_ifn c8 h
      refine gz_aload_n (q := 0) hX dX6_keepsLaw_103 rfl rfl ?_
      refine tg_op hX dX6_keepsLaw_104 ?_
      refine gz_iload_n (q := 1) hX dX6_keepsLaw_107 rfl rfl ?_
      refine gz_aload_n (q := 0) hX dX6_keepsLaw_108 rfl rfl ?_
      refine gz_aload_n (q := 0) hX dX6_keepsLaw_109 rfl rfl ?_
      refine tg_op hX dX6_keepsLaw_110 ?_
      refine gz_iload_n (q := 1) hX dX6_keepsLaw_113 rfl rfl ?_
      obtain ⟨b9, h⟩ := gz_gd_o h
      refine gz_iald (L := 1200) hX tw_S23 (gz_inb_o b9) dX6_keepsLaw_114 ?_
      obtain ⟨V12, r10, e11, h⟩ := gz_b2_o h
      refine tc_V (As := [.int (V (2, 23, 0) v1.toNatClampNeg)]) hX (c_keeps e11) (lw_keeps_ q2188) rfl rfl nn_keeps ⟨Nat.le_of_ble_eq_true rfl, Nat.le_of_ble_eq_true rfl⟩ rfl rfl (Nat.le_of_ble_eq_true rfl) dX6_keepsLaw_115 rfl ?_
      obtain ⟨b13, h⟩ := gz_gd_o h
      obtain ⟨V14, e15, h⟩ := gz_let_o h
      refine gz_iast (L := 1200) hX tw_S23 (by decide) (gz_inb_o b13) dX6_keepsLaw_118 e15 ?_
      refine gz_aload_n (q := 0) hX dX6_keepsLaw_119 rfl rfl ?_
      refine tg_arg hX dX6_keepsLaw_120 ?_
      refine gz_iload_n (q := 1) hX dX6_keepsLaw_123 rfl rfl ?_
      refine gz_aload_n (q := 0) hX dX6_keepsLaw_124 rfl rfl ?_
      refine gz_aload_n (q := 0) hX dX6_keepsLaw_125 rfl rfl ?_
      refine tg_arg hX dX6_keepsLaw_126 ?_
      refine gz_iload_n (q := 1) hX dX6_keepsLaw_129 rfl rfl ?_
      obtain ⟨b16, h⟩ := gz_gd_o h
      refine gz_iald (L := 1200) hX tw_S24 (gz_inb_o b16) dX6_keepsLaw_130 ?_
      obtain ⟨V19, r17, e18, h⟩ := gz_b2_o h
      refine tc_V (As := [.int (V14 (2, 24, 0) v1.toNatClampNeg)]) hX (c_keeps e18) (lw_keeps_ q2188) rfl rfl nn_keeps ⟨Nat.le_of_ble_eq_true rfl, Nat.le_of_ble_eq_true rfl⟩ rfl rfl (Nat.le_of_ble_eq_true rfl) dX6_keepsLaw_131 rfl ?_
      obtain ⟨b20, h⟩ := gz_gd_o h
      obtain ⟨V21, e22, h⟩ := gz_let_o h
      refine gz_iast (L := 1200) hX tw_S24 (by decide) (gz_inb_o b20) dX6_keepsLaw_134 e22 ?_
      refine gz_iinc (q := 1) (lv2 := [(1, .int (v1 + 1)), (0, .ref (ad (1, 0, 0)))]) hX dX6_keepsLaw_135 rfl gk_c_1 (by decide) rfl ?_
      refine gz_goto (tgt := 96) hX dX6_keepsLaw_138 (by decide) ?_
      exact gz_lv [1, 0] rfl (ih h)
noncomputable def m_keepsLaw (N : Nat) (V : gz_V) : Option gz_V := gz_b2 (m_keeps V (V (2, 18, 0) (0 : Int32).toNatClampNeg)) (fun V3 r1 => gz_let (gz_up V3 (2, 18, 0) (0 : Int32).toNatClampNeg r1) (fun V4 => gz_bd (m_keepsLaw_L18 N N V4 0) (fun V6 => gz_bd (m_keepsLaw_L96 N N V6 0) (fun V8 => some V8))))
theorem c_keepsLaw {l : Launch} {D : va_G} {aC : Nat → ClassId} {ad : gz_A0} {N : Nat} {V : gz_V} {W1 : gz_V} (h : m_keepsLaw N V = some W1) : gz_Met l yX6_keepsLaw cX6_keepsLaw 2 none rm_keepsLaw D aC ad tw_S V tw_R [.ref (ad (1, 0, 0))] (gz_F1 tw_S tw_R ad W1 none) 0 0 := by
  refine gt_ofW (own := RX6) (mn := "keepsLaw") (lv := [(0, .ref (ad (1, 0, 0)))]) (by decide) rfl rfl (Nat.le_of_ble_eq_true rfl) rfl ?_
  intro X hX hZ hF
  rw [m_keepsLaw] at h
  refine gz_aload_n (q := 0) hX dX6_keepsLaw_0 rfl rfl ?_
  refine tg_lineMany hX dX6_keepsLaw_1 ?_
  refine gz_iconst (v := 0) hX dX6_keepsLaw_4 gk_c_0 ?_
  refine gz_aload_n (q := 0) hX dX6_keepsLaw_5 rfl rfl ?_
  refine gz_aload_n (q := 0) hX dX6_keepsLaw_6 rfl rfl ?_
  refine tg_lineMany hX dX6_keepsLaw_7 ?_
  refine gz_iconst (v := 0) hX dX6_keepsLaw_10 gk_c_0 ?_
  refine gz_iald (L := 2) hX tw_S18 (gz_inb_o (by decide)) dX6_keepsLaw_11 ?_
  obtain ⟨V3, r1, e2, h⟩ := gz_b2_o h
  refine tc_V (As := [.int (V (2, 18, 0) (0 : Int32).toNatClampNeg)]) hX (c_keeps e2) (lw_keeps_ q2188) rfl rfl nn_keeps ⟨Nat.le_of_ble_eq_true rfl, Nat.le_of_ble_eq_true rfl⟩ rfl rfl (Nat.le_of_ble_eq_true rfl) dX6_keepsLaw_12 rfl ?_
  obtain ⟨V4, e5, h⟩ := gz_let_o h
  refine gz_iast (L := 2) hX tw_S18 (by decide) (gz_inb_o (by decide)) dX6_keepsLaw_15 e5 ?_
  refine gz_iconst (v := 0) hX dX6_keepsLaw_16 gk_c_0 ?_
  refine gz_istore_n (lv2 := [(1, .int 0), (0, .ref (ad (1, 0, 0)))]) hX dX6_keepsLaw_17 rfl (by decide) rfl ?_
  obtain ⟨V6, e7, h⟩ := gz_bd_o h
  refine gz_lv [1, 0] rfl (w_m_keepsLaw_L18 hX hZ ?_ N e7)
  refine gz_iconst (v := 0) hX dX6_keepsLaw_94 gk_c_0 ?_
  refine gz_istore_n (lv2 := [(1, .int 0), (0, .ref (ad (1, 0, 0)))]) hX dX6_keepsLaw_95 rfl (by decide) rfl ?_
  obtain ⟨V8, e9, h⟩ := gz_bd_o h
  refine gz_lv [1, 0] rfl (w_m_keepsLaw_L96 hX hZ ?_ N e9)
  exact gt_vret hX hZ hF (gz_in1 h) dX6_keepsLaw_141
theorem lw_keepsLaw_ {i : Nat} (hl : Cond.methodLink RX6 i yX6_keepsLaw ∈ lw_all) : GoodIn lw_all (wsV RX6 i RX6 yX6_keepsLaw (ws_ yX6_keepsLaw cX6_keepsLaw 2 none)) := lw_V hl q2202 qs142 q153 q2203
theorem nn_keepsLaw : yX6_keepsLaw.cls = RX6 ∧ yX6_keepsLaw.cls ≠ "java/lang/invoke/MethodHandle" ∧ yX6_keepsLaw.cls ≠ "java/lang/invoke/VarHandle" ∧ (parseMethodDescriptor yX6_keepsLaw.desc).map (fun d => d.parameters.length) = some 0 := by decide +kernel
theorem gk_s_600 : (Int16.ofInt 600).toInt32 = 600 := by decide
def rm_image : Room := { frames := 2, cells := 0, slots := 0, locals := 42 }
noncomputable def m_image_L35 (N : Nat) (v1 : Int32) : Nat → gz_V → Int32 → Option (gz_V)
  | 0, _, _ => none
  | n + 1, V, v2 => (if 121 ≤ v2 then some V else gz_gd (gz_inb v2 121 = true) (gz_b2 (m_keeps V (V (2, 1, 0) v2.toNatClampNeg)) (fun V15 r13 => gz_gd (gz_inb v2 121 = true) (gz_let (gz_up V15 (2, 1, 0) v2.toNatClampNeg r13) (fun V17 => m_image_L35 N v1 n V17 (v2 + 1))))))
theorem w_m_image_L35 {X : gz_X} {ad : gz_A0} (hX : gz_ok X cX6_image RX6 "image" 3 rm_image (some .boolean)) (hZ : gz_Z X) {N : Nat} {v1 : Int32} {W1 : gz_V} (k : gW X 3 tw_S tw_R ad W1 0 0 63 [(0, .ref (ad (1, 0, 0))), (1, .int v1)] []) : ∀ (n : Nat) {V : gz_V} {v2 : Int32}, m_image_L35 N v1 n V v2 = some W1 → gW X 3 tw_S tw_R ad V 0 0 35 [(0, .ref (ad (1, 0, 0))), (1, .int v1), (2, .int v2)] [] := by
  intro n
  induction n with
  | zero => intro V v2 h; rw [m_image_L35] at h; cases h
  | succ n ih =>
    intro V v2 h
    rw [m_image_L35] at h
    refine gz_iload_n (q := 2) hX dX6_image_35 rfl rfl ?_
    refine gz_bipush (v := 121) hX dX6_image_36 gk_b_121 ?_
    refine gz_icmp_ge (tgt := 63) hX dX6_image_38 (by decide) (fun c11 => ?_) (fun c11 => ?_)
    · have h := gz_ifp c11 h
      obtain rfl := gz_in1 h
      exact gz_lv [0, 1] rfl k
    · have h := gz_ifn c11 h
      refine gz_aload_n (q := 0) hX dX6_image_41 rfl rfl ?_
      refine tg_now hX dX6_image_42 ?_
      refine gz_iload_n (q := 2) hX dX6_image_45 rfl rfl ?_
      refine gz_aload_n (q := 0) hX dX6_image_46 rfl rfl ?_
      refine gz_aload_n (q := 0) hX dX6_image_47 rfl rfl ?_
      refine tg_now hX dX6_image_48 ?_
      refine gz_iload_n (q := 2) hX dX6_image_51 rfl rfl ?_
      obtain ⟨b12, h⟩ := gz_gd_o h
      refine gz_iald (L := 121) hX tw_S1 (gz_inb_o b12) dX6_image_52 ?_
      obtain ⟨V15, r13, e14, h⟩ := gz_b2_o h
      refine tc_V (As := [.int (V (2, 1, 0) v2.toNatClampNeg)]) hX (c_keeps e14) (lw_keeps_ q2188) rfl rfl nn_keeps ⟨Nat.le_of_ble_eq_true rfl, Nat.le_of_ble_eq_true rfl⟩ rfl rfl (Nat.le_of_ble_eq_true rfl) dX6_image_53 rfl ?_
      obtain ⟨b16, h⟩ := gz_gd_o h
      obtain ⟨V17, e18, h⟩ := gz_let_o h
      refine gz_iast (L := 121) hX tw_S1 (by decide) (gz_inb_o b16) dX6_image_56 e18 ?_
      refine gz_iinc (q := 2) (lv2 := [(2, .int (v2 + 1)), (0, .ref (ad (1, 0, 0))), (1, .int v1)]) hX dX6_image_57 rfl gk_c_1 (by decide) rfl ?_
      refine gz_goto (tgt := 35) hX dX6_image_60 (by decide) ?_
      exact gz_lv [1, 2, 0] rfl (ih h)
noncomputable def m_image_L73 (N : Nat) (v1 : Int32) : Nat → gz_V → Int32 → Option (gz_V)
  | 0, _, _ => none
  | n + 1, V, v2 => (if 600 ≤ v2 then some V else gz_gd (gz_inb v2 600 = true) (gz_b2 (m_keeps V (V (2, 10, 0) v2.toNatClampNeg)) (fun V21 r19 => gz_gd (gz_inb v2 600 = true) (gz_let (gz_up V21 (2, 10, 0) v2.toNatClampNeg r19) (fun V23 => m_image_L73 N v1 n V23 (v2 + 1))))))
theorem w_m_image_L73 {X : gz_X} {ad : gz_A0} (hX : gz_ok X cX6_image RX6 "image" 3 rm_image (some .boolean)) (hZ : gz_Z X) {N : Nat} {v1 : Int32} {W1 : gz_V} (k : gW X 3 tw_S tw_R ad W1 0 0 102 [(0, .ref (ad (1, 0, 0))), (1, .int v1)] []) : ∀ (n : Nat) {V : gz_V} {v2 : Int32}, m_image_L73 N v1 n V v2 = some W1 → gW X 3 tw_S tw_R ad V 0 0 73 [(0, .ref (ad (1, 0, 0))), (1, .int v1), (2, .int v2)] [] := by
  intro n
  induction n with
  | zero => intro V v2 h; rw [m_image_L73] at h; cases h
  | succ n ih =>
    intro V v2 h
    rw [m_image_L73] at h
    refine gz_iload_n (q := 2) hX dX6_image_73 rfl rfl ?_
    refine gz_sipush (v := 600) hX dX6_image_74 gk_s_600 ?_
    refine gz_icmp_ge (tgt := 102) hX dX6_image_77 (by decide) (fun c17 => ?_) (fun c17 => ?_)
    · have h := gz_ifp c17 h
      obtain rfl := gz_in1 h
      exact gz_lv [0, 1] rfl k
    · have h := gz_ifn c17 h
      refine gz_aload_n (q := 0) hX dX6_image_80 rfl rfl ?_
      refine tg_book hX dX6_image_81 ?_
      refine gz_iload_n (q := 2) hX dX6_image_84 rfl rfl ?_
      refine gz_aload_n (q := 0) hX dX6_image_85 rfl rfl ?_
      refine gz_aload_n (q := 0) hX dX6_image_86 rfl rfl ?_
      refine tg_book hX dX6_image_87 ?_
      refine gz_iload_n (q := 2) hX dX6_image_90 rfl rfl ?_
      obtain ⟨b18, h⟩ := gz_gd_o h
      refine gz_iald (L := 600) hX tw_S10 (gz_inb_o b18) dX6_image_91 ?_
      obtain ⟨V21, r19, e20, h⟩ := gz_b2_o h
      refine tc_V (As := [.int (V (2, 10, 0) v2.toNatClampNeg)]) hX (c_keeps e20) (lw_keeps_ q2188) rfl rfl nn_keeps ⟨Nat.le_of_ble_eq_true rfl, Nat.le_of_ble_eq_true rfl⟩ rfl rfl (Nat.le_of_ble_eq_true rfl) dX6_image_92 rfl ?_
      obtain ⟨b22, h⟩ := gz_gd_o h
      obtain ⟨V23, e24, h⟩ := gz_let_o h
      refine gz_iast (L := 600) hX tw_S10 (by decide) (gz_inb_o b22) dX6_image_95 e24 ?_
      refine gz_iinc (q := 2) (lv2 := [(2, .int (v2 + 1)), (0, .ref (ad (1, 0, 0))), (1, .int v1)]) hX dX6_image_96 rfl gk_c_1 (by decide) rfl ?_
      refine gz_goto (tgt := 73) hX dX6_image_99 (by decide) ?_
      exact gz_lv [1, 2, 0] rfl (ih h)
noncomputable def m_image (N : Nat) (V : gz_V) (a1 : Int32) : Option (gz_V × Int32) := gz_let (gz_up V (1, 0, 0) 0 0) (fun V1 => (if a1 = 0 then (if (V1 (1, 0, 0) 66) = 0 then some (V1, 0) else gz_gd (a1 = 0 ∨ a1 = 1) (gz_let (gz_up V1 (1, 0, 0) 65 a1) (fun V29 => gz_let (gz_up V29 (1, 0, 0) 66 1) (fun V31 => gz_let (gz_up V31 (1, 0, 0) 67 0) (fun V33 => gz_bd (m_image_L35 N a1 N V33 0) (fun V35 => gz_bd (m_keepsMany V35) (fun V38 => gz_bd (m_keepsTold N V38) (fun V40 => gz_bd (m_image_L73 N a1 N V40 0) (fun V41 => gz_bd (m_keepsLaw N V41) (fun V44 => gz_let (if a1 = 0 then gz_let (gz_up V44 (1, 0, 0) 3 0) (fun V49 => V49) else V44) (fun V45 => some (V45, 1)))))))))))) else gz_gd (a1 = 0 ∨ a1 = 1) (gz_let (gz_up V1 (1, 0, 0) 65 a1) (fun V5 => gz_let (gz_up V5 (1, 0, 0) 66 1) (fun V7 => gz_let (gz_up V7 (1, 0, 0) 67 0) (fun V9 => gz_bd (m_image_L35 N a1 N V9 0) (fun V11 => gz_bd (m_keepsMany V11) (fun V14 => gz_bd (m_keepsTold N V14) (fun V16 => gz_bd (m_image_L73 N a1 N V16 0) (fun V17 => gz_bd (m_keepsLaw N V17) (fun V20 => gz_let (if a1 = 0 then gz_let (gz_up V20 (1, 0, 0) 3 0) (fun V25 => V25) else V20) (fun V21 => some (V21, 1)))))))))))))
theorem c_image {l : Launch} {D : va_G} {aC : Nat → ClassId} {ad : gz_A0} {N : Nat} {V : gz_V} {a1 : Int32} {W1 : gz_V} {r : Int32} (h : m_image N V a1 = some (W1, r)) : gz_Met l yX6_image cX6_image 3 (some .boolean) rm_image D aC ad tw_S V tw_R [.ref (ad (1, 0, 0)), .int a1] (gz_F1 tw_S tw_R ad W1 (some (.int r))) 0 0 := by
  refine gt_ofW (own := RX6) (mn := "image") (lv := [(0, .ref (ad (1, 0, 0))), (1, .int a1)]) (by decide) rfl rfl (Nat.le_of_ble_eq_true rfl) rfl ?_
  intro X hX hZ hF
  rw [m_image] at h
  refine gz_aload_n (q := 0) hX dX6_image_0 rfl rfl ?_
  refine gz_iconst (v := 0) hX dX6_image_1 gk_c_0 ?_
  obtain ⟨V1, e2, h⟩ := gz_let_o h
  refine tp_told hX dX6_image_2 e2 ?_
  refine gz_iload_n (q := 1) hX dX6_image_5 rfl rfl ?_
  refine gz_if_ne (tgt := 18) hX dX6_image_6 (by decide) (fun c3 => ?_) (fun c3 => ?_)
  · have h := gz_ifn c3 h
    refine gz_aload_n (q := 0) hX dX6_image_18 rfl rfl ?_
    refine gz_iload_n (q := 1) hX dX6_image_19 rfl rfl ?_
    obtain ⟨b4, h⟩ := gz_gd_o h
    obtain ⟨V5, e6, h⟩ := gz_let_o h
    refine tp_isTaking hX b4 dX6_image_20 e6 ?_
    refine gz_aload_n (q := 0) hX dX6_image_23 rfl rfl ?_
    refine gz_iconst (v := 1) hX dX6_image_24 gk_c_1 ?_
    obtain ⟨V7, e8, h⟩ := gz_let_o h
    refine tp_hasImage hX (by decide) dX6_image_25 e8 ?_
    refine gz_aload_n (q := 0) hX dX6_image_28 rfl rfl ?_
    refine gz_iconst (v := 0) hX dX6_image_29 gk_c_0 ?_
    obtain ⟨V9, e10, h⟩ := gz_let_o h
    refine tp_keptAt hX dX6_image_30 e10 ?_
    refine gz_iconst (v := 0) hX dX6_image_33 gk_c_0 ?_
    refine gz_istore_n (lv2 := [(2, .int 0), (0, .ref (ad (1, 0, 0))), (1, .int a1)]) hX dX6_image_34 rfl (by decide) rfl ?_
    obtain ⟨V11, e12, h⟩ := gz_bd_o h
    refine gz_lv [1, 2, 0] rfl (w_m_image_L35 hX hZ ?_ N e12)
    refine gz_aload_n (q := 0) hX dX6_image_63 rfl rfl ?_
    obtain ⟨V14, e13, h⟩ := gz_bd_o h
    refine tc_V (As := []) hX (c_keepsMany e13) (lw_keepsMany_ q2192) rfl rfl nn_keepsMany ⟨Nat.le_of_ble_eq_true rfl, Nat.le_of_ble_eq_true rfl⟩ rfl rfl (Nat.le_of_ble_eq_true rfl) dX6_image_64 rfl ?_
    refine gz_aload_n (q := 0) hX dX6_image_67 rfl rfl ?_
    obtain ⟨V16, e15, h⟩ := gz_bd_o h
    refine tc_V (As := []) hX (c_keepsTold e15) (lw_keepsTold_ q2196) rfl rfl nn_keepsTold ⟨Nat.le_of_ble_eq_true rfl, Nat.le_of_ble_eq_true rfl⟩ rfl rfl (Nat.le_of_ble_eq_true rfl) dX6_image_68 rfl ?_
    refine gz_iconst (v := 0) hX dX6_image_71 gk_c_0 ?_
    refine gz_istore_n (lv2 := [(2, .int 0), (0, .ref (ad (1, 0, 0))), (1, .int a1)]) hX dX6_image_72 rfl (by decide) rfl ?_
    obtain ⟨V17, e18, h⟩ := gz_bd_o h
    refine gz_lv [1, 2, 0] rfl (w_m_image_L73 hX hZ ?_ N e18)
    refine gz_aload_n (q := 0) hX dX6_image_102 rfl rfl ?_
    obtain ⟨V20, e19, h⟩ := gz_bd_o h
    refine tc_V (As := []) hX (c_keepsLaw e19) (lw_keepsLaw_ q2200) rfl rfl nn_keepsLaw ⟨Nat.le_of_ble_eq_true rfl, Nat.le_of_ble_eq_true rfl⟩ rfl rfl (Nat.le_of_ble_eq_true rfl) dX6_image_103 rfl ?_
    refine gz_iload_n (q := 1) hX dX6_image_106 rfl rfl ?_
    obtain ⟨V21, g22, h⟩ := gz_let_o h
    have J23 : gW X 3 tw_S tw_R ad V21 0 0 115 [] [] := by
      refine gz_iconst (v := 1) hX dX6_image_115 gk_c_1 ?_
      obtain ⟨e1, e2⟩ := gz_in2 h
      exact gt_zret hX hZ rfl hF e1 e2 dX6_image_116
    refine gz_if_ne (tgt := 115) hX dX6_image_107 (by decide) (fun c24 => ?_) (fun c24 => ?_)
    · have g22 := gz_ifn c24 g22
      obtain rfl := g22
      exact gz_lv [] rfl J23
    · have g22 := gz_ifp c24 g22
      refine gz_aload_n (q := 0) hX dX6_image_110 rfl rfl ?_
      refine gz_iconst (v := 0) hX dX6_image_111 gk_c_0 ?_
      obtain ⟨V25, e26, g22⟩ := gz_let_o g22
      refine tp_undoable hX dX6_image_112 e26 ?_
      obtain rfl := g22
      exact gz_lv [] rfl J23
  · have h := gz_ifp c3 h
    refine gz_aload_n (q := 0) hX dX6_image_9 rfl rfl ?_
    refine tg_hasImage hX dX6_image_10 ?_
    refine gz_if_ne (tgt := 18) hX dX6_image_13 (by decide) (fun c27 => ?_) (fun c27 => ?_)
    · have h := gz_ifn c27 h
      refine gz_aload_n (q := 0) hX dX6_image_18 rfl rfl ?_
      refine gz_iload_n (q := 1) hX dX6_image_19 rfl rfl ?_
      obtain ⟨b28, h⟩ := gz_gd_o h
      obtain ⟨V29, e30, h⟩ := gz_let_o h
      refine tp_isTaking hX b28 dX6_image_20 e30 ?_
      refine gz_aload_n (q := 0) hX dX6_image_23 rfl rfl ?_
      refine gz_iconst (v := 1) hX dX6_image_24 gk_c_1 ?_
      obtain ⟨V31, e32, h⟩ := gz_let_o h
      refine tp_hasImage hX (by decide) dX6_image_25 e32 ?_
      refine gz_aload_n (q := 0) hX dX6_image_28 rfl rfl ?_
      refine gz_iconst (v := 0) hX dX6_image_29 gk_c_0 ?_
      obtain ⟨V33, e34, h⟩ := gz_let_o h
      refine tp_keptAt hX dX6_image_30 e34 ?_
      refine gz_iconst (v := 0) hX dX6_image_33 gk_c_0 ?_
      refine gz_istore_n (lv2 := [(2, .int 0), (0, .ref (ad (1, 0, 0))), (1, .int a1)]) hX dX6_image_34 rfl (by decide) rfl ?_
      obtain ⟨V35, e36, h⟩ := gz_bd_o h
      refine gz_lv [1, 2, 0] rfl (w_m_image_L35 hX hZ ?_ N e36)
      refine gz_aload_n (q := 0) hX dX6_image_63 rfl rfl ?_
      obtain ⟨V38, e37, h⟩ := gz_bd_o h
      refine tc_V (As := []) hX (c_keepsMany e37) (lw_keepsMany_ q2192) rfl rfl nn_keepsMany ⟨Nat.le_of_ble_eq_true rfl, Nat.le_of_ble_eq_true rfl⟩ rfl rfl (Nat.le_of_ble_eq_true rfl) dX6_image_64 rfl ?_
      refine gz_aload_n (q := 0) hX dX6_image_67 rfl rfl ?_
      obtain ⟨V40, e39, h⟩ := gz_bd_o h
      refine tc_V (As := []) hX (c_keepsTold e39) (lw_keepsTold_ q2196) rfl rfl nn_keepsTold ⟨Nat.le_of_ble_eq_true rfl, Nat.le_of_ble_eq_true rfl⟩ rfl rfl (Nat.le_of_ble_eq_true rfl) dX6_image_68 rfl ?_
      refine gz_iconst (v := 0) hX dX6_image_71 gk_c_0 ?_
      refine gz_istore_n (lv2 := [(2, .int 0), (0, .ref (ad (1, 0, 0))), (1, .int a1)]) hX dX6_image_72 rfl (by decide) rfl ?_
      obtain ⟨V41, e42, h⟩ := gz_bd_o h
      refine gz_lv [1, 2, 0] rfl (w_m_image_L73 hX hZ ?_ N e42)
      refine gz_aload_n (q := 0) hX dX6_image_102 rfl rfl ?_
      obtain ⟨V44, e43, h⟩ := gz_bd_o h
      refine tc_V (As := []) hX (c_keepsLaw e43) (lw_keepsLaw_ q2200) rfl rfl nn_keepsLaw ⟨Nat.le_of_ble_eq_true rfl, Nat.le_of_ble_eq_true rfl⟩ rfl rfl (Nat.le_of_ble_eq_true rfl) dX6_image_103 rfl ?_
      refine gz_iload_n (q := 1) hX dX6_image_106 rfl rfl ?_
      obtain ⟨V45, g46, h⟩ := gz_let_o h
      have J47 : gW X 3 tw_S tw_R ad V45 0 0 115 [] [] := by
        refine gz_iconst (v := 1) hX dX6_image_115 gk_c_1 ?_
        obtain ⟨e1, e2⟩ := gz_in2 h
        exact gt_zret hX hZ rfl hF e1 e2 dX6_image_116
      refine gz_if_ne (tgt := 115) hX dX6_image_107 (by decide) (fun c48 => ?_) (fun c48 => ?_)
      · have g46 := gz_ifn c48 g46
        obtain rfl := g46
        exact gz_lv [] rfl J47
      · have g46 := gz_ifp c48 g46
        refine gz_aload_n (q := 0) hX dX6_image_110 rfl rfl ?_
        refine gz_iconst (v := 0) hX dX6_image_111 gk_c_0 ?_
        obtain ⟨V49, e50, g46⟩ := gz_let_o g46
        refine tp_undoable hX dX6_image_112 e50 ?_
        obtain rfl := g46
        exact gz_lv [] rfl J47
    · have h := gz_ifp c27 h
      refine gz_iconst (v := 0) hX dX6_image_16 gk_c_0 ?_
      obtain ⟨e1, e2⟩ := gz_in2 h
      exact gt_zret hX hZ rfl hF e1 e2 dX6_image_17
theorem lw_image_ {i : Nat} (hl : Cond.methodLink RX6 i yX6_image ∈ lw_all) : GoodIn lw_all (wsV RX6 i RX6 yX6_image (ws_ yX6_image cX6_image 3 (some .boolean))) := lw_V hl q2185 q2186 q153 q2187
theorem nn_image : yX6_image.cls = RX6 ∧ yX6_image.cls ≠ "java/lang/invoke/MethodHandle" ∧ yX6_image.cls ≠ "java/lang/invoke/VarHandle" ∧ (parseMethodDescriptor yX6_image.desc).map (fun d => d.parameters.length) = some 1 := by decide +kernel
theorem gk_b_48 : (Int8.ofInt 48).toInt32 = 48 := by decide
theorem gk_b_57 : (Int8.ofInt 57).toInt32 = 57 := by decide
def rm_isDigit : Room := { frames := 1, cells := 0, slots := 0, locals := 23 }
noncomputable def m_isDigit (a1 : Int32) : Int32 := (m_isIn a1 48 57)
theorem c_isDigit {l : Launch} {D : va_G} {aC : Nat → ClassId} {ad : gz_A0} {V : gz_V} {a1 : Int32} {r : Int32} (h : m_isDigit a1 = r) : gz_Met l yX6_isDigit cX6_isDigit 2 (some .boolean) rm_isDigit D aC ad tw_S V tw_R [.ref (ad (1, 0, 0)), .int a1] (gz_F1 tw_S tw_R ad V (some (.int r))) 0 0 := by
  refine gt_ofW (own := RX6) (mn := "isDigit") (lv := [(0, .ref (ad (1, 0, 0))), (1, .int a1)]) (by decide) rfl rfl (Nat.le_of_ble_eq_true rfl) rfl ?_
  intro X hX hZ hF
  rw [m_isDigit] at h
  refine gz_aload_n (q := 0) hX dX6_isDigit_0 rfl rfl ?_
  refine gz_iload_n (q := 1) hX dX6_isDigit_1 rfl rfl ?_
  refine gz_bipush (v := 48) hX dX6_isDigit_2 gk_b_48 ?_
  refine gz_bipush (v := 57) hX dX6_isDigit_4 gk_b_57 ?_
  refine tc_V (As := [.int a1, .int 48, .int 57]) hX (c_isIn rfl) (lw_isIn_ q1692) rfl rfl nn_isIn ⟨Nat.le_of_ble_eq_true rfl, Nat.le_of_ble_eq_true rfl⟩ rfl rfl (Nat.le_of_ble_eq_true rfl) dX6_isDigit_6 rfl ?_
  exact gt_zret hX hZ (gz_nb b_isIn) hF rfl h dX6_isDigit_9
theorem lw_isDigit_ {i : Nat} (hl : Cond.methodLink RX6 i yX6_isDigit ∈ lw_all) : GoodIn lw_all (wsV RX6 i RX6 yX6_isDigit (ws_ yX6_isDigit cX6_isDigit 2 (some .boolean))) := lw_V hl q1762 qs65 q153 q1763
theorem nn_isDigit : yX6_isDigit.cls = RX6 ∧ yX6_isDigit.cls ≠ "java/lang/invoke/MethodHandle" ∧ yX6_isDigit.cls ≠ "java/lang/invoke/VarHandle" ∧ (parseMethodDescriptor yX6_isDigit.desc).map (fun d => d.parameters.length) = some 1 := by decide +kernel
theorem b_isDigit {a1 : Int32} : m_isDigit a1 = 0 ∨ m_isDigit a1 = 1 := by
  unfold m_isDigit
  try simp only [gz_let]
  repeat' split
  all_goals first | exact Or.inl rfl | exact Or.inr rfl | exact b_isIn
theorem gk_b_90 : (Int8.ofInt 90).toInt32 = 90 := by decide
theorem gk_b_97 : (Int8.ofInt 97).toInt32 = 97 := by decide
theorem gk_b_122 : (Int8.ofInt 122).toInt32 = 122 := by decide
def rm_isLetter : Room := { frames := 1, cells := 0, slots := 0, locals := 23 }
noncomputable def m_isLetter (a1 : Int32) : Int32 := (if (m_isIn a1 97 122) = 0 then (if (m_isIn a1 65 90) = 0 then 0 else 1) else 1)
theorem c_isLetter {l : Launch} {D : va_G} {aC : Nat → ClassId} {ad : gz_A0} {V : gz_V} {a1 : Int32} {r : Int32} (h : m_isLetter a1 = r) : gz_Met l yX6_isLetter cX6_isLetter 2 (some .boolean) rm_isLetter D aC ad tw_S V tw_R [.ref (ad (1, 0, 0)), .int a1] (gz_F1 tw_S tw_R ad V (some (.int r))) 0 0 := by
  refine gt_ofW (own := RX6) (mn := "isLetter") (lv := [(0, .ref (ad (1, 0, 0))), (1, .int a1)]) (by decide) rfl rfl (Nat.le_of_ble_eq_true rfl) rfl ?_
  intro X hX hZ hF
  rw [m_isLetter] at h
  refine gz_aload_n (q := 0) hX dX6_isLetter_0 rfl rfl ?_
  refine gz_iload_n (q := 1) hX dX6_isLetter_1 rfl rfl ?_
  refine gz_bipush (v := 97) hX dX6_isLetter_2 gk_b_97 ?_
  refine gz_bipush (v := 122) hX dX6_isLetter_4 gk_b_122 ?_
  refine tc_V (As := [.int a1, .int 97, .int 122]) hX (c_isIn rfl) (lw_isIn_ q1692) rfl rfl nn_isIn ⟨Nat.le_of_ble_eq_true rfl, Nat.le_of_ble_eq_true rfl⟩ rfl rfl (Nat.le_of_ble_eq_true rfl) dX6_isLetter_6 rfl ?_
  refine gz_if_ne (tgt := 24) hX dX6_isLetter_9 (by decide) (fun c1 => ?_) (fun c1 => ?_)
  · have h := gz_ifn c1 h
    refine gz_iconst (v := 1) hX dX6_isLetter_24 gk_c_1 ?_
    refine gz_goto (tgt := 29) hX dX6_isLetter_25 (by decide) ?_
    exact gt_zret hX hZ rfl hF rfl h dX6_isLetter_29
  · have h := gz_ifp c1 h
    refine gz_aload_n (q := 0) hX dX6_isLetter_12 rfl rfl ?_
    refine gz_iload_n (q := 1) hX dX6_isLetter_13 rfl rfl ?_
    refine gz_bipush (v := 65) hX dX6_isLetter_14 gk_b_65 ?_
    refine gz_bipush (v := 90) hX dX6_isLetter_16 gk_b_90 ?_
    refine tc_V (As := [.int a1, .int 65, .int 90]) hX (c_isIn rfl) (lw_isIn_ q1692) rfl rfl nn_isIn ⟨Nat.le_of_ble_eq_true rfl, Nat.le_of_ble_eq_true rfl⟩ rfl rfl (Nat.le_of_ble_eq_true rfl) dX6_isLetter_18 rfl ?_
    refine gz_if_eq (tgt := 28) hX dX6_isLetter_21 (by decide) (fun c2 => ?_) (fun c2 => ?_)
    · have h := gz_ifp c2 h
      refine gz_iconst (v := 0) hX dX6_isLetter_28 gk_c_0 ?_
      exact gt_zret hX hZ rfl hF rfl h dX6_isLetter_29
    · have h := gz_ifn c2 h
      refine gz_iconst (v := 1) hX dX6_isLetter_24 gk_c_1 ?_
      refine gz_goto (tgt := 29) hX dX6_isLetter_25 (by decide) ?_
      exact gt_zret hX hZ rfl hF rfl h dX6_isLetter_29
theorem lw_isLetter_ {i : Nat} (hl : Cond.methodLink RX6 i yX6_isLetter ∈ lw_all) : GoodIn lw_all (wsV RX6 i RX6 yX6_isLetter (ws_ yX6_isLetter cX6_isLetter 2 (some .boolean))) := lw_V hl q1754 qs63 q153 q1755
theorem nn_isLetter : yX6_isLetter.cls = RX6 ∧ yX6_isLetter.cls ≠ "java/lang/invoke/MethodHandle" ∧ yX6_isLetter.cls ≠ "java/lang/invoke/VarHandle" ∧ (parseMethodDescriptor yX6_isLetter.desc).map (fun d => d.parameters.length) = some 1 := by decide +kernel
theorem b_isLetter {a1 : Int32} : m_isLetter a1 = 0 ∨ m_isLetter a1 = 1 := by
  unfold m_isLetter
  try simp only [gz_let]
  repeat' split
  all_goals first | exact Or.inl rfl | exact Or.inr rfl | exact b_isIn | exact b_isIn
def rm_isLineWord : Room := { frames := 1, cells := 0, slots := 0, locals := 23 }
noncomputable def m_isLineWord (V : gz_V) : Int32 := (if (V (1, 0, 0) 15) = 2 then (if (m_isIn (V (1, 0, 0) 16) 0 2) = 0 then 0 else 1) else 0)
theorem c_isLineWord {l : Launch} {D : va_G} {aC : Nat → ClassId} {ad : gz_A0} {V : gz_V} {r : Int32} (h : m_isLineWord V = r) : gz_Met l yX6_isLineWord cX6_isLineWord 1 (some .boolean) rm_isLineWord D aC ad tw_S V tw_R [.ref (ad (1, 0, 0))] (gz_F1 tw_S tw_R ad V (some (.int r))) 0 0 := by
  refine gt_ofW (own := RX6) (mn := "isLineWord") (lv := [(0, .ref (ad (1, 0, 0)))]) (by decide) rfl rfl (Nat.le_of_ble_eq_true rfl) rfl ?_
  intro X hX hZ hF
  rw [m_isLineWord] at h
  refine gz_aload_n (q := 0) hX dX6_isLineWord_0 rfl rfl ?_
  refine tg_token hX dX6_isLineWord_1 ?_
  refine gz_iconst (v := 2) hX dX6_isLineWord_4 gk_c_2 ?_
  refine gz_icmp_ne (tgt := 25) hX dX6_isLineWord_5 (by decide) (fun c1 => ?_) (fun c1 => ?_)
  · have h := gz_ifn c1 h
    refine gz_iconst (v := 0) hX dX6_isLineWord_25 gk_c_0 ?_
    exact gt_zret hX hZ rfl hF rfl h dX6_isLineWord_26
  · have h := gz_ifp c1 h
    refine gz_aload_n (q := 0) hX dX6_isLineWord_8 rfl rfl ?_
    refine gz_aload_n (q := 0) hX dX6_isLineWord_9 rfl rfl ?_
    refine tg_value hX dX6_isLineWord_10 ?_
    refine gz_iconst (v := 0) hX dX6_isLineWord_13 gk_c_0 ?_
    refine gz_iconst (v := 2) hX dX6_isLineWord_14 gk_c_2 ?_
    refine tc_V (As := [.int (V (1, 0, 0) 16), .int 0, .int 2]) hX (c_isIn rfl) (lw_isIn_ q1692) rfl rfl nn_isIn ⟨Nat.le_of_ble_eq_true rfl, Nat.le_of_ble_eq_true rfl⟩ rfl rfl (Nat.le_of_ble_eq_true rfl) dX6_isLineWord_15 rfl ?_
    refine gz_if_eq (tgt := 25) hX dX6_isLineWord_18 (by decide) (fun c2 => ?_) (fun c2 => ?_)
    · have h := gz_ifp c2 h
      refine gz_iconst (v := 0) hX dX6_isLineWord_25 gk_c_0 ?_
      exact gt_zret hX hZ rfl hF rfl h dX6_isLineWord_26
    · have h := gz_ifn c2 h
      refine gz_iconst (v := 1) hX dX6_isLineWord_21 gk_c_1 ?_
      refine gz_goto (tgt := 26) hX dX6_isLineWord_22 (by decide) ?_
      exact gt_zret hX hZ rfl hF rfl h dX6_isLineWord_26
theorem lw_isLineWord_ {i : Nat} (hl : Cond.methodLink RX6 i yX6_isLineWord ∈ lw_all) : GoodIn lw_all (wsV RX6 i RX6 yX6_isLineWord (ws_ yX6_isLineWord cX6_isLineWord 1 (some .boolean))) := lw_V hl q1822 qs80 q153 q1823
theorem nn_isLineWord : yX6_isLineWord.cls = RX6 ∧ yX6_isLineWord.cls ≠ "java/lang/invoke/MethodHandle" ∧ yX6_isLineWord.cls ≠ "java/lang/invoke/VarHandle" ∧ (parseMethodDescriptor yX6_isLineWord.desc).map (fun d => d.parameters.length) = some 0 := by decide +kernel
theorem b_isLineWord {V : gz_V} : m_isLineWord V = 0 ∨ m_isLineWord V = 1 := by
  unfold m_isLineWord
  try simp only [gz_let]
  repeat' split
  all_goals first | exact Or.inl rfl | exact Or.inr rfl | exact b_isIn
theorem gk_b_40 : (Int8.ofInt 40).toInt32 = 40 := by decide
theorem gk_b_41 : (Int8.ofInt 41).toInt32 = 41 := by decide
theorem gk_b_42 : (Int8.ofInt 42).toInt32 = 42 := by decide
theorem gk_b_43 : (Int8.ofInt 43).toInt32 = 43 := by decide
theorem gk_b_45 : (Int8.ofInt 45).toInt32 = 45 := by decide
theorem gk_b_47 : (Int8.ofInt 47).toInt32 = 47 := by decide
theorem gk_b_59 : (Int8.ofInt 59).toInt32 = 59 := by decide
theorem gk_b_61 : (Int8.ofInt 61).toInt32 = 61 := by decide
theorem gk_b_62 : (Int8.ofInt 62).toInt32 = 62 := by decide
def rm_isMarkSign : Room := { frames := 0, cells := 0, slots := 0, locals := 0 }
noncomputable def m_isMarkSign (a1 : Int32) : Int32 := (if a1 = 59 then 1 else (if a1 = 43 then 1 else (if a1 = 45 then 1 else (if a1 = 42 then 1 else (if a1 = 47 then 1 else (if a1 = 40 then 1 else (if a1 = 41 then 1 else (if a1 = 60 then 1 else (if a1 = 61 then 1 else (if a1 = 62 then 1 else 0))))))))))
theorem c_isMarkSign {l : Launch} {D : va_G} {aC : Nat → ClassId} {ad : gz_A0} {V : gz_V} {a1 : Int32} {r : Int32} (h : m_isMarkSign a1 = r) : gz_Met l yX6_isMarkSign cX6_isMarkSign 2 (some .boolean) rm_isMarkSign D aC ad tw_S V tw_R [.ref (ad (1, 0, 0)), .int a1] (gz_F1 tw_S tw_R ad V (some (.int r))) 0 0 := by
  refine gt_ofW (own := RX6) (mn := "isMarkSign") (lv := [(0, .ref (ad (1, 0, 0))), (1, .int a1)]) (by decide) rfl rfl (Nat.le_of_ble_eq_true rfl) rfl ?_
  intro X hX hZ hF
  rw [m_isMarkSign] at h
  refine gz_iload_n (q := 1) hX dX6_isMarkSign_0 rfl rfl ?_
  refine gz_bipush (v := 59) hX dX6_isMarkSign_1 gk_b_59 ?_
  refine gz_icmp_eq (tgt := 60) hX dX6_isMarkSign_3 (by decide) (fun c1 => ?_) (fun c1 => ?_)
  · have h := gz_ifp c1 h
    refine gz_iconst (v := 1) hX dX6_isMarkSign_60 gk_c_1 ?_
    refine gz_goto (tgt := 65) hX dX6_isMarkSign_61 (by decide) ?_
    exact gt_zret hX hZ rfl hF rfl h dX6_isMarkSign_65
  · have h := gz_ifn c1 h
    refine gz_iload_n (q := 1) hX dX6_isMarkSign_6 rfl rfl ?_
    refine gz_bipush (v := 43) hX dX6_isMarkSign_7 gk_b_43 ?_
    refine gz_icmp_eq (tgt := 60) hX dX6_isMarkSign_9 (by decide) (fun c2 => ?_) (fun c2 => ?_)
    · have h := gz_ifp c2 h
      refine gz_iconst (v := 1) hX dX6_isMarkSign_60 gk_c_1 ?_
      refine gz_goto (tgt := 65) hX dX6_isMarkSign_61 (by decide) ?_
      exact gt_zret hX hZ rfl hF rfl h dX6_isMarkSign_65
    · have h := gz_ifn c2 h
      refine gz_iload_n (q := 1) hX dX6_isMarkSign_12 rfl rfl ?_
      refine gz_bipush (v := 45) hX dX6_isMarkSign_13 gk_b_45 ?_
      refine gz_icmp_eq (tgt := 60) hX dX6_isMarkSign_15 (by decide) (fun c3 => ?_) (fun c3 => ?_)
      · have h := gz_ifp c3 h
        refine gz_iconst (v := 1) hX dX6_isMarkSign_60 gk_c_1 ?_
        refine gz_goto (tgt := 65) hX dX6_isMarkSign_61 (by decide) ?_
        exact gt_zret hX hZ rfl hF rfl h dX6_isMarkSign_65
      · have h := gz_ifn c3 h
        refine gz_iload_n (q := 1) hX dX6_isMarkSign_18 rfl rfl ?_
        refine gz_bipush (v := 42) hX dX6_isMarkSign_19 gk_b_42 ?_
        refine gz_icmp_eq (tgt := 60) hX dX6_isMarkSign_21 (by decide) (fun c4 => ?_) (fun c4 => ?_)
        · have h := gz_ifp c4 h
          refine gz_iconst (v := 1) hX dX6_isMarkSign_60 gk_c_1 ?_
          refine gz_goto (tgt := 65) hX dX6_isMarkSign_61 (by decide) ?_
          exact gt_zret hX hZ rfl hF rfl h dX6_isMarkSign_65
        · have h := gz_ifn c4 h
          refine gz_iload_n (q := 1) hX dX6_isMarkSign_24 rfl rfl ?_
          refine gz_bipush (v := 47) hX dX6_isMarkSign_25 gk_b_47 ?_
          refine gz_icmp_eq (tgt := 60) hX dX6_isMarkSign_27 (by decide) (fun c5 => ?_) (fun c5 => ?_)
          · have h := gz_ifp c5 h
            refine gz_iconst (v := 1) hX dX6_isMarkSign_60 gk_c_1 ?_
            refine gz_goto (tgt := 65) hX dX6_isMarkSign_61 (by decide) ?_
            exact gt_zret hX hZ rfl hF rfl h dX6_isMarkSign_65
          · have h := gz_ifn c5 h
            refine gz_iload_n (q := 1) hX dX6_isMarkSign_30 rfl rfl ?_
            refine gz_bipush (v := 40) hX dX6_isMarkSign_31 gk_b_40 ?_
            refine gz_icmp_eq (tgt := 60) hX dX6_isMarkSign_33 (by decide) (fun c6 => ?_) (fun c6 => ?_)
            · have h := gz_ifp c6 h
              refine gz_iconst (v := 1) hX dX6_isMarkSign_60 gk_c_1 ?_
              refine gz_goto (tgt := 65) hX dX6_isMarkSign_61 (by decide) ?_
              exact gt_zret hX hZ rfl hF rfl h dX6_isMarkSign_65
            · have h := gz_ifn c6 h
              refine gz_iload_n (q := 1) hX dX6_isMarkSign_36 rfl rfl ?_
              refine gz_bipush (v := 41) hX dX6_isMarkSign_37 gk_b_41 ?_
              refine gz_icmp_eq (tgt := 60) hX dX6_isMarkSign_39 (by decide) (fun c7 => ?_) (fun c7 => ?_)
              · have h := gz_ifp c7 h
                refine gz_iconst (v := 1) hX dX6_isMarkSign_60 gk_c_1 ?_
                refine gz_goto (tgt := 65) hX dX6_isMarkSign_61 (by decide) ?_
                exact gt_zret hX hZ rfl hF rfl h dX6_isMarkSign_65
              · have h := gz_ifn c7 h
                refine gz_iload_n (q := 1) hX dX6_isMarkSign_42 rfl rfl ?_
                refine gz_bipush (v := 60) hX dX6_isMarkSign_43 gk_b_60 ?_
                refine gz_icmp_eq (tgt := 60) hX dX6_isMarkSign_45 (by decide) (fun c8 => ?_) (fun c8 => ?_)
                · have h := gz_ifp c8 h
                  refine gz_iconst (v := 1) hX dX6_isMarkSign_60 gk_c_1 ?_
                  refine gz_goto (tgt := 65) hX dX6_isMarkSign_61 (by decide) ?_
                  exact gt_zret hX hZ rfl hF rfl h dX6_isMarkSign_65
                · have h := gz_ifn c8 h
                  refine gz_iload_n (q := 1) hX dX6_isMarkSign_48 rfl rfl ?_
                  refine gz_bipush (v := 61) hX dX6_isMarkSign_49 gk_b_61 ?_
                  refine gz_icmp_eq (tgt := 60) hX dX6_isMarkSign_51 (by decide) (fun c9 => ?_) (fun c9 => ?_)
                  · have h := gz_ifp c9 h
                    refine gz_iconst (v := 1) hX dX6_isMarkSign_60 gk_c_1 ?_
                    refine gz_goto (tgt := 65) hX dX6_isMarkSign_61 (by decide) ?_
                    exact gt_zret hX hZ rfl hF rfl h dX6_isMarkSign_65
                  · have h := gz_ifn c9 h
                    refine gz_iload_n (q := 1) hX dX6_isMarkSign_54 rfl rfl ?_
                    refine gz_bipush (v := 62) hX dX6_isMarkSign_55 gk_b_62 ?_
                    refine gz_icmp_ne (tgt := 64) hX dX6_isMarkSign_57 (by decide) (fun c10 => ?_) (fun c10 => ?_)
                    · have h := gz_ifn c10 h
                      refine gz_iconst (v := 0) hX dX6_isMarkSign_64 gk_c_0 ?_
                      exact gt_zret hX hZ rfl hF rfl h dX6_isMarkSign_65
                    · have h := gz_ifp c10 h
                      refine gz_iconst (v := 1) hX dX6_isMarkSign_60 gk_c_1 ?_
                      refine gz_goto (tgt := 65) hX dX6_isMarkSign_61 (by decide) ?_
                      exact gt_zret hX hZ rfl hF rfl h dX6_isMarkSign_65
theorem lw_isMarkSign_ {i : Nat} (hl : Cond.methodLink RX6 i yX6_isMarkSign ∈ lw_all) : GoodIn lw_all (wsV RX6 i RX6 yX6_isMarkSign (ws_ yX6_isMarkSign cX6_isMarkSign 2 (some .boolean))) := lw_V hl q1766 qs66 q153 q1767
theorem nn_isMarkSign : yX6_isMarkSign.cls = RX6 ∧ yX6_isMarkSign.cls ≠ "java/lang/invoke/MethodHandle" ∧ yX6_isMarkSign.cls ≠ "java/lang/invoke/VarHandle" ∧ (parseMethodDescriptor yX6_isMarkSign.desc).map (fun d => d.parameters.length) = some 1 := by decide +kernel
theorem b_isMarkSign {a1 : Int32} : m_isMarkSign a1 = 0 ∨ m_isMarkSign a1 = 1 := by
  unfold m_isMarkSign
  try simp only [gz_let]
  repeat' split
  all_goals first | exact Or.inl rfl | exact Or.inr rfl
def rm_isSign : Room := { frames := 0, cells := 0, slots := 0, locals := 0 }
noncomputable def m_isSign (V : gz_V) (a1 : Int32) : Int32 := (if (V (1, 0, 0) 15) = 4 then (if (V (1, 0, 0) 16) = a1 then 1 else 0) else 0)
theorem c_isSign {l : Launch} {D : va_G} {aC : Nat → ClassId} {ad : gz_A0} {V : gz_V} {a1 : Int32} {r : Int32} (h : m_isSign V a1 = r) : gz_Met l yX6_isSign cX6_isSign 2 (some .boolean) rm_isSign D aC ad tw_S V tw_R [.ref (ad (1, 0, 0)), .int a1] (gz_F1 tw_S tw_R ad V (some (.int r))) 0 0 := by
  refine gt_ofW (own := RX6) (mn := "isSign") (lv := [(0, .ref (ad (1, 0, 0))), (1, .int a1)]) (by decide) rfl rfl (Nat.le_of_ble_eq_true rfl) rfl ?_
  intro X hX hZ hF
  rw [m_isSign] at h
  refine gz_aload_n (q := 0) hX dX6_isSign_0 rfl rfl ?_
  refine tg_token hX dX6_isSign_1 ?_
  refine gz_iconst (v := 4) hX dX6_isSign_4 gk_c_4 ?_
  refine gz_icmp_ne (tgt := 20) hX dX6_isSign_5 (by decide) (fun c1 => ?_) (fun c1 => ?_)
  · have h := gz_ifn c1 h
    refine gz_iconst (v := 0) hX dX6_isSign_20 gk_c_0 ?_
    exact gt_zret hX hZ rfl hF rfl h dX6_isSign_21
  · have h := gz_ifp c1 h
    refine gz_aload_n (q := 0) hX dX6_isSign_8 rfl rfl ?_
    refine tg_value hX dX6_isSign_9 ?_
    refine gz_iload_n (q := 1) hX dX6_isSign_12 rfl rfl ?_
    refine gz_icmp_ne (tgt := 20) hX dX6_isSign_13 (by decide) (fun c2 => ?_) (fun c2 => ?_)
    · have h := gz_ifn c2 h
      refine gz_iconst (v := 0) hX dX6_isSign_20 gk_c_0 ?_
      exact gt_zret hX hZ rfl hF rfl h dX6_isSign_21
    · have h := gz_ifp c2 h
      refine gz_iconst (v := 1) hX dX6_isSign_16 gk_c_1 ?_
      refine gz_goto (tgt := 21) hX dX6_isSign_17 (by decide) ?_
      exact gt_zret hX hZ rfl hF rfl h dX6_isSign_21
theorem lw_isSign_ {i : Nat} (hl : Cond.methodLink RX6 i yX6_isSign ∈ lw_all) : GoodIn lw_all (wsV RX6 i RX6 yX6_isSign (ws_ yX6_isSign cX6_isSign 2 (some .boolean))) := lw_V hl q1798 qs74 q153 q1799
theorem nn_isSign : yX6_isSign.cls = RX6 ∧ yX6_isSign.cls ≠ "java/lang/invoke/MethodHandle" ∧ yX6_isSign.cls ≠ "java/lang/invoke/VarHandle" ∧ (parseMethodDescriptor yX6_isSign.desc).map (fun d => d.parameters.length) = some 1 := by decide +kernel
theorem b_isSign {V : gz_V} {a1 : Int32} : m_isSign V a1 = 0 ∨ m_isSign V a1 = 1 := by
  unfold m_isSign
  try simp only [gz_let]
  repeat' split
  all_goals first | exact Or.inl rfl | exact Or.inr rfl
def rm_isWord : Room := { frames := 0, cells := 0, slots := 0, locals := 0 }
noncomputable def m_isWord (V : gz_V) (a1 : Int32) : Int32 := (if (V (1, 0, 0) 15) = 2 then (if (V (1, 0, 0) 16) = a1 then 1 else 0) else 0)
theorem c_isWord {l : Launch} {D : va_G} {aC : Nat → ClassId} {ad : gz_A0} {V : gz_V} {a1 : Int32} {r : Int32} (h : m_isWord V a1 = r) : gz_Met l yX6_isWord cX6_isWord 2 (some .boolean) rm_isWord D aC ad tw_S V tw_R [.ref (ad (1, 0, 0)), .int a1] (gz_F1 tw_S tw_R ad V (some (.int r))) 0 0 := by
  refine gt_ofW (own := RX6) (mn := "isWord") (lv := [(0, .ref (ad (1, 0, 0))), (1, .int a1)]) (by decide) rfl rfl (Nat.le_of_ble_eq_true rfl) rfl ?_
  intro X hX hZ hF
  rw [m_isWord] at h
  refine gz_aload_n (q := 0) hX dX6_isWord_0 rfl rfl ?_
  refine tg_token hX dX6_isWord_1 ?_
  refine gz_iconst (v := 2) hX dX6_isWord_4 gk_c_2 ?_
  refine gz_icmp_ne (tgt := 20) hX dX6_isWord_5 (by decide) (fun c1 => ?_) (fun c1 => ?_)
  · have h := gz_ifn c1 h
    refine gz_iconst (v := 0) hX dX6_isWord_20 gk_c_0 ?_
    exact gt_zret hX hZ rfl hF rfl h dX6_isWord_21
  · have h := gz_ifp c1 h
    refine gz_aload_n (q := 0) hX dX6_isWord_8 rfl rfl ?_
    refine tg_value hX dX6_isWord_9 ?_
    refine gz_iload_n (q := 1) hX dX6_isWord_12 rfl rfl ?_
    refine gz_icmp_ne (tgt := 20) hX dX6_isWord_13 (by decide) (fun c2 => ?_) (fun c2 => ?_)
    · have h := gz_ifn c2 h
      refine gz_iconst (v := 0) hX dX6_isWord_20 gk_c_0 ?_
      exact gt_zret hX hZ rfl hF rfl h dX6_isWord_21
    · have h := gz_ifp c2 h
      refine gz_iconst (v := 1) hX dX6_isWord_16 gk_c_1 ?_
      refine gz_goto (tgt := 21) hX dX6_isWord_17 (by decide) ?_
      exact gt_zret hX hZ rfl hF rfl h dX6_isWord_21
theorem lw_isWord_ {i : Nat} (hl : Cond.methodLink RX6 i yX6_isWord ∈ lw_all) : GoodIn lw_all (wsV RX6 i RX6 yX6_isWord (ws_ yX6_isWord cX6_isWord 2 (some .boolean))) := lw_V hl q1774 qs68 q153 q1775
theorem nn_isWord : yX6_isWord.cls = RX6 ∧ yX6_isWord.cls ≠ "java/lang/invoke/MethodHandle" ∧ yX6_isWord.cls ≠ "java/lang/invoke/VarHandle" ∧ (parseMethodDescriptor yX6_isWord.desc).map (fun d => d.parameters.length) = some 1 := by decide +kernel
theorem b_isWord {V : gz_V} {a1 : Int32} : m_isWord V a1 = 0 ∨ m_isWord V a1 = 1 := by
  unfold m_isWord
  try simp only [gz_let]
  repeat' split
  all_goals first | exact Or.inl rfl | exact Or.inr rfl
def rm_kinOfKin : Room := { frames := 1, cells := 0, slots := 0, locals := 22 }
noncomputable def m_kinOfKin_L15 (N : Nat) (V : gz_V) (v3 : Int32) : Nat → Int32 → Int32 → Option (Int32)
  | 0, _, _ => none
  | n + 1, v2, v4 => (if (V (1, 0, 0) 6) ≤ v4 then some v2 else gz_bd (if (m_has v2 v4) = 0 then some v2 else gz_gd (gz_inb v4 24 = true) (gz_let (v2 ||| (V (2, 39, 0) v4.toNatClampNeg)) (fun x10 => some x10))) (fun y5 => m_kinOfKin_L15 N V v3 n y5 (v4 + 1)))
theorem w_m_kinOfKin_L15 {X : gz_X} {ad : gz_A0} (hX : gz_ok X cX6_kinOfKin RX6 "kinOfKin" 5 rm_kinOfKin (some .int)) (hZ : gz_Z X) {N : Nat} {V : gz_V} {v3 : Int32} {o2 : Int32} (k : gW X 5 tw_S tw_R ad V 0 0 50 [(0, .ref (ad (1, 0, 0))), (2, .int o2), (3, .int v3)] []) : ∀ (n : Nat) {v2 : Int32} {v4 : Int32}, m_kinOfKin_L15 N V v3 n v2 v4 = some o2 → gW X 5 tw_S tw_R ad V 0 0 15 [(0, .ref (ad (1, 0, 0))), (2, .int v2), (3, .int v3), (4, .int v4)] [] := by
  intro n
  induction n with
  | zero => intro v2 v4 h; rw [m_kinOfKin_L15] at h; cases h
  | succ n ih =>
    intro v2 v4 h
    rw [m_kinOfKin_L15] at h
    refine gz_iload (q := 3) hX dX6_kinOfKin_15 rfl ?_
    refine gz_aload_n (q := 0) hX dX6_kinOfKin_17 rfl rfl ?_
    refine tg_people hX dX6_kinOfKin_18 ?_
    refine gz_icmp_ge (tgt := 50) hX dX6_kinOfKin_21 (by decide) (fun c4 => ?_) (fun c4 => ?_)
    · have h := gz_ifp c4 h
      obtain rfl := gz_in1 h
      exact gz_lv [0, 1, 2] rfl k
    · have h := gz_ifn c4 h
      refine gz_aload_n (q := 0) hX dX6_kinOfKin_24 rfl rfl ?_
      refine gz_iload_n (q := 1) hX dX6_kinOfKin_25 rfl rfl ?_
      refine gz_iload (q := 3) hX dX6_kinOfKin_26 rfl ?_
      refine tc_V (As := [.int v2, .int v4]) hX (c_has rfl) (lw_has_ q1900) rfl rfl nn_has ⟨Nat.le_of_ble_eq_true rfl, Nat.le_of_ble_eq_true rfl⟩ rfl rfl (Nat.le_of_ble_eq_true rfl) dX6_kinOfKin_28 rfl ?_
      obtain ⟨y5, g6, h⟩ := gz_bd_o h
      have J7 : gW X 5 tw_S tw_R ad V 0 0 44 [(0, .ref (ad (1, 0, 0))), (2, .int y5), (3, .int v3), (4, .int v4)] [] := by
        refine gz_iinc (q := 3) (lv2 := [(4, .int (v4 + 1)), (0, .ref (ad (1, 0, 0))), (2, .int y5), (3, .int v3)]) hX dX6_kinOfKin_44 rfl gk_c_1 (by decide) rfl ?_
        refine gz_goto (tgt := 15) hX dX6_kinOfKin_47 (by decide) ?_
        exact gz_lv [1, 2, 3, 0] rfl (ih h)
      refine gz_if_eq (tgt := 44) hX dX6_kinOfKin_31 (by decide) (fun c8 => ?_) (fun c8 => ?_)
      · have g6 := gz_ifp c8 g6
        obtain rfl := gz_in1 g6
        exact gz_lv [0, 1, 2, 3] rfl J7
      · have g6 := gz_ifn c8 g6
        refine gz_iload_n (q := 1) hX dX6_kinOfKin_34 rfl rfl ?_
        refine gz_aload_n (q := 0) hX dX6_kinOfKin_35 rfl rfl ?_
        refine tg_kinOf hX dX6_kinOfKin_36 ?_
        refine gz_iload (q := 3) hX dX6_kinOfKin_39 rfl ?_
        obtain ⟨b9, g6⟩ := gz_gd_o g6
        refine gz_iald (L := 24) hX tw_S39 (gz_inb_o b9) dX6_kinOfKin_41 ?_
        refine gz_ior hX dX6_kinOfKin_42 ?_
        obtain ⟨x10, e11, g6⟩ := gz_let_o g6
        refine gz_nm e11 ?_
        refine gz_istore_n (lv2 := [(2, .int x10), (0, .ref (ad (1, 0, 0))), (3, .int v3), (4, .int v4)]) hX dX6_kinOfKin_43 rfl (by decide) rfl ?_
        obtain rfl := gz_in1 g6
        exact gz_lv [1, 0, 2, 3] rfl J7
noncomputable def m_kinOfKin_L6 (N : Nat) (V : gz_V) : Nat → Int32 → Int32 → Option (Int32)
  | 0, _, _ => none
  | n + 1, v2, v3 => (if 12 ≤ v3 then some v2 else gz_bd (m_kinOfKin_L15 N V v3 N v2 0) (fun x4 => m_kinOfKin_L6 N V n x4 (v3 + 1)))
theorem w_m_kinOfKin_L6 {X : gz_X} {ad : gz_A0} (hX : gz_ok X cX6_kinOfKin RX6 "kinOfKin" 5 rm_kinOfKin (some .int)) (hZ : gz_Z X) {N : Nat} {V : gz_V} {o2 : Int32} (k : gW X 5 tw_S tw_R ad V 0 0 56 [(2, .int o2)] []) : ∀ (n : Nat) {v2 : Int32} {v3 : Int32}, m_kinOfKin_L6 N V n v2 v3 = some o2 → gW X 5 tw_S tw_R ad V 0 0 6 [(0, .ref (ad (1, 0, 0))), (2, .int v2), (3, .int v3)] [] := by
  intro n
  induction n with
  | zero => intro v2 v3 h; rw [m_kinOfKin_L6] at h; cases h
  | succ n ih =>
    intro v2 v3 h
    rw [m_kinOfKin_L6] at h
    refine gz_iload_n (q := 2) hX dX6_kinOfKin_6 rfl rfl ?_
    refine gz_bipush (v := 12) hX dX6_kinOfKin_7 gk_b_12 ?_
    refine gz_icmp_ge (tgt := 56) hX dX6_kinOfKin_9 (by decide) (fun c3 => ?_) (fun c3 => ?_)
    · have h := gz_ifp c3 h
      obtain rfl := gz_in1 h
      exact gz_lv [1] rfl k
    · have h := gz_ifn c3 h
      refine gz_iconst (v := 0) hX dX6_kinOfKin_12 gk_c_0 ?_
      refine gz_istore (lv2 := [(4, .int 0), (0, .ref (ad (1, 0, 0))), (2, .int v2), (3, .int v3)]) hX dX6_kinOfKin_13 (by decide) rfl ?_
      obtain ⟨x4, e5, h⟩ := gz_bd_o h
      refine gz_lv [1, 2, 3, 0] rfl (w_m_kinOfKin_L15 hX hZ ?_ N e5)
      refine gz_iinc (q := 2) (lv2 := [(3, .int (v3 + 1)), (0, .ref (ad (1, 0, 0))), (2, .int x4)]) hX dX6_kinOfKin_50 rfl gk_c_1 (by decide) rfl ?_
      refine gz_goto (tgt := 6) hX dX6_kinOfKin_53 (by decide) ?_
      exact gz_lv [1, 2, 0] rfl (ih h)
noncomputable def m_kinOfKin (N : Nat) (V : gz_V) (a1 : Int32) : Option Int32 := gz_let ((1 : Int32) <<< (a1 &&& 31)) (fun x1 => gz_bd (m_kinOfKin_L6 N V N x1 0) (fun x3 => some x3))
theorem c_kinOfKin {l : Launch} {D : va_G} {aC : Nat → ClassId} {ad : gz_A0} {N : Nat} {V : gz_V} {a1 : Int32} {r : Int32} (h : m_kinOfKin N V a1 = some r) : gz_Met l yX6_kinOfKin cX6_kinOfKin 5 (some .int) rm_kinOfKin D aC ad tw_S V tw_R [.ref (ad (1, 0, 0)), .int a1] (gz_F1 tw_S tw_R ad V (some (.int r))) 0 0 := by
  refine gt_ofW (own := RX6) (mn := "kinOfKin") (lv := [(0, .ref (ad (1, 0, 0))), (1, .int a1)]) (by decide) rfl rfl (Nat.le_of_ble_eq_true rfl) rfl ?_
  intro X hX hZ hF
  rw [m_kinOfKin] at h
  refine gz_iconst (v := 1) hX dX6_kinOfKin_0 gk_c_1 ?_
  refine gz_iload_n (q := 1) hX dX6_kinOfKin_1 rfl rfl ?_
  refine gz_ishl hX dX6_kinOfKin_2 ?_
  obtain ⟨x1, e2, h⟩ := gz_let_o h
  refine gz_nm e2 ?_
  refine gz_istore_n (lv2 := [(2, .int x1), (0, .ref (ad (1, 0, 0))), (1, .int a1)]) hX dX6_kinOfKin_3 rfl (by decide) rfl ?_
  refine gz_iconst (v := 0) hX dX6_kinOfKin_4 gk_c_0 ?_
  refine gz_istore_n (lv2 := [(3, .int 0), (2, .int x1), (0, .ref (ad (1, 0, 0))), (1, .int a1)]) hX dX6_kinOfKin_5 rfl (by decide) rfl ?_
  obtain ⟨x3, e4, h⟩ := gz_bd_o h
  refine gz_lv [2, 1, 0] rfl (w_m_kinOfKin_L6 hX hZ ?_ N e4)
  refine gz_iload_n (q := 0) hX dX6_kinOfKin_56 rfl rfl ?_
  exact gt_iret hX hZ hF rfl (gz_in1 h) dX6_kinOfKin_57
theorem lw_kinOfKin_ {i : Nat} (hl : Cond.methodLink RX6 i yX6_kinOfKin ∈ lw_all) : GoodIn lw_all (wsV RX6 i RX6 yX6_kinOfKin (ws_ yX6_kinOfKin cX6_kinOfKin 5 (some .int))) := lw_V hl q2109 qs131 q153 q2110
theorem nn_kinOfKin : yX6_kinOfKin.cls = RX6 ∧ yX6_kinOfKin.cls ≠ "java/lang/invoke/MethodHandle" ∧ yX6_kinOfKin.cls ≠ "java/lang/invoke/VarHandle" ∧ (parseMethodDescriptor yX6_kinOfKin.desc).map (fun d => d.parameters.length) = some 1 := by decide +kernel
def rm_left : Room := { frames := 2, cells := 0, slots := 0, locals := 45 }
noncomputable def m_left_L33 (N : Nat) (V : gz_V) (v1 : Int32) (v2 : Int32) : Nat → Int32 → Int32 → Int32 → Option (Int32 × Int32)
  | 0, _, _, _ => none
  | n + 1, v3, v4, v5 => (if 5 ≤ v5 then some (v3, v4) else gz_bd (m_traitOf V v1 v5) (fun r6 => gz_bd (m_traitOf V v1 v3) (fun r8 => gz_let (if r6 ≤ r8 then v3 else v5) (fun y10 => gz_bd (m_hasMost N V v1 v5) (fun r14 => gz_let (if r14 = 0 then v4 else gz_let (v4 + 1) (fun x20 => x20)) (fun y16 => m_left_L33 N V v1 v2 n y10 y16 (v5 + 1)))))))
theorem w_m_left_L33 {X : gz_X} {ad : gz_A0} (hX : gz_ok X cX6_left RX6 "left" 6 rm_left (some .int)) (hZ : gz_Z X) {N : Nat} {V : gz_V} {v1 : Int32} {v2 : Int32} {o3 : Int32} {o4 : Int32} (k : gW X 6 tw_S tw_R ad V 0 0 80 [(2, .int v2), (3, .int o3), (4, .int o4)] []) : ∀ (n : Nat) {v3 : Int32} {v4 : Int32} {v5 : Int32}, m_left_L33 N V v1 v2 n v3 v4 v5 = some (o3, o4) → gW X 6 tw_S tw_R ad V 0 0 33 [(0, .ref (ad (1, 0, 0))), (1, .int v1), (2, .int v2), (3, .int v3), (4, .int v4), (5, .int v5)] [] := by
  intro n
  induction n with
  | zero => intro v3 v4 v5 h; rw [m_left_L33] at h; cases h
  | succ n ih =>
    intro v3 v4 v5 h
    rw [m_left_L33] at h
    refine gz_iload (q := 5) hX dX6_left_33 rfl ?_
    refine gz_iconst (v := 5) hX dX6_left_35 gk_c_5 ?_
    refine gz_icmp_ge (tgt := 80) hX dX6_left_36 (by decide) (fun c5 => ?_) (fun c5 => ?_)
    · have h := gz_ifp c5 h
      obtain ⟨rfl, rfl⟩ := gz_in2 h
      exact gz_lv [2, 3, 4] rfl k
    · have h := gz_ifn c5 h
      refine gz_aload_n (q := 0) hX dX6_left_39 rfl rfl ?_
      refine gz_iload_n (q := 1) hX dX6_left_40 rfl rfl ?_
      refine gz_iload (q := 5) hX dX6_left_41 rfl ?_
      obtain ⟨r6, e7, h⟩ := gz_bd_o h
      refine tc_V (As := [.int v1, .int v5]) hX (c_traitOf e7) (lw_traitOf_ q1896) rfl rfl nn_traitOf ⟨Nat.le_of_ble_eq_true rfl, Nat.le_of_ble_eq_true rfl⟩ rfl rfl (Nat.le_of_ble_eq_true rfl) dX6_left_43 rfl ?_
      refine gz_aload_n (q := 0) hX dX6_left_46 rfl rfl ?_
      refine gz_iload_n (q := 1) hX dX6_left_47 rfl rfl ?_
      refine gz_iload_n (q := 3) hX dX6_left_48 rfl rfl ?_
      obtain ⟨r8, e9, h⟩ := gz_bd_o h
      refine tc_V (As := [.int v1, .int v3]) hX (c_traitOf e9) (lw_traitOf_ q1896) rfl rfl nn_traitOf ⟨Nat.le_of_ble_eq_true rfl, Nat.le_of_ble_eq_true rfl⟩ rfl rfl (Nat.le_of_ble_eq_true rfl) dX6_left_49 rfl ?_
      obtain ⟨y10, g11, h⟩ := gz_let_o h
      have J12 : gW X 6 tw_S tw_R ad V 0 0 58 [(0, .ref (ad (1, 0, 0))), (1, .int v1), (2, .int v2), (3, .int y10), (4, .int v4), (5, .int v5)] [] := by
        refine gz_aload_n (q := 0) hX dX6_left_58 rfl rfl ?_
        refine gz_iload_n (q := 1) hX dX6_left_59 rfl rfl ?_
        refine gz_iload (q := 5) hX dX6_left_60 rfl ?_
        obtain ⟨r14, e15, h⟩ := gz_bd_o h
        refine tc_V (As := [.int v1, .int v5]) hX (c_hasMost e15) (lw_hasMost_ q2164) rfl rfl nn_hasMost ⟨Nat.le_of_ble_eq_true rfl, Nat.le_of_ble_eq_true rfl⟩ rfl rfl (Nat.le_of_ble_eq_true rfl) dX6_left_62 rfl ?_
        obtain ⟨y16, g17, h⟩ := gz_let_o h
        have J18 : gW X 6 tw_S tw_R ad V 0 0 74 [(0, .ref (ad (1, 0, 0))), (1, .int v1), (2, .int v2), (3, .int y10), (4, .int y16), (5, .int v5)] [] := by
          refine gz_iinc (q := 5) (lv2 := [(5, .int (v5 + 1)), (0, .ref (ad (1, 0, 0))), (1, .int v1), (2, .int v2), (3, .int y10), (4, .int y16)]) hX dX6_left_74 rfl gk_c_1 (by decide) rfl ?_
          refine gz_goto (tgt := 33) hX dX6_left_77 (by decide) ?_
          exact gz_lv [1, 2, 3, 4, 5, 0] rfl (ih h)
        refine gz_if_eq (tgt := 74) hX dX6_left_65 (by decide) (fun c19 => ?_) (fun c19 => ?_)
        · have g17 := gz_ifp c19 g17
          obtain rfl := g17
          exact gz_lv [0, 1, 2, 3, 4, 5] rfl J18
        · have g17 := gz_ifn c19 g17
          refine gz_iload (q := 4) hX dX6_left_68 rfl ?_
          refine gz_iconst (v := 1) hX dX6_left_70 gk_c_1 ?_
          refine gz_iadd hX dX6_left_71 ?_
          obtain ⟨x20, e21, g17⟩ := gz_let_o g17
          refine gz_nm e21 ?_
          refine gz_istore (lv2 := [(4, .int x20), (0, .ref (ad (1, 0, 0))), (1, .int v1), (2, .int v2), (3, .int y10), (5, .int v5)]) hX dX6_left_72 (by decide) rfl ?_
          obtain rfl := g17
          exact gz_lv [1, 2, 3, 4, 0, 5] rfl J18
      refine gz_icmp_le (tgt := 58) hX dX6_left_52 (by decide) (fun c13 => ?_) (fun c13 => ?_)
      · have g11 := gz_ifp c13 g11
        obtain rfl := g11
        exact gz_lv [0, 1, 2, 3, 4, 5] rfl J12
      · have g11 := gz_ifn c13 g11
        refine gz_iload (q := 5) hX dX6_left_55 rfl ?_
        refine gz_istore_n (lv2 := [(3, .int v5), (0, .ref (ad (1, 0, 0))), (1, .int v1), (2, .int v2), (4, .int v4), (5, .int v5)]) hX dX6_left_57 rfl (by decide) rfl ?_
        obtain rfl := g11
        exact gz_lv [1, 2, 3, 0, 4, 5] rfl J12
noncomputable def m_left (N : Nat) (V : gz_V) (a1 : Int32) (a2 : Int32) : Option (gz_V × Int32) := gz_let (gz_up V (1, 0, 0) 0 0) (fun V1 => (if (m_isPerson V1 a1) = 0 then some (V1, (-1)) else (if (m_isIn a2 0 1) = 0 then some (V1, (-1)) else gz_b2 (m_left_L33 N V1 a1 a2 N 0 0 0) (fun x5 x6 => (if a2 = 0 then some (V1, x5) else some (V1, x6))))))
theorem c_left {l : Launch} {D : va_G} {aC : Nat → ClassId} {ad : gz_A0} {N : Nat} {V : gz_V} {a1 : Int32} {a2 : Int32} {W1 : gz_V} {r : Int32} (h : m_left N V a1 a2 = some (W1, r)) : gz_Met l yX6_left cX6_left 6 (some .int) rm_left D aC ad tw_S V tw_R [.ref (ad (1, 0, 0)), .int a1, .int a2] (gz_F1 tw_S tw_R ad W1 (some (.int r))) 0 0 := by
  refine gt_ofW (own := RX6) (mn := "left") (lv := [(0, .ref (ad (1, 0, 0))), (1, .int a1), (2, .int a2)]) (by decide) rfl rfl (Nat.le_of_ble_eq_true rfl) rfl ?_
  intro X hX hZ hF
  rw [m_left] at h
  refine gz_aload_n (q := 0) hX dX6_left_0 rfl rfl ?_
  refine gz_iconst (v := 0) hX dX6_left_1 gk_c_0 ?_
  obtain ⟨V1, e2, h⟩ := gz_let_o h
  refine tp_told hX dX6_left_2 e2 ?_
  refine gz_aload_n (q := 0) hX dX6_left_5 rfl rfl ?_
  refine gz_iload_n (q := 1) hX dX6_left_6 rfl rfl ?_
  refine tc_V (As := [.int a1]) hX (c_isPerson rfl) (lw_isPerson_ q1708) rfl rfl nn_isPerson ⟨Nat.le_of_ble_eq_true rfl, Nat.le_of_ble_eq_true rfl⟩ rfl rfl (Nat.le_of_ble_eq_true rfl) dX6_left_7 rfl ?_
  refine gz_if_eq (tgt := 23) hX dX6_left_10 (by decide) (fun c3 => ?_) (fun c3 => ?_)
  · have h := gz_ifp c3 h
    refine gz_iconst (v := (-1)) hX dX6_left_23 gk_c_m1 ?_
    obtain ⟨e1, e2⟩ := gz_in2 h
    exact gt_iret hX hZ hF e1 e2 dX6_left_24
  · have h := gz_ifn c3 h
    refine gz_aload_n (q := 0) hX dX6_left_13 rfl rfl ?_
    refine gz_iload_n (q := 2) hX dX6_left_14 rfl rfl ?_
    refine gz_iconst (v := 0) hX dX6_left_15 gk_c_0 ?_
    refine gz_iconst (v := 1) hX dX6_left_16 gk_c_1 ?_
    refine tc_V (As := [.int a2, .int 0, .int 1]) hX (c_isIn rfl) (lw_isIn_ q1692) rfl rfl nn_isIn ⟨Nat.le_of_ble_eq_true rfl, Nat.le_of_ble_eq_true rfl⟩ rfl rfl (Nat.le_of_ble_eq_true rfl) dX6_left_17 rfl ?_
    refine gz_if_ne (tgt := 25) hX dX6_left_20 (by decide) (fun c4 => ?_) (fun c4 => ?_)
    · have h := gz_ifn c4 h
      refine gz_iconst (v := 0) hX dX6_left_25 gk_c_0 ?_
      refine gz_istore_n (lv2 := [(3, .int 0), (0, .ref (ad (1, 0, 0))), (1, .int a1), (2, .int a2)]) hX dX6_left_26 rfl (by decide) rfl ?_
      refine gz_iconst (v := 0) hX dX6_left_27 gk_c_0 ?_
      refine gz_istore (lv2 := [(4, .int 0), (3, .int 0), (0, .ref (ad (1, 0, 0))), (1, .int a1), (2, .int a2)]) hX dX6_left_28 (by decide) rfl ?_
      refine gz_iconst (v := 0) hX dX6_left_30 gk_c_0 ?_
      refine gz_istore (lv2 := [(5, .int 0), (4, .int 0), (3, .int 0), (0, .ref (ad (1, 0, 0))), (1, .int a1), (2, .int a2)]) hX dX6_left_31 (by decide) rfl ?_
      obtain ⟨x5, x6, e7, h⟩ := gz_b2_o h
      refine gz_lv [3, 4, 5, 2, 1, 0] rfl (w_m_left_L33 hX hZ ?_ N e7)
      refine gz_iload_n (q := 0) hX dX6_left_80 rfl rfl ?_
      refine gz_if_ne (tgt := 88) hX dX6_left_81 (by decide) (fun c8 => ?_) (fun c8 => ?_)
      · have h := gz_ifn c8 h
        refine gz_iload (q := 2) hX dX6_left_88 rfl ?_
        obtain ⟨e1, e2⟩ := gz_in2 h
        exact gt_iret hX hZ hF e1 e2 dX6_left_90
      · have h := gz_ifp c8 h
        refine gz_iload_n (q := 1) hX dX6_left_84 rfl rfl ?_
        refine gz_goto (tgt := 90) hX dX6_left_85 (by decide) ?_
        obtain ⟨e1, e2⟩ := gz_in2 h
        exact gt_iret hX hZ hF e1 e2 dX6_left_90
    · have h := gz_ifp c4 h
      refine gz_iconst (v := (-1)) hX dX6_left_23 gk_c_m1 ?_
      obtain ⟨e1, e2⟩ := gz_in2 h
      exact gt_iret hX hZ hF e1 e2 dX6_left_24
theorem lw_left_ {i : Nat} (hl : Cond.methodLink RX6 i yX6_left ∈ lw_all) : GoodIn lw_all (wsV RX6 i RX6 yX6_left (ws_ yX6_left cX6_left 6 (some .int))) := lw_V hl q2161 q2162 q153 q2163
theorem nn_left : yX6_left.cls = RX6 ∧ yX6_left.cls ≠ "java/lang/invoke/MethodHandle" ∧ yX6_left.cls ≠ "java/lang/invoke/VarHandle" ∧ (parseMethodDescriptor yX6_left.desc).map (fun d => d.parameters.length) = some 2 := by decide +kernel
def rm_look : Room := { frames := 0, cells := 0, slots := 0, locals := 0 }
noncomputable def m_look (V : gz_V) (a1 : Int32) : Option (gz_V × Int32) := gz_let (gz_up V (1, 0, 0) 0 0) (fun V1 => (if a1 = 0 then some (V1, (V1 (1, 0, 0) 6)) else (if a1 = 1 then some (V1, (V1 (1, 0, 0) 7)) else (if a1 = 2 then some (V1, (V1 (2, 1, 0) (3 : Int32).toNatClampNeg)) else (if a1 = 3 then some (V1, (V1 (2, 1, 0) (4 : Int32).toNatClampNeg)) else (if a1 = 4 then some (V1, (V1 (2, 1, 0) (0 : Int32).toNatClampNeg)) else (if a1 = 5 then some (V1, (V1 (2, 1, 0) (2 : Int32).toNatClampNeg)) else (if a1 = 6 then some (V1, (V1 (2, 1, 0) (1 : Int32).toNatClampNeg)) else (if a1 = 7 then some (V1, (V1 (2, 18, 0) (0 : Int32).toNatClampNeg)) else (if a1 = 8 then some (V1, (V1 (1, 0, 0) 34)) else (if a1 = 9 then some (V1, (V1 (1, 0, 0) 36)) else (if a1 = 10 then some (V1, (V1 (1, 0, 0) 38)) else (if a1 = 11 then some (V1, (V1 (1, 0, 0) 3)) else some (V1, (-1)))))))))))))))
theorem c_look {l : Launch} {D : va_G} {aC : Nat → ClassId} {ad : gz_A0} {V : gz_V} {a1 : Int32} {W1 : gz_V} {r : Int32} (h : m_look V a1 = some (W1, r)) : gz_Met l yX6_look cX6_look 2 (some .int) rm_look D aC ad tw_S V tw_R [.ref (ad (1, 0, 0)), .int a1] (gz_F1 tw_S tw_R ad W1 (some (.int r))) 0 0 := by
  refine gt_ofW (own := RX6) (mn := "look") (lv := [(0, .ref (ad (1, 0, 0))), (1, .int a1)]) (by decide) rfl rfl (Nat.le_of_ble_eq_true rfl) rfl ?_
  intro X hX hZ hF
  rw [m_look] at h
  refine gz_aload_n (q := 0) hX dX6_look_0 rfl rfl ?_
  refine gz_iconst (v := 0) hX dX6_look_1 gk_c_0 ?_
  obtain ⟨V1, e2, h⟩ := gz_let_o h
  refine tp_told hX dX6_look_2 e2 ?_
  refine gz_iload_n (q := 1) hX dX6_look_5 rfl rfl ?_
  refine gz_if_ne (tgt := 14) hX dX6_look_6 (by decide) (fun c3 => ?_) (fun c3 => ?_)
  · have h := gz_ifn c3 h
    refine gz_iload_n (q := 1) hX dX6_look_14 rfl rfl ?_
    refine gz_iconst (v := 1) hX dX6_look_15 gk_c_1 ?_
    refine gz_icmp_ne (tgt := 24) hX dX6_look_16 (by decide) (fun c4 => ?_) (fun c4 => ?_)
    · have h := gz_ifn c4 h
      refine gz_iload_n (q := 1) hX dX6_look_24 rfl rfl ?_
      refine gz_iconst (v := 2) hX dX6_look_25 gk_c_2 ?_
      refine gz_icmp_ne (tgt := 36) hX dX6_look_26 (by decide) (fun c5 => ?_) (fun c5 => ?_)
      · have h := gz_ifn c5 h
        refine gz_iload_n (q := 1) hX dX6_look_36 rfl rfl ?_
        refine gz_iconst (v := 3) hX dX6_look_37 gk_c_3 ?_
        refine gz_icmp_ne (tgt := 48) hX dX6_look_38 (by decide) (fun c6 => ?_) (fun c6 => ?_)
        · have h := gz_ifn c6 h
          refine gz_iload_n (q := 1) hX dX6_look_48 rfl rfl ?_
          refine gz_iconst (v := 4) hX dX6_look_49 gk_c_4 ?_
          refine gz_icmp_ne (tgt := 60) hX dX6_look_50 (by decide) (fun c7 => ?_) (fun c7 => ?_)
          · have h := gz_ifn c7 h
            refine gz_iload_n (q := 1) hX dX6_look_60 rfl rfl ?_
            refine gz_iconst (v := 5) hX dX6_look_61 gk_c_5 ?_
            refine gz_icmp_ne (tgt := 72) hX dX6_look_62 (by decide) (fun c8 => ?_) (fun c8 => ?_)
            · have h := gz_ifn c8 h
              refine gz_iload_n (q := 1) hX dX6_look_72 rfl rfl ?_
              refine gz_bipush (v := 6) hX dX6_look_73 gk_b_6 ?_
              refine gz_icmp_ne (tgt := 85) hX dX6_look_75 (by decide) (fun c9 => ?_) (fun c9 => ?_)
              · have h := gz_ifn c9 h
                refine gz_iload_n (q := 1) hX dX6_look_85 rfl rfl ?_
                refine gz_bipush (v := 7) hX dX6_look_86 gk_b_7 ?_
                refine gz_icmp_ne (tgt := 98) hX dX6_look_88 (by decide) (fun c10 => ?_) (fun c10 => ?_)
                · have h := gz_ifn c10 h
                  refine gz_iload_n (q := 1) hX dX6_look_98 rfl rfl ?_
                  refine gz_bipush (v := 8) hX dX6_look_99 gk_b_8 ?_
                  refine gz_icmp_ne (tgt := 109) hX dX6_look_101 (by decide) (fun c11 => ?_) (fun c11 => ?_)
                  · have h := gz_ifn c11 h
                    refine gz_iload_n (q := 1) hX dX6_look_109 rfl rfl ?_
                    refine gz_bipush (v := 9) hX dX6_look_110 gk_b_9 ?_
                    refine gz_icmp_ne (tgt := 120) hX dX6_look_112 (by decide) (fun c12 => ?_) (fun c12 => ?_)
                    · have h := gz_ifn c12 h
                      refine gz_iload_n (q := 1) hX dX6_look_120 rfl rfl ?_
                      refine gz_bipush (v := 10) hX dX6_look_121 gk_b_10 ?_
                      refine gz_icmp_ne (tgt := 131) hX dX6_look_123 (by decide) (fun c13 => ?_) (fun c13 => ?_)
                      · have h := gz_ifn c13 h
                        refine gz_iload_n (q := 1) hX dX6_look_131 rfl rfl ?_
                        refine gz_bipush (v := 11) hX dX6_look_132 gk_b_11 ?_
                        refine gz_icmp_ne (tgt := 144) hX dX6_look_134 (by decide) (fun c14 => ?_) (fun c14 => ?_)
                        · have h := gz_ifn c14 h
                          refine gz_iconst (v := (-1)) hX dX6_look_144 gk_c_m1 ?_
                          obtain ⟨e1, e2⟩ := gz_in2 h
                          exact gt_iret hX hZ hF e1 e2 dX6_look_145
                        · have h := gz_ifp c14 h
                          refine gz_aload_n (q := 0) hX dX6_look_137 rfl rfl ?_
                          refine tg_undoable hX dX6_look_138 ?_
                          refine gz_goto (tgt := 145) hX dX6_look_141 (by decide) ?_
                          obtain ⟨e1, e2⟩ := gz_in2 h
                          exact gt_iret hX hZ hF e1 e2 dX6_look_145
                      · have h := gz_ifp c13 h
                        refine gz_aload_n (q := 0) hX dX6_look_126 rfl rfl ?_
                        refine tg_kinMany hX dX6_look_127 ?_
                        obtain ⟨e1, e2⟩ := gz_in2 h
                        exact gt_iret hX hZ hF e1 e2 dX6_look_130
                    · have h := gz_ifp c12 h
                      refine gz_aload_n (q := 0) hX dX6_look_115 rfl rfl ?_
                      refine tg_deedMany hX dX6_look_116 ?_
                      obtain ⟨e1, e2⟩ := gz_in2 h
                      exact gt_iret hX hZ hF e1 e2 dX6_look_119
                  · have h := gz_ifp c11 h
                    refine gz_aload_n (q := 0) hX dX6_look_104 rfl rfl ?_
                    refine tg_offerMany hX dX6_look_105 ?_
                    obtain ⟨e1, e2⟩ := gz_in2 h
                    exact gt_iret hX hZ hF e1 e2 dX6_look_108
                · have h := gz_ifp c10 h
                  refine gz_aload_n (q := 0) hX dX6_look_91 rfl rfl ?_
                  refine tg_lineMany hX dX6_look_92 ?_
                  refine gz_iconst (v := 0) hX dX6_look_95 gk_c_0 ?_
                  refine gz_iald (L := 2) hX tw_S18 (gz_inb_o (by decide)) dX6_look_96 ?_
                  obtain ⟨e1, e2⟩ := gz_in2 h
                  exact gt_iret hX hZ hF e1 e2 dX6_look_97
              · have h := gz_ifp c9 h
                refine gz_aload_n (q := 0) hX dX6_look_78 rfl rfl ?_
                refine tg_now hX dX6_look_79 ?_
                refine gz_iconst (v := 1) hX dX6_look_82 gk_c_1 ?_
                refine gz_iald (L := 121) hX tw_S1 (gz_inb_o (by decide)) dX6_look_83 ?_
                obtain ⟨e1, e2⟩ := gz_in2 h
                exact gt_iret hX hZ hF e1 e2 dX6_look_84
            · have h := gz_ifp c8 h
              refine gz_aload_n (q := 0) hX dX6_look_65 rfl rfl ?_
              refine tg_now hX dX6_look_66 ?_
              refine gz_iconst (v := 2) hX dX6_look_69 gk_c_2 ?_
              refine gz_iald (L := 121) hX tw_S1 (gz_inb_o (by decide)) dX6_look_70 ?_
              obtain ⟨e1, e2⟩ := gz_in2 h
              exact gt_iret hX hZ hF e1 e2 dX6_look_71
          · have h := gz_ifp c7 h
            refine gz_aload_n (q := 0) hX dX6_look_53 rfl rfl ?_
            refine tg_now hX dX6_look_54 ?_
            refine gz_iconst (v := 0) hX dX6_look_57 gk_c_0 ?_
            refine gz_iald (L := 121) hX tw_S1 (gz_inb_o (by decide)) dX6_look_58 ?_
            obtain ⟨e1, e2⟩ := gz_in2 h
            exact gt_iret hX hZ hF e1 e2 dX6_look_59
        · have h := gz_ifp c6 h
          refine gz_aload_n (q := 0) hX dX6_look_41 rfl rfl ?_
          refine tg_now hX dX6_look_42 ?_
          refine gz_iconst (v := 4) hX dX6_look_45 gk_c_4 ?_
          refine gz_iald (L := 121) hX tw_S1 (gz_inb_o (by decide)) dX6_look_46 ?_
          obtain ⟨e1, e2⟩ := gz_in2 h
          exact gt_iret hX hZ hF e1 e2 dX6_look_47
      · have h := gz_ifp c5 h
        refine gz_aload_n (q := 0) hX dX6_look_29 rfl rfl ?_
        refine tg_now hX dX6_look_30 ?_
        refine gz_iconst (v := 3) hX dX6_look_33 gk_c_3 ?_
        refine gz_iald (L := 121) hX tw_S1 (gz_inb_o (by decide)) dX6_look_34 ?_
        obtain ⟨e1, e2⟩ := gz_in2 h
        exact gt_iret hX hZ hF e1 e2 dX6_look_35
    · have h := gz_ifp c4 h
      refine gz_aload_n (q := 0) hX dX6_look_19 rfl rfl ?_
      refine tg_horses hX dX6_look_20 ?_
      obtain ⟨e1, e2⟩ := gz_in2 h
      exact gt_iret hX hZ hF e1 e2 dX6_look_23
  · have h := gz_ifp c3 h
    refine gz_aload_n (q := 0) hX dX6_look_9 rfl rfl ?_
    refine tg_people hX dX6_look_10 ?_
    obtain ⟨e1, e2⟩ := gz_in2 h
    exact gt_iret hX hZ hF e1 e2 dX6_look_13
theorem lw_look_ {i : Nat} (hl : Cond.methodLink RX6 i yX6_look ∈ lw_all) : GoodIn lw_all (wsV RX6 i RX6 yX6_look (ws_ yX6_look cX6_look 2 (some .int))) := lw_V hl q2205 q2206 q153 q2207
theorem nn_look : yX6_look.cls = RX6 ∧ yX6_look.cls ≠ "java/lang/invoke/MethodHandle" ∧ yX6_look.cls ≠ "java/lang/invoke/VarHandle" ∧ (parseMethodDescriptor yX6_look.desc).map (fun d => d.parameters.length) = some 1 := by decide +kernel
