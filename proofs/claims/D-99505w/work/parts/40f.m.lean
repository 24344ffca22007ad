/-! THE TWIN, walked. Printed by wip/D-99505w/gen/mkx6.py -/
set_option maxRecDepth 100000
def rm_number : Room := { frames := 1, cells := 0, slots := 0, locals := 23 }
noncomputable def m_number (V : gz_V) (a1 : Int32) : Option (gz_V × Int32) := gz_let (gz_up V (1, 0, 0) 0 0) (fun V1 => (if a1 = (-1) then gz_let (gz_up V1 (1, 0, 0) 51 0) (fun V11 => some (V11, 0)) else (if (m_isIn a1 0 8) = 0 then some (V1, (-1)) else (if (V1 (1, 0, 0) 51) = 9 then some (V1, (-1)) else gz_gd (gz_inb (V1 (1, 0, 0) 51) 9 = true) (gz_let (gz_up V1 (2, 52, 0) (V1 (1, 0, 0) 51).toNatClampNeg a1) (fun V7 => gz_let (gz_up V7 (1, 0, 0) 51 ((V7 (1, 0, 0) 51) + 1)) (fun V9 => some (V9, (V9 (1, 0, 0) 51)))))))))
theorem c_number {l : Launch} {D : va_G} {aC : Nat → ClassId} {ad : gz_A0} {V : gz_V} {a1 : Int32} {W1 : gz_V} {r : Int32} (h : m_number V a1 = some (W1, r)) : gz_Met l yX6_number cX6_number 2 (some .int) rm_number D aC ad tw_S V tw_R [.ref (ad (1, 0, 0)), .int a1] (gz_F1 tw_S tw_R ad W1 (some (.int r))) 0 0 := by
  refine gt_ofW (own := RX6) (mn := "number") (lv := [(0, .ref (ad (1, 0, 0))), (1, .int a1)]) (by decide) rfl rfl (Nat.le_of_ble_eq_true rfl) rfl ?_
  intro X hX hZ hF
  rw [m_number] at h
  refine gz_aload_n (q := 0) hX dX6_number_0 rfl rfl ?_
  refine gz_iconst (v := 0) hX dX6_number_1 gk_c_0 ?_
  obtain ⟨V1, e2, h⟩ := gz_let_o h
  refine tp_told hX dX6_number_2 e2 ?_
  refine gz_iload_n (q := 1) hX dX6_number_5 rfl rfl ?_
  refine gz_iconst (v := (-1)) hX dX6_number_6 gk_c_m1 ?_
  refine gz_icmp_ne (tgt := 17) hX dX6_number_7 (by decide) (fun c3 => ?_) (fun c3 => ?_)
  · have h := gz_ifn c3 h
    refine gz_aload_n (q := 0) hX dX6_number_17 rfl rfl ?_
    refine gz_iload_n (q := 1) hX dX6_number_18 rfl rfl ?_
    refine gz_iconst (v := 0) hX dX6_number_19 gk_c_0 ?_
    refine gz_bipush (v := 8) hX dX6_number_20 gk_b_8 ?_
    refine tc_V (As := [.int a1, .int 0, .int 8]) hX (c_isIn rfl) (lw_isIn_ q1692) rfl rfl nn_isIn ⟨Nat.le_of_ble_eq_true rfl, Nat.le_of_ble_eq_true rfl⟩ rfl rfl (Nat.le_of_ble_eq_true rfl) dX6_number_22 rfl ?_
    refine gz_if_eq (tgt := 37) hX dX6_number_25 (by decide) (fun c4 => ?_) (fun c4 => ?_)
    · have h := gz_ifp c4 h
      refine gz_iconst (v := (-1)) hX dX6_number_37 gk_c_m1 ?_
      obtain ⟨e1, e2⟩ := gz_in2 h
      exact gt_iret hX hZ hF e1 e2 dX6_number_38
    · have h := gz_ifn c4 h
      refine gz_aload_n (q := 0) hX dX6_number_28 rfl rfl ?_
      refine tg_numberMany hX dX6_number_29 ?_
      refine gz_bipush (v := 9) hX dX6_number_32 gk_b_9 ?_
      refine gz_icmp_ne (tgt := 39) hX dX6_number_34 (by decide) (fun c5 => ?_) (fun c5 => ?_)
      · have h := gz_ifn c5 h
        refine gz_aload_n (q := 0) hX dX6_number_39 rfl rfl ?_
        refine tg_numbers hX dX6_number_40 ?_
        refine gz_aload_n (q := 0) hX dX6_number_43 rfl rfl ?_
        refine tg_numberMany hX dX6_number_44 ?_
        refine gz_iload_n (q := 1) hX dX6_number_47 rfl rfl ?_
        obtain ⟨b6, h⟩ := gz_gd_o h
        obtain ⟨V7, e8, h⟩ := gz_let_o h
        refine gz_iast (L := 9) hX tw_S52 (by decide) (gz_inb_o b6) dX6_number_48 e8 ?_
        refine gz_aload_n (q := 0) hX dX6_number_49 rfl rfl ?_
        refine gz_aload_n (q := 0) hX dX6_number_50 rfl rfl ?_
        refine tg_numberMany hX dX6_number_51 ?_
        refine gz_iconst (v := 1) hX dX6_number_54 gk_c_1 ?_
        refine gz_iadd hX dX6_number_55 ?_
        obtain ⟨V9, e10, h⟩ := gz_let_o h
        refine tp_numberMany hX dX6_number_56 e10 ?_
        refine gz_aload_n (q := 0) hX dX6_number_59 rfl rfl ?_
        refine tg_numberMany hX dX6_number_60 ?_
        obtain ⟨e1, e2⟩ := gz_in2 h
        exact gt_iret hX hZ hF e1 e2 dX6_number_63
      · have h := gz_ifp c5 h
        refine gz_iconst (v := (-1)) hX dX6_number_37 gk_c_m1 ?_
        obtain ⟨e1, e2⟩ := gz_in2 h
        exact gt_iret hX hZ hF e1 e2 dX6_number_38
  · have h := gz_ifp c3 h
    refine gz_aload_n (q := 0) hX dX6_number_10 rfl rfl ?_
    refine gz_iconst (v := 0) hX dX6_number_11 gk_c_0 ?_
    obtain ⟨V11, e12, h⟩ := gz_let_o h
    refine tp_numberMany hX dX6_number_12 e12 ?_
    refine gz_iconst (v := 0) hX dX6_number_15 gk_c_0 ?_
    obtain ⟨e1, e2⟩ := gz_in2 h
    exact gt_iret hX hZ hF e1 e2 dX6_number_16
theorem lw_number_ {i : Nat} (hl : Cond.methodLink RX6 i yX6_number ∈ lw_all) : GoodIn lw_all (wsV RX6 i RX6 yX6_number (ws_ yX6_number cX6_number 2 (some .int))) := lw_V hl q2059 q2060 q153 q2061
theorem nn_number : yX6_number.cls = RX6 ∧ yX6_number.cls ≠ "java/lang/invoke/MethodHandle" ∧ yX6_number.cls ≠ "java/lang/invoke/VarHandle" ∧ (parseMethodDescriptor yX6_number.desc).map (fun d => d.parameters.length) = some 1 := by decide +kernel
def rm_of : Room := { frames := 1, cells := 0, slots := 0, locals := 23 }
noncomputable def m_of (V : gz_V) (a1 : Int32) (a2 : Int32) : Option (gz_V × Int32) := gz_let (gz_up V (1, 0, 0) 0 0) (fun V1 => (if (m_isPerson V1 a1) = 0 then some (V1, (-1)) else (if (m_isIn a2 0 4) = 0 then (if a2 = 5 then gz_gd (gz_inb (65 + a1) 121 = true) (some (V1, (V1 (2, 1, 0) (65 + a1).toNatClampNeg))) else (if a2 = 6 then gz_gd (gz_inb (77 + a1) 121 = true) (some (V1, (V1 (2, 1, 0) (77 + a1).toNatClampNeg))) else (if a2 = 7 then gz_gd (gz_inb (89 + a1) 121 = true) (some (V1, (V1 (2, 1, 0) (89 + a1).toNatClampNeg))) else (if a2 = 8 then gz_gd (gz_inb a1 24 = true) (some (V1, (V1 (2, 39, 0) a1.toNatClampNeg))) else some (V1, (-1)))))) else gz_bd (m_traitOf V1 a1 a2) (fun r13 => some (V1, r13)))))
theorem c_of {l : Launch} {D : va_G} {aC : Nat → ClassId} {ad : gz_A0} {V : gz_V} {a1 : Int32} {a2 : Int32} {W1 : gz_V} {r : Int32} (h : m_of V a1 a2 = some (W1, r)) : gz_Met l yX6_of cX6_of 3 (some .int) rm_of D aC ad tw_S V tw_R [.ref (ad (1, 0, 0)), .int a1, .int a2] (gz_F1 tw_S tw_R ad W1 (some (.int r))) 0 0 := by
  refine gt_ofW (own := RX6) (mn := "of") (lv := [(0, .ref (ad (1, 0, 0))), (1, .int a1), (2, .int a2)]) (by decide) rfl rfl (Nat.le_of_ble_eq_true rfl) rfl ?_
  intro X hX hZ hF
  rw [m_of] at h
  refine gz_aload_n (q := 0) hX dX6_of_0 rfl rfl ?_
  refine gz_iconst (v := 0) hX dX6_of_1 gk_c_0 ?_
  obtain ⟨V1, e2, h⟩ := gz_let_o h
  refine tp_told hX dX6_of_2 e2 ?_
  refine gz_aload_n (q := 0) hX dX6_of_5 rfl rfl ?_
  refine gz_iload_n (q := 1) hX dX6_of_6 rfl rfl ?_
  refine tc_V (As := [.int a1]) hX (c_isPerson rfl) (lw_isPerson_ q1708) rfl rfl nn_isPerson ⟨Nat.le_of_ble_eq_true rfl, Nat.le_of_ble_eq_true rfl⟩ rfl rfl (Nat.le_of_ble_eq_true rfl) dX6_of_7 rfl ?_
  refine gz_if_ne (tgt := 15) hX dX6_of_10 (by decide) (fun c3 => ?_) (fun c3 => ?_)
  · have h := gz_ifn c3 h
    refine gz_aload_n (q := 0) hX dX6_of_15 rfl rfl ?_
    refine gz_iload_n (q := 2) hX dX6_of_16 rfl rfl ?_
    refine gz_iconst (v := 0) hX dX6_of_17 gk_c_0 ?_
    refine gz_iconst (v := 4) hX dX6_of_18 gk_c_4 ?_
    refine tc_V (As := [.int a2, .int 0, .int 4]) hX (c_isIn rfl) (lw_isIn_ q1692) rfl rfl nn_isIn ⟨Nat.le_of_ble_eq_true rfl, Nat.le_of_ble_eq_true rfl⟩ rfl rfl (Nat.le_of_ble_eq_true rfl) dX6_of_19 rfl ?_
    refine gz_if_eq (tgt := 32) hX dX6_of_22 (by decide) (fun c4 => ?_) (fun c4 => ?_)
    · have h := gz_ifp c4 h
      refine gz_iload_n (q := 2) hX dX6_of_32 rfl rfl ?_
      refine gz_iconst (v := 5) hX dX6_of_33 gk_c_5 ?_
      refine gz_icmp_ne (tgt := 47) hX dX6_of_34 (by decide) (fun c5 => ?_) (fun c5 => ?_)
      · have h := gz_ifn c5 h
        refine gz_iload_n (q := 2) hX dX6_of_47 rfl rfl ?_
        refine gz_bipush (v := 6) hX dX6_of_48 gk_b_6 ?_
        refine gz_icmp_ne (tgt := 63) hX dX6_of_50 (by decide) (fun c6 => ?_) (fun c6 => ?_)
        · have h := gz_ifn c6 h
          refine gz_iload_n (q := 2) hX dX6_of_63 rfl rfl ?_
          refine gz_bipush (v := 7) hX dX6_of_64 gk_b_7 ?_
          refine gz_icmp_ne (tgt := 81) hX dX6_of_66 (by decide) (fun c7 => ?_) (fun c7 => ?_)
          · have h := gz_ifn c7 h
            refine gz_iload_n (q := 2) hX dX6_of_81 rfl rfl ?_
            refine gz_bipush (v := 8) hX dX6_of_82 gk_b_8 ?_
            refine gz_icmp_ne (tgt := 96) hX dX6_of_84 (by decide) (fun c8 => ?_) (fun c8 => ?_)
            · have h := gz_ifn c8 h
              refine gz_iconst (v := (-1)) hX dX6_of_96 gk_c_m1 ?_
              obtain ⟨e1, e2⟩ := gz_in2 h
              exact gt_iret hX hZ hF e1 e2 dX6_of_97
            · have h := gz_ifp c8 h
              refine gz_aload_n (q := 0) hX dX6_of_87 rfl rfl ?_
              refine tg_kinOf hX dX6_of_88 ?_
              refine gz_iload_n (q := 1) hX dX6_of_91 rfl rfl ?_
              obtain ⟨b9, h⟩ := gz_gd_o h
              refine gz_iald (L := 24) hX tw_S39 (gz_inb_o b9) dX6_of_92 ?_
              refine gz_goto (tgt := 97) hX dX6_of_93 (by decide) ?_
              obtain ⟨e1, e2⟩ := gz_in2 h
              exact gt_iret hX hZ hF e1 e2 dX6_of_97
          · have h := gz_ifp c7 h
            refine gz_aload_n (q := 0) hX dX6_of_69 rfl rfl ?_
            refine tg_now hX dX6_of_70 ?_
            refine gz_bipush (v := 89) hX dX6_of_73 gk_b_89 ?_
            refine gz_iload_n (q := 1) hX dX6_of_75 rfl rfl ?_
            refine gz_iadd hX dX6_of_76 ?_
            obtain ⟨b10, h⟩ := gz_gd_o h
            refine gz_iald (L := 121) hX tw_S1 (gz_inb_o b10) dX6_of_77 ?_
            refine gz_goto (tgt := 97) hX dX6_of_78 (by decide) ?_
            obtain ⟨e1, e2⟩ := gz_in2 h
            exact gt_iret hX hZ hF e1 e2 dX6_of_97
        · have h := gz_ifp c6 h
          refine gz_aload_n (q := 0) hX dX6_of_53 rfl rfl ?_
          refine tg_now hX dX6_of_54 ?_
          refine gz_bipush (v := 77) hX dX6_of_57 gk_b_77 ?_
          refine gz_iload_n (q := 1) hX dX6_of_59 rfl rfl ?_
          refine gz_iadd hX dX6_of_60 ?_
          obtain ⟨b11, h⟩ := gz_gd_o h
          refine gz_iald (L := 121) hX tw_S1 (gz_inb_o b11) dX6_of_61 ?_
          obtain ⟨e1, e2⟩ := gz_in2 h
          exact gt_iret hX hZ hF e1 e2 dX6_of_62
      · have h := gz_ifp c5 h
        refine gz_aload_n (q := 0) hX dX6_of_37 rfl rfl ?_
        refine tg_now hX dX6_of_38 ?_
        refine gz_bipush (v := 65) hX dX6_of_41 gk_b_65 ?_
        refine gz_iload_n (q := 1) hX dX6_of_43 rfl rfl ?_
        refine gz_iadd hX dX6_of_44 ?_
        obtain ⟨b12, h⟩ := gz_gd_o h
        refine gz_iald (L := 121) hX tw_S1 (gz_inb_o b12) dX6_of_45 ?_
        obtain ⟨e1, e2⟩ := gz_in2 h
        exact gt_iret hX hZ hF e1 e2 dX6_of_46
    · have h := gz_ifn c4 h
      refine gz_aload_n (q := 0) hX dX6_of_25 rfl rfl ?_
      refine gz_iload_n (q := 1) hX dX6_of_26 rfl rfl ?_
      refine gz_iload_n (q := 2) hX dX6_of_27 rfl rfl ?_
      obtain ⟨r13, e14, h⟩ := gz_bd_o h
      refine tc_V (As := [.int a1, .int a2]) hX (c_traitOf e14) (lw_traitOf_ q1896) rfl rfl nn_traitOf ⟨Nat.le_of_ble_eq_true rfl, Nat.le_of_ble_eq_true rfl⟩ rfl rfl (Nat.le_of_ble_eq_true rfl) dX6_of_28 rfl ?_
      obtain ⟨e1, e2⟩ := gz_in2 h
      exact gt_iret hX hZ hF e1 e2 dX6_of_31
  · have h := gz_ifp c3 h
    refine gz_iconst (v := (-1)) hX dX6_of_13 gk_c_m1 ?_
    obtain ⟨e1, e2⟩ := gz_in2 h
    exact gt_iret hX hZ hF e1 e2 dX6_of_14
theorem lw_of_ {i : Nat} (hl : Cond.methodLink RX6 i yX6_of ∈ lw_all) : GoodIn lw_all (wsV RX6 i RX6 yX6_of (ws_ yX6_of cX6_of 3 (some .int))) := lw_V hl q1995 q1996 q153 q1997
theorem nn_of : yX6_of.cls = RX6 ∧ yX6_of.cls ≠ "java/lang/invoke/MethodHandle" ∧ yX6_of.cls ≠ "java/lang/invoke/VarHandle" ∧ (parseMethodDescriptor yX6_of.desc).map (fun d => d.parameters.length) = some 2 := by decide +kernel
def rm_partnerOf : Room := { frames := 1, cells := 0, slots := 0, locals := 22 }
noncomputable def m_partnerOf_L51 (N : Nat) (V : gz_V) (v1 : Int32) (v2 : Int32) (v3 : Int32) (v4 : Int32) : Nat → Int32 → Int32 → Option (Int32)
  | 0, _, _ => none
  | n + 1, v5, v6 => (if v6 ≤ v3 then some v5 else gz_bd (if (m_has v4 v6) = 0 then some v5 else gz_gd (gz_inb v3 24 = true) ((if (m_has (V (2, 39, 0) v3.toNatClampNeg) v6) = 0 then gz_gd (gz_inb (v4 &&& (((1 : Int32) <<< (v6 &&& 31)) ^^^ (-1))) 4096 = true) (gz_gd (gz_inb v2 4096 = true) ((if (1 + (V (2, 55, 0) (v4 &&& (((1 : Int32) <<< (v6 &&& 31)) ^^^ (-1))).toNatClampNeg)) = (V (2, 55, 0) v2.toNatClampNeg) then some v6 else some v5))) else some v5))) (fun y10 => m_partnerOf_L51 N V v1 v2 v3 v4 n y10 (v6 + (-1))))
theorem w_m_partnerOf_L51 {X : gz_X} {ad : gz_A0} (hX : gz_ok X cX6_partnerOf RX6 "partnerOf" 7 rm_partnerOf (some .int)) (hZ : gz_Z X) {N : Nat} {V : gz_V} {v1 : Int32} {v2 : Int32} {v3 : Int32} {v4 : Int32} {o5 : Int32} (k : gW X 7 tw_S tw_R ad V 0 0 118 [(0, .ref (ad (1, 0, 0))), (1, .int v1), (3, .int v3), (4, .int v4), (5, .int o5)] []) : ∀ (n : Nat) {v5 : Int32} {v6 : Int32}, m_partnerOf_L51 N V v1 v2 v3 v4 n v5 v6 = some o5 → gW X 7 tw_S tw_R ad V 0 0 51 [(0, .ref (ad (1, 0, 0))), (1, .int v1), (2, .int v2), (3, .int v3), (4, .int v4), (5, .int v5), (6, .int v6)] [] := by
  intro n
  induction n with
  | zero => intro v5 v6 h; rw [m_partnerOf_L51] at h; cases h
  | succ n ih =>
    intro v5 v6 h
    rw [m_partnerOf_L51] at h
    refine gz_iload (q := 6) hX dX6_partnerOf_51 rfl ?_
    refine gz_iload_n (q := 3) hX dX6_partnerOf_53 rfl rfl ?_
    refine gz_icmp_le (tgt := 118) hX dX6_partnerOf_54 (by decide) (fun c9 => ?_) (fun c9 => ?_)
    · have h := gz_ifp c9 h
      obtain rfl := gz_in1 h
      exact gz_lv [0, 1, 3, 4, 5] rfl k
    · have h := gz_ifn c9 h
      refine gz_aload_n (q := 0) hX dX6_partnerOf_57 rfl rfl ?_
      refine gz_iload (q := 4) hX dX6_partnerOf_58 rfl ?_
      refine gz_iload (q := 6) hX dX6_partnerOf_60 rfl ?_
      refine tc_V (As := [.int v4, .int v6]) hX (c_has rfl) (lw_has_ q1900) rfl rfl nn_has ⟨Nat.le_of_ble_eq_true rfl, Nat.le_of_ble_eq_true rfl⟩ rfl rfl (Nat.le_of_ble_eq_true rfl) dX6_partnerOf_62 rfl ?_
      obtain ⟨y10, g11, h⟩ := gz_bd_o h
      have J12 : gW X 7 tw_S tw_R ad V 0 0 112 [(0, .ref (ad (1, 0, 0))), (1, .int v1), (2, .int v2), (3, .int v3), (4, .int v4), (5, .int y10), (6, .int v6)] [] := by
        refine gz_iinc (q := 6) (lv2 := [(6, .int (v6 + (-1))), (0, .ref (ad (1, 0, 0))), (1, .int v1), (2, .int v2), (3, .int v3), (4, .int v4), (5, .int y10)]) hX dX6_partnerOf_112 rfl gk_c_m1 (by decide) rfl ?_
        refine gz_goto (tgt := 51) hX dX6_partnerOf_115 (by decide) ?_
        exact gz_lv [1, 2, 3, 4, 5, 6, 0] rfl (ih h)
      refine gz_if_eq (tgt := 112) hX dX6_partnerOf_65 (by decide) (fun c13 => ?_) (fun c13 => ?_)
      · have g11 := gz_ifp c13 g11
        obtain rfl := gz_in1 g11
        exact gz_lv [0, 1, 2, 3, 4, 5, 6] rfl J12
      · have g11 := gz_ifn c13 g11
        refine gz_aload_n (q := 0) hX dX6_partnerOf_68 rfl rfl ?_
        refine gz_aload_n (q := 0) hX dX6_partnerOf_69 rfl rfl ?_
        refine tg_kinOf hX dX6_partnerOf_70 ?_
        refine gz_iload_n (q := 3) hX dX6_partnerOf_73 rfl rfl ?_
        obtain ⟨b14, g11⟩ := gz_gd_o g11
        refine gz_iald (L := 24) hX tw_S39 (gz_inb_o b14) dX6_partnerOf_74 ?_
        refine gz_iload (q := 6) hX dX6_partnerOf_75 rfl ?_
        refine tc_V (As := [.int (V (2, 39, 0) v3.toNatClampNeg), .int v6]) hX (c_has rfl) (lw_has_ q1900) rfl rfl nn_has ⟨Nat.le_of_ble_eq_true rfl, Nat.le_of_ble_eq_true rfl⟩ rfl rfl (Nat.le_of_ble_eq_true rfl) dX6_partnerOf_77 rfl ?_
        refine gz_if_ne (tgt := 112) hX dX6_partnerOf_80 (by decide) (fun c15 => ?_) (fun c15 => ?_)
        · have g11 := gz_ifn c15 g11
          obtain rfl := gz_in1 g11
          exact gz_lv [0, 1, 2, 3, 4, 5, 6] rfl J12
        · have g11 := gz_ifp c15 g11
          refine gz_iconst (v := 1) hX dX6_partnerOf_83 gk_c_1 ?_
          refine gz_aload_n (q := 0) hX dX6_partnerOf_84 rfl rfl ?_
          refine tg_mostPairs hX dX6_partnerOf_85 ?_
          refine gz_iload (q := 4) hX dX6_partnerOf_88 rfl ?_
          refine gz_iconst (v := 1) hX dX6_partnerOf_90 gk_c_1 ?_
          refine gz_iload (q := 6) hX dX6_partnerOf_91 rfl ?_
          refine gz_ishl hX dX6_partnerOf_93 ?_
          refine gz_iconst (v := (-1)) hX dX6_partnerOf_94 gk_c_m1 ?_
          refine gz_ixor hX dX6_partnerOf_95 ?_
          refine gz_iand hX dX6_partnerOf_96 ?_
          obtain ⟨b16, g11⟩ := gz_gd_o g11
          refine gz_iald (L := 4096) hX tw_S55 (gz_inb_o b16) dX6_partnerOf_97 ?_
          refine gz_iadd hX dX6_partnerOf_98 ?_
          refine gz_aload_n (q := 0) hX dX6_partnerOf_99 rfl rfl ?_
          refine tg_mostPairs hX dX6_partnerOf_100 ?_
          refine gz_iload_n (q := 2) hX dX6_partnerOf_103 rfl rfl ?_
          obtain ⟨b17, g11⟩ := gz_gd_o g11
          refine gz_iald (L := 4096) hX tw_S55 (gz_inb_o b17) dX6_partnerOf_104 ?_
          refine gz_icmp_ne (tgt := 112) hX dX6_partnerOf_105 (by decide) (fun c18 => ?_) (fun c18 => ?_)
          · have g11 := gz_ifn c18 g11
            obtain rfl := gz_in1 g11
            exact gz_lv [0, 1, 2, 3, 4, 5, 6] rfl J12
          · have g11 := gz_ifp c18 g11
            refine gz_iload (q := 6) hX dX6_partnerOf_108 rfl ?_
            refine gz_istore (lv2 := [(5, .int v6), (0, .ref (ad (1, 0, 0))), (1, .int v1), (2, .int v2), (3, .int v3), (4, .int v4), (6, .int v6)]) hX dX6_partnerOf_110 (by decide) rfl ?_
            obtain rfl := gz_in1 g11
            exact gz_lv [1, 2, 3, 4, 5, 0, 6] rfl J12
noncomputable def m_partnerOf_L11 (N : Nat) (V : gz_V) (v1 : Int32) : Nat → Int32 → Int32 → Option ((Int32) ⊕ (Unit))
  | 0, _, _ => none
  | n + 1, v2, v3 => (if (V (1, 0, 0) 6) ≤ v3 then some (.inr ()) else (if (m_has v2 v3) = 0 then m_partnerOf_L11 N V v1 n v2 (v3 + 1) else gz_let (v2 &&& (((1 : Int32) <<< (v3 &&& 31)) ^^^ (-1))) (fun x5 => gz_let ((V (1, 0, 0) 6) - 1) (fun x7 => gz_bd (m_partnerOf_L51 N V v1 v2 v3 x5 N (-1) x7) (fun x9 => (if v3 = v1 then (if v3 = v1 then some (.inl x9) else some (.inl v3)) else (if x9 = v1 then (if x9 = (-1) then gz_let (if x9 = (-1) then x5 else (x5 &&& (((1 : Int32) <<< (x9 &&& 31)) ^^^ (-1)))) (fun y19 => m_partnerOf_L11 N V v1 n y19 (v3 + 1)) else (if v3 = v1 then some (.inl x9) else some (.inl v3))) else gz_let (if x9 = (-1) then x5 else (x5 &&& (((1 : Int32) <<< (x9 &&& 31)) ^^^ (-1)))) (fun y14 => m_partnerOf_L11 N V v1 n y14 (v3 + 1)))))))))
theorem w_m_partnerOf_L11 {X : gz_X} {ad : gz_A0} (hX : gz_ok X cX6_partnerOf RX6 "partnerOf" 7 rm_partnerOf (some .int)) (hZ : gz_Z X) {N : Nat} {V : gz_V} {v1 : Int32} {out : (Int32) ⊕ (Unit)} (hout : (∃ (r : Int32), out = .inl r ∧ gx_F X tw_S V tw_R ad (some (.int r))) ∨ (out = .inr () ∧ gW X 7 tw_S tw_R ad V 0 0 174 [] [])) : ∀ (n : Nat) {v2 : Int32} {v3 : Int32}, m_partnerOf_L11 N V v1 n v2 v3 = some out → gW X 7 tw_S tw_R ad V 0 0 11 [(0, .ref (ad (1, 0, 0))), (1, .int v1), (2, .int v2), (3, .int v3)] [] := by
  intro n
  induction n with
  | zero => intro v2 v3 h; rw [m_partnerOf_L11] at h; cases h
  | succ n ih =>
    intro v2 v3 h
    rw [m_partnerOf_L11] at h
    refine gz_iload_n (q := 3) hX dX6_partnerOf_11 rfl rfl ?_
    refine gz_aload_n (q := 0) hX dX6_partnerOf_12 rfl rfl ?_
    refine tg_people hX dX6_partnerOf_13 ?_
    refine gz_icmp_ge (tgt := 174) hX dX6_partnerOf_16 (by decide) (fun c3 => ?_) (fun c3 => ?_)
    · have h := gz_ifp c3 h
      obtain rfl := gz_in1 h
      obtain ⟨_, e0, _⟩ | ⟨e0, k⟩ := hout
      · cases e0
      · cases e0
        exact gz_lv [] rfl k
    · have h := gz_ifn c3 h
      refine gz_aload_n (q := 0) hX dX6_partnerOf_19 rfl rfl ?_
      refine gz_iload_n (q := 2) hX dX6_partnerOf_20 rfl rfl ?_
      refine gz_iload_n (q := 3) hX dX6_partnerOf_21 rfl rfl ?_
      refine tc_V (As := [.int v2, .int v3]) hX (c_has rfl) (lw_has_ q1900) rfl rfl nn_has ⟨Nat.le_of_ble_eq_true rfl, Nat.le_of_ble_eq_true rfl⟩ rfl rfl (Nat.le_of_ble_eq_true rfl) dX6_partnerOf_22 rfl ?_
      refine gz_if_ne (tgt := 31) hX dX6_partnerOf_25 (by decide) (fun c4 => ?_) (fun c4 => ?_)
      · have h := gz_ifn c4 h
        refine gz_iload_n (q := 2) hX dX6_partnerOf_31 rfl rfl ?_
        refine gz_iconst (v := 1) hX dX6_partnerOf_32 gk_c_1 ?_
        refine gz_iload_n (q := 3) hX dX6_partnerOf_33 rfl rfl ?_
        refine gz_ishl hX dX6_partnerOf_34 ?_
        refine gz_iconst (v := (-1)) hX dX6_partnerOf_35 gk_c_m1 ?_
        refine gz_ixor hX dX6_partnerOf_36 ?_
        refine gz_iand hX dX6_partnerOf_37 ?_
        obtain ⟨x5, e6, h⟩ := gz_let_o h
        refine gz_nm e6 ?_
        refine gz_istore (lv2 := [(4, .int x5), (0, .ref (ad (1, 0, 0))), (1, .int v1), (2, .int v2), (3, .int v3)]) hX dX6_partnerOf_38 (by decide) rfl ?_
        refine gz_iconst (v := (-1)) hX dX6_partnerOf_40 gk_c_m1 ?_
        refine gz_istore (lv2 := [(5, .int (-1)), (4, .int x5), (0, .ref (ad (1, 0, 0))), (1, .int v1), (2, .int v2), (3, .int v3)]) hX dX6_partnerOf_41 (by decide) rfl ?_
        refine gz_aload_n (q := 2) hX dX6_partnerOf_43 rfl rfl ?_
        refine tg_people hX dX6_partnerOf_44 ?_
        refine gz_iconst (v := 1) hX dX6_partnerOf_47 gk_c_1 ?_
        refine gz_isub hX dX6_partnerOf_48 ?_
        obtain ⟨x7, e8, h⟩ := gz_let_o h
        refine gz_nm e8 ?_
        refine gz_istore (lv2 := [(6, .int x7), (5, .int (-1)), (4, .int x5), (0, .ref (ad (1, 0, 0))), (1, .int v1), (2, .int v2), (3, .int v3)]) hX dX6_partnerOf_49 (by decide) rfl ?_
        obtain ⟨x9, e10, h⟩ := gz_bd_o h
        refine gz_lv [3, 4, 5, 6, 2, 1, 0] rfl (w_m_partnerOf_L51 hX hZ ?_ N e10)
        refine gz_iload_n (q := 2) hX dX6_partnerOf_118 rfl rfl ?_
        refine gz_iload_n (q := 1) hX dX6_partnerOf_119 rfl rfl ?_
        refine gz_icmp_eq (tgt := 135) hX dX6_partnerOf_120 (by decide) (fun c11 => ?_) (fun c11 => ?_)
        · have h := gz_ifp c11 h
          refine gz_iload_n (q := 2) hX dX6_partnerOf_135 rfl rfl ?_
          refine gz_iload_n (q := 1) hX dX6_partnerOf_136 rfl rfl ?_
          refine gz_icmp_ne (tgt := 145) hX dX6_partnerOf_137 (by decide) (fun c12 => ?_) (fun c12 => ?_)
          · have h := gz_ifn c12 h
            refine gz_iload_n (q := 2) hX dX6_partnerOf_145 rfl rfl ?_
            obtain rfl := gz_in1 h
            obtain ⟨_, e0, hF⟩ | ⟨e0, _⟩ := hout
            · cases e0
              exact gt_iret hX hZ hF rfl rfl dX6_partnerOf_146
            · cases e0
          · have h := gz_ifp c12 h
            refine gz_iload (q := 4) hX dX6_partnerOf_140 rfl ?_
            refine gz_goto (tgt := 146) hX dX6_partnerOf_142 (by decide) ?_
            obtain rfl := gz_in1 h
            obtain ⟨_, e0, hF⟩ | ⟨e0, _⟩ := hout
            · cases e0
              exact gt_iret hX hZ hF rfl rfl dX6_partnerOf_146
            · cases e0
        · have h := gz_ifn c11 h
          refine gz_iload (q := 4) hX dX6_partnerOf_123 rfl ?_
          refine gz_iload_n (q := 1) hX dX6_partnerOf_125 rfl rfl ?_
          refine gz_icmp_ne (tgt := 147) hX dX6_partnerOf_126 (by decide) (fun c13 => ?_) (fun c13 => ?_)
          · have h := gz_ifn c13 h
            refine gz_iload (q := 4) hX dX6_partnerOf_147 rfl ?_
            refine gz_iconst (v := (-1)) hX dX6_partnerOf_149 gk_c_m1 ?_
            obtain ⟨y14, g15, h⟩ := gz_let_o h
            have J16 : gW X 7 tw_S tw_R ad V 0 0 167 [(0, .ref (ad (1, 0, 0))), (1, .int v1), (3, .int v3)] [.int y14] := by
              refine gz_istore_n (lv2 := [(2, .int y14), (0, .ref (ad (1, 0, 0))), (1, .int v1), (3, .int v3)]) hX dX6_partnerOf_167 rfl (by decide) rfl ?_
              refine gz_iinc (q := 3) (lv2 := [(3, .int (v3 + 1)), (2, .int y14), (0, .ref (ad (1, 0, 0))), (1, .int v1)]) hX dX6_partnerOf_168 rfl gk_c_1 (by decide) rfl ?_
              refine gz_goto (tgt := 11) hX dX6_partnerOf_171 (by decide) ?_
              exact gz_lv [2, 3, 1, 0] rfl (ih h)
            refine gz_icmp_ne (tgt := 158) hX dX6_partnerOf_150 (by decide) (fun c17 => ?_) (fun c17 => ?_)
            · have g15 := gz_ifn c17 g15
              refine gz_iload (q := 3) hX dX6_partnerOf_158 rfl ?_
              refine gz_iconst (v := 1) hX dX6_partnerOf_160 gk_c_1 ?_
              refine gz_iload (q := 4) hX dX6_partnerOf_161 rfl ?_
              refine gz_ishl hX dX6_partnerOf_163 ?_
              refine gz_iconst (v := (-1)) hX dX6_partnerOf_164 gk_c_m1 ?_
              refine gz_ixor hX dX6_partnerOf_165 ?_
              refine gz_iand hX dX6_partnerOf_166 ?_
              obtain rfl := g15
              exact gz_lv [0, 1, 2] rfl J16
            · have g15 := gz_ifp c17 g15
              refine gz_iload (q := 3) hX dX6_partnerOf_153 rfl ?_
              refine gz_goto (tgt := 167) hX dX6_partnerOf_155 (by decide) ?_
              obtain rfl := g15
              exact gz_lv [0, 1, 2] rfl J16
          · have h := gz_ifp c13 h
            refine gz_iload (q := 4) hX dX6_partnerOf_129 rfl ?_
            refine gz_iconst (v := (-1)) hX dX6_partnerOf_131 gk_c_m1 ?_
            refine gz_icmp_eq (tgt := 147) hX dX6_partnerOf_132 (by decide) (fun c18 => ?_) (fun c18 => ?_)
            · have h := gz_ifp c18 h
              refine gz_iload (q := 4) hX dX6_partnerOf_147 rfl ?_
              refine gz_iconst (v := (-1)) hX dX6_partnerOf_149 gk_c_m1 ?_
              obtain ⟨y19, g20, h⟩ := gz_let_o h
              have J21 : gW X 7 tw_S tw_R ad V 0 0 167 [(0, .ref (ad (1, 0, 0))), (1, .int v1), (3, .int v3)] [.int y19] := by
                refine gz_istore_n (lv2 := [(2, .int y19), (0, .ref (ad (1, 0, 0))), (1, .int v1), (3, .int v3)]) hX dX6_partnerOf_167 rfl (by decide) rfl ?_
                refine gz_iinc (q := 3) (lv2 := [(3, .int (v3 + 1)), (2, .int y19), (0, .ref (ad (1, 0, 0))), (1, .int v1)]) hX dX6_partnerOf_168 rfl gk_c_1 (by decide) rfl ?_
                refine gz_goto (tgt := 11) hX dX6_partnerOf_171 (by decide) ?_
                exact gz_lv [2, 3, 1, 0] rfl (ih h)
              refine gz_icmp_ne (tgt := 158) hX dX6_partnerOf_150 (by decide) (fun c22 => ?_) (fun c22 => ?_)
              · have g20 := gz_ifn c22 g20
                refine gz_iload (q := 3) hX dX6_partnerOf_158 rfl ?_
                refine gz_iconst (v := 1) hX dX6_partnerOf_160 gk_c_1 ?_
                refine gz_iload (q := 4) hX dX6_partnerOf_161 rfl ?_
                refine gz_ishl hX dX6_partnerOf_163 ?_
                refine gz_iconst (v := (-1)) hX dX6_partnerOf_164 gk_c_m1 ?_
                refine gz_ixor hX dX6_partnerOf_165 ?_
                refine gz_iand hX dX6_partnerOf_166 ?_
                obtain rfl := g20
                exact gz_lv [0, 1, 2] rfl J21
              · have g20 := gz_ifp c22 g20
                refine gz_iload (q := 3) hX dX6_partnerOf_153 rfl ?_
                refine gz_goto (tgt := 167) hX dX6_partnerOf_155 (by decide) ?_
                obtain rfl := g20
                exact gz_lv [0, 1, 2] rfl J21
            · have h := gz_ifn c18 h
              refine gz_iload_n (q := 2) hX dX6_partnerOf_135 rfl rfl ?_
              refine gz_iload_n (q := 1) hX dX6_partnerOf_136 rfl rfl ?_
              refine gz_icmp_ne (tgt := 145) hX dX6_partnerOf_137 (by decide) (fun c23 => ?_) (fun c23 => ?_)
              · have h := gz_ifn c23 h
                refine gz_iload_n (q := 2) hX dX6_partnerOf_145 rfl rfl ?_
                obtain rfl := gz_in1 h
                obtain ⟨_, e0, hF⟩ | ⟨e0, _⟩ := hout
                · cases e0
                  exact gt_iret hX hZ hF rfl rfl dX6_partnerOf_146
                · cases e0
              · have h := gz_ifp c23 h
                refine gz_iload (q := 4) hX dX6_partnerOf_140 rfl ?_
                refine gz_goto (tgt := 146) hX dX6_partnerOf_142 (by decide) ?_
                obtain rfl := gz_in1 h
                obtain ⟨_, e0, hF⟩ | ⟨e0, _⟩ := hout
                · cases e0
                  exact gt_iret hX hZ hF rfl rfl dX6_partnerOf_146
                · cases e0
      · have h := gz_ifp c4 h
        refine gz_goto (tgt := 168) hX dX6_partnerOf_28 (by decide) ?_
        refine gz_iinc (q := 3) (lv2 := [(3, .int (v3 + 1)), (0, .ref (ad (1, 0, 0))), (1, .int v1), (2, .int v2)]) hX dX6_partnerOf_168 rfl gk_c_1 (by decide) rfl ?_
        refine gz_goto (tgt := 11) hX dX6_partnerOf_171 (by decide) ?_
        exact gz_lv [1, 2, 3, 0] rfl (ih h)
noncomputable def m_partnerOf (N : Nat) (V : gz_V) (a1 : Int32) : Option Int32 := gz_let (((1 : Int32) <<< ((V (1, 0, 0) 6) &&& 31)) - 1) (fun x1 => gz_lp (m_partnerOf_L11 N V a1 N x1 0) some (fun _ => some (-1)))
theorem c_partnerOf {l : Launch} {D : va_G} {aC : Nat → ClassId} {ad : gz_A0} {N : Nat} {V : gz_V} {a1 : Int32} {r : Int32} (h : m_partnerOf N V a1 = some r) : gz_Met l yX6_partnerOf cX6_partnerOf 7 (some .int) rm_partnerOf D aC ad tw_S V tw_R [.ref (ad (1, 0, 0)), .int a1] (gz_F1 tw_S tw_R ad V (some (.int r))) 0 0 := by
  refine gt_ofW (own := RX6) (mn := "partnerOf") (lv := [(0, .ref (ad (1, 0, 0))), (1, .int a1)]) (by decide) rfl rfl (Nat.le_of_ble_eq_true rfl) rfl ?_
  intro X hX hZ hF
  rw [m_partnerOf] at h
  refine gz_iconst (v := 1) hX dX6_partnerOf_0 gk_c_1 ?_
  refine gz_aload_n (q := 0) hX dX6_partnerOf_1 rfl rfl ?_
  refine tg_people hX dX6_partnerOf_2 ?_
  refine gz_ishl hX dX6_partnerOf_5 ?_
  refine gz_iconst (v := 1) hX dX6_partnerOf_6 gk_c_1 ?_
  refine gz_isub hX dX6_partnerOf_7 ?_
  obtain ⟨x1, e2, h⟩ := gz_let_o h
  refine gz_nm e2 ?_
  refine gz_istore_n (lv2 := [(2, .int x1), (0, .ref (ad (1, 0, 0))), (1, .int a1)]) hX dX6_partnerOf_8 rfl (by decide) rfl ?_
  refine gz_iconst (v := 0) hX dX6_partnerOf_9 gk_c_0 ?_
  refine gz_istore_n (lv2 := [(3, .int 0), (2, .int x1), (0, .ref (ad (1, 0, 0))), (1, .int a1)]) hX dX6_partnerOf_10 rfl (by decide) rfl ?_
  rcases gz_lp_o h with ⟨p4, e3, h⟩ | ⟨_, e3, h⟩
  · obtain rfl := gz_in1 h
    exact gz_lv [2, 3, 1, 0] rfl (w_m_partnerOf_L11 hX hZ (Or.inl ⟨_, rfl, hF⟩) N e3)
  · refine gz_lv [2, 3, 1, 0] rfl (w_m_partnerOf_L11 hX hZ (Or.inr ⟨rfl, ?_⟩) N e3)
    refine gz_iconst (v := (-1)) hX dX6_partnerOf_174 gk_c_m1 ?_
    exact gt_iret hX hZ hF rfl (gz_in1 h) dX6_partnerOf_175
theorem lw_partnerOf_ {i : Nat} (hl : Cond.methodLink RX6 i yX6_partnerOf ∈ lw_all) : GoodIn lw_all (wsV RX6 i RX6 yX6_partnerOf (ws_ yX6_partnerOf cX6_partnerOf 7 (some .int))) := lw_V hl q2097 qs129 q153 q2098
theorem nn_partnerOf : yX6_partnerOf.cls = RX6 ∧ yX6_partnerOf.cls ≠ "java/lang/invoke/MethodHandle" ∧ yX6_partnerOf.cls ≠ "java/lang/invoke/VarHandle" ∧ (parseMethodDescriptor yX6_partnerOf.desc).map (fun d => d.parameters.length) = some 1 := by decide +kernel
def rm_pairs : Room := { frames := 2, cells := 0, slots := 0, locals := 48 }
noncomputable def m_pairs (N : Nat) (V : gz_V) (a1 : Int32) : Option (gz_V × Int32) := gz_let (gz_up V (1, 0, 0) 0 0) (fun V1 => (if a1 = 0 then gz_bd (m_findsPairs N V1) (fun V5 => (if a1 = 0 then gz_gd (gz_inb (((1 : Int32) <<< ((V5 (1, 0, 0) 6) &&& 31)) - 1) 4096 = true) (some (V5, (V5 (2, 55, 0) (((1 : Int32) <<< ((V5 (1, 0, 0) 6) &&& 31)) - 1).toNatClampNeg))) else gz_bd (m_partnerOf N V5 (a1 - 10)) (fun r7 => some (V5, r7)))) else (if (m_isIn a1 10 (9 + (V1 (1, 0, 0) 6))) = 0 then some (V1, (-1)) else gz_bd (m_findsPairs N V1) (fun V12 => (if a1 = 0 then gz_gd (gz_inb (((1 : Int32) <<< ((V12 (1, 0, 0) 6) &&& 31)) - 1) 4096 = true) (some (V12, (V12 (2, 55, 0) (((1 : Int32) <<< ((V12 (1, 0, 0) 6) &&& 31)) - 1).toNatClampNeg))) else gz_bd (m_partnerOf N V12 (a1 - 10)) (fun r14 => some (V12, r14)))))))
theorem c_pairs {l : Launch} {D : va_G} {aC : Nat → ClassId} {ad : gz_A0} {N : Nat} {V : gz_V} {a1 : Int32} {W1 : gz_V} {r : Int32} (h : m_pairs N V a1 = some (W1, r)) : gz_Met l yX6_pairs cX6_pairs 2 (some .int) rm_pairs D aC ad tw_S V tw_R [.ref (ad (1, 0, 0)), .int a1] (gz_F1 tw_S tw_R ad W1 (some (.int r))) 0 0 := by
  refine gt_ofW (own := RX6) (mn := "pairs") (lv := [(0, .ref (ad (1, 0, 0))), (1, .int a1)]) (by decide) rfl rfl (Nat.le_of_ble_eq_true rfl) rfl ?_
  intro X hX hZ hF
  rw [m_pairs] at h
  refine gz_aload_n (q := 0) hX dX6_pairs_0 rfl rfl ?_
  refine gz_iconst (v := 0) hX dX6_pairs_1 gk_c_0 ?_
  obtain ⟨V1, e2, h⟩ := gz_let_o h
  refine tp_told hX dX6_pairs_2 e2 ?_
  refine gz_iload_n (q := 1) hX dX6_pairs_5 rfl rfl ?_
  refine gz_if_eq (tgt := 28) hX dX6_pairs_6 (by decide) (fun c3 => ?_) (fun c3 => ?_)
  · have h := gz_ifp c3 h
    refine gz_aload_n (q := 0) hX dX6_pairs_28 rfl rfl ?_
    obtain ⟨V5, e4, h⟩ := gz_bd_o h
    refine tc_V (As := []) hX (c_findsPairs e4) (lw_findsPairs_ q2087) rfl rfl nn_findsPairs ⟨Nat.le_of_ble_eq_true rfl, Nat.le_of_ble_eq_true rfl⟩ rfl rfl (Nat.le_of_ble_eq_true rfl) dX6_pairs_29 rfl ?_
    refine gz_iload_n (q := 1) hX dX6_pairs_32 rfl rfl ?_
    refine gz_if_ne (tgt := 52) hX dX6_pairs_33 (by decide) (fun c6 => ?_) (fun c6 => ?_)
    · have h := gz_ifn c6 h
      refine gz_aload_n (q := 0) hX dX6_pairs_52 rfl rfl ?_
      refine gz_iload_n (q := 1) hX dX6_pairs_53 rfl rfl ?_
      refine gz_bipush (v := 10) hX dX6_pairs_54 gk_b_10 ?_
      refine gz_isub hX dX6_pairs_56 ?_
      obtain ⟨r7, e8, h⟩ := gz_bd_o h
      refine tc_V (As := [.int (a1 - 10)]) hX (c_partnerOf e8) (lw_partnerOf_ q2095) rfl rfl nn_partnerOf ⟨Nat.le_of_ble_eq_true rfl, Nat.le_of_ble_eq_true rfl⟩ rfl rfl (Nat.le_of_ble_eq_true rfl) dX6_pairs_57 rfl ?_
      obtain ⟨e1, e2⟩ := gz_in2 h
      exact gt_iret hX hZ hF e1 e2 dX6_pairs_60
    · have h := gz_ifp c6 h
      refine gz_aload_n (q := 0) hX dX6_pairs_36 rfl rfl ?_
      refine tg_mostPairs hX dX6_pairs_37 ?_
      refine gz_iconst (v := 1) hX dX6_pairs_40 gk_c_1 ?_
      refine gz_aload_n (q := 0) hX dX6_pairs_41 rfl rfl ?_
      refine tg_people hX dX6_pairs_42 ?_
      refine gz_ishl hX dX6_pairs_45 ?_
      refine gz_iconst (v := 1) hX dX6_pairs_46 gk_c_1 ?_
      refine gz_isub hX dX6_pairs_47 ?_
      obtain ⟨b9, h⟩ := gz_gd_o h
      refine gz_iald (L := 4096) hX tw_S55 (gz_inb_o b9) dX6_pairs_48 ?_
      refine gz_goto (tgt := 60) hX dX6_pairs_49 (by decide) ?_
      obtain ⟨e1, e2⟩ := gz_in2 h
      exact gt_iret hX hZ hF e1 e2 dX6_pairs_60
  · have h := gz_ifn c3 h
    refine gz_aload_n (q := 0) hX dX6_pairs_9 rfl rfl ?_
    refine gz_iload_n (q := 1) hX dX6_pairs_10 rfl rfl ?_
    refine gz_bipush (v := 10) hX dX6_pairs_11 gk_b_10 ?_
    refine gz_bipush (v := 9) hX dX6_pairs_13 gk_b_9 ?_
    refine gz_aload_n (q := 0) hX dX6_pairs_15 rfl rfl ?_
    refine tg_people hX dX6_pairs_16 ?_
    refine gz_iadd hX dX6_pairs_19 ?_
    refine tc_V (As := [.int a1, .int 10, .int (9 + (V1 (1, 0, 0) 6))]) hX (c_isIn rfl) (lw_isIn_ q1692) rfl rfl nn_isIn ⟨Nat.le_of_ble_eq_true rfl, Nat.le_of_ble_eq_true rfl⟩ rfl rfl (Nat.le_of_ble_eq_true rfl) dX6_pairs_20 rfl ?_
    refine gz_if_ne (tgt := 28) hX dX6_pairs_23 (by decide) (fun c10 => ?_) (fun c10 => ?_)
    · have h := gz_ifn c10 h
      refine gz_aload_n (q := 0) hX dX6_pairs_28 rfl rfl ?_
      obtain ⟨V12, e11, h⟩ := gz_bd_o h
      refine tc_V (As := []) hX (c_findsPairs e11) (lw_findsPairs_ q2087) rfl rfl nn_findsPairs ⟨Nat.le_of_ble_eq_true rfl, Nat.le_of_ble_eq_true rfl⟩ rfl rfl (Nat.le_of_ble_eq_true rfl) dX6_pairs_29 rfl ?_
      refine gz_iload_n (q := 1) hX dX6_pairs_32 rfl rfl ?_
      refine gz_if_ne (tgt := 52) hX dX6_pairs_33 (by decide) (fun c13 => ?_) (fun c13 => ?_)
      · have h := gz_ifn c13 h
        refine gz_aload_n (q := 0) hX dX6_pairs_52 rfl rfl ?_
        refine gz_iload_n (q := 1) hX dX6_pairs_53 rfl rfl ?_
        refine gz_bipush (v := 10) hX dX6_pairs_54 gk_b_10 ?_
        refine gz_isub hX dX6_pairs_56 ?_
        obtain ⟨r14, e15, h⟩ := gz_bd_o h
        refine tc_V (As := [.int (a1 - 10)]) hX (c_partnerOf e15) (lw_partnerOf_ q2095) rfl rfl nn_partnerOf ⟨Nat.le_of_ble_eq_true rfl, Nat.le_of_ble_eq_true rfl⟩ rfl rfl (Nat.le_of_ble_eq_true rfl) dX6_pairs_57 rfl ?_
        obtain ⟨e1, e2⟩ := gz_in2 h
        exact gt_iret hX hZ hF e1 e2 dX6_pairs_60
      · have h := gz_ifp c13 h
        refine gz_aload_n (q := 0) hX dX6_pairs_36 rfl rfl ?_
        refine tg_mostPairs hX dX6_pairs_37 ?_
        refine gz_iconst (v := 1) hX dX6_pairs_40 gk_c_1 ?_
        refine gz_aload_n (q := 0) hX dX6_pairs_41 rfl rfl ?_
        refine tg_people hX dX6_pairs_42 ?_
        refine gz_ishl hX dX6_pairs_45 ?_
        refine gz_iconst (v := 1) hX dX6_pairs_46 gk_c_1 ?_
        refine gz_isub hX dX6_pairs_47 ?_
        obtain ⟨b16, h⟩ := gz_gd_o h
        refine gz_iald (L := 4096) hX tw_S55 (gz_inb_o b16) dX6_pairs_48 ?_
        refine gz_goto (tgt := 60) hX dX6_pairs_49 (by decide) ?_
        obtain ⟨e1, e2⟩ := gz_in2 h
        exact gt_iret hX hZ hF e1 e2 dX6_pairs_60
    · have h := gz_ifp c10 h
      refine gz_iconst (v := (-1)) hX dX6_pairs_26 gk_c_m1 ?_
      obtain ⟨e1, e2⟩ := gz_in2 h
      exact gt_iret hX hZ hF e1 e2 dX6_pairs_27
theorem lw_pairs_ {i : Nat} (hl : Cond.methodLink RX6 i yX6_pairs ∈ lw_all) : GoodIn lw_all (wsV RX6 i RX6 yX6_pairs (ws_ yX6_pairs cX6_pairs 2 (some .int))) := lw_V hl q2084 q2085 q153 q2086
theorem nn_pairs : yX6_pairs.cls = RX6 ∧ yX6_pairs.cls ≠ "java/lang/invoke/MethodHandle" ∧ yX6_pairs.cls ≠ "java/lang/invoke/VarHandle" ∧ (parseMethodDescriptor yX6_pairs.desc).map (fun d => d.parameters.length) = some 1 := by decide +kernel
def rm_passes : Room := { frames := 5, cells := 0, slots := 0, locals := 117 }
noncomputable def m_passes (N : Nat) (V : gz_V) (a1 : Int32) (a2 : Int32) (a3 : Int32) (a4 : Int32) : Option (gz_V × Int32) := gz_let (gz_up V (1, 0, 0) 0 0) (fun V1 => (if (m_areTwo V1 a1 a2 a3) = 0 then some (V1, (-1)) else (if (m_isIn a4 0 4) = 0 then some (V1, (-1)) else gz_bd (m_isBy V1 a3 0 (-1)) (fun V6 => gz_b2 (m_passesOf N V6 a1 a2 a4) (fun V9 r7 => some (V9, r7))))))
theorem c_passes {l : Launch} {D : va_G} {aC : Nat → ClassId} {ad : gz_A0} {N : Nat} {V : gz_V} {a1 : Int32} {a2 : Int32} {a3 : Int32} {a4 : Int32} {W1 : gz_V} {r : Int32} (h : m_passes N V a1 a2 a3 a4 = some (W1, r)) : gz_Met l yX6_passes cX6_passes 5 (some .int) rm_passes D aC ad tw_S V tw_R [.ref (ad (1, 0, 0)), .int a1, .int a2, .int a3, .int a4] (gz_F1 tw_S tw_R ad W1 (some (.int r))) 0 0 := by
  refine gt_ofW (own := RX6) (mn := "passes") (lv := [(0, .ref (ad (1, 0, 0))), (1, .int a1), (2, .int a2), (3, .int a3), (4, .int a4)]) (by decide) rfl rfl (Nat.le_of_ble_eq_true rfl) rfl ?_
  intro X hX hZ hF
  rw [m_passes] at h
  refine gz_aload_n (q := 0) hX dX6_passes_0 rfl rfl ?_
  refine gz_iconst (v := 0) hX dX6_passes_1 gk_c_0 ?_
  obtain ⟨V1, e2, h⟩ := gz_let_o h
  refine tp_told hX dX6_passes_2 e2 ?_
  refine gz_aload_n (q := 0) hX dX6_passes_5 rfl rfl ?_
  refine gz_iload_n (q := 1) hX dX6_passes_6 rfl rfl ?_
  refine gz_iload_n (q := 2) hX dX6_passes_7 rfl rfl ?_
  refine gz_iload_n (q := 3) hX dX6_passes_8 rfl rfl ?_
  refine tc_V (As := [.int a1, .int a2, .int a3]) hX (c_areTwo rfl) (lw_areTwo_ q2006) rfl rfl nn_areTwo ⟨Nat.le_of_ble_eq_true rfl, Nat.le_of_ble_eq_true rfl⟩ rfl rfl (Nat.le_of_ble_eq_true rfl) dX6_passes_9 rfl ?_
  refine gz_if_eq (tgt := 26) hX dX6_passes_12 (by decide) (fun c3 => ?_) (fun c3 => ?_)
  · have h := gz_ifp c3 h
    refine gz_iconst (v := (-1)) hX dX6_passes_26 gk_c_m1 ?_
    obtain ⟨e1, e2⟩ := gz_in2 h
    exact gt_iret hX hZ hF e1 e2 dX6_passes_27
  · have h := gz_ifn c3 h
    refine gz_aload_n (q := 0) hX dX6_passes_15 rfl rfl ?_
    refine gz_iload (q := 4) hX dX6_passes_16 rfl ?_
    refine gz_iconst (v := 0) hX dX6_passes_18 gk_c_0 ?_
    refine gz_iconst (v := 4) hX dX6_passes_19 gk_c_4 ?_
    refine tc_V (As := [.int a4, .int 0, .int 4]) hX (c_isIn rfl) (lw_isIn_ q1692) rfl rfl nn_isIn ⟨Nat.le_of_ble_eq_true rfl, Nat.le_of_ble_eq_true rfl⟩ rfl rfl (Nat.le_of_ble_eq_true rfl) dX6_passes_20 rfl ?_
    refine gz_if_ne (tgt := 28) hX dX6_passes_23 (by decide) (fun c4 => ?_) (fun c4 => ?_)
    · have h := gz_ifn c4 h
      refine gz_aload_n (q := 0) hX dX6_passes_28 rfl rfl ?_
      refine gz_iload_n (q := 3) hX dX6_passes_29 rfl rfl ?_
      refine gz_iconst (v := 0) hX dX6_passes_30 gk_c_0 ?_
      refine gz_iconst (v := (-1)) hX dX6_passes_31 gk_c_m1 ?_
      obtain ⟨V6, e5, h⟩ := gz_bd_o h
      refine tc_V (As := [.int a3, .int 0, .int (-1)]) hX (c_isBy e5) (lw_isBy_ q1884) rfl rfl nn_isBy ⟨Nat.le_of_ble_eq_true rfl, Nat.le_of_ble_eq_true rfl⟩ rfl rfl (Nat.le_of_ble_eq_true rfl) dX6_passes_32 rfl ?_
      refine gz_aload_n (q := 0) hX dX6_passes_35 rfl rfl ?_
      refine gz_iload_n (q := 1) hX dX6_passes_36 rfl rfl ?_
      refine gz_iload_n (q := 2) hX dX6_passes_37 rfl rfl ?_
      refine gz_iload (q := 4) hX dX6_passes_38 rfl ?_
      obtain ⟨V9, r7, e8, h⟩ := gz_b2_o h
      refine tc_V (As := [.int a1, .int a2, .int a4]) hX (c_passesOf e8) (lw_passesOf_ q1952) rfl rfl nn_passesOf ⟨Nat.le_of_ble_eq_true rfl, Nat.le_of_ble_eq_true rfl⟩ rfl rfl (Nat.le_of_ble_eq_true rfl) dX6_passes_40 rfl ?_
      obtain ⟨e1, e2⟩ := gz_in2 h
      exact gt_iret hX hZ hF e1 e2 dX6_passes_43
    · have h := gz_ifp c4 h
      refine gz_iconst (v := (-1)) hX dX6_passes_26 gk_c_m1 ?_
      obtain ⟨e1, e2⟩ := gz_in2 h
      exact gt_iret hX hZ hF e1 e2 dX6_passes_27
theorem lw_passes_ {i : Nat} (hl : Cond.methodLink RX6 i yX6_passes ∈ lw_all) : GoodIn lw_all (wsV RX6 i RX6 yX6_passes (ws_ yX6_passes cX6_passes 5 (some .int))) := lw_V hl q2003 q2004 q153 q2005
theorem nn_passes : yX6_passes.cls = RX6 ∧ yX6_passes.cls ≠ "java/lang/invoke/MethodHandle" ∧ yX6_passes.cls ≠ "java/lang/invoke/VarHandle" ∧ (parseMethodDescriptor yX6_passes.desc).map (fun d => d.parameters.length) = some 4 := by decide +kernel
def rm_sharingOf : Room := { frames := 1, cells := 0, slots := 0, locals := 22 }
noncomputable def m_sharingOf_L2 (N : Nat) (v1 : Int32) (v2 : Int32) : Nat → gz_V → Int32 → Option (gz_V)
  | 0, _, _ => none
  | n + 1, V, v3 => (if v2 ≤ v3 then some V else gz_gd (gz_inb v3 4 = true) (gz_let (gz_up V (2, 61, 0) v3.toNatClampNeg 0) (fun V3 => m_sharingOf_L2 N v1 v2 n V3 (v3 + 1))))
theorem w_m_sharingOf_L2 {X : gz_X} {ad : gz_A0} (hX : gz_ok X cX6_sharingOf RX6 "sharingOf" 7 rm_sharingOf (some .int)) (hZ : gz_Z X) {N : Nat} {v1 : Int32} {v2 : Int32} {W1 : gz_V} (k : gW X 7 tw_S tw_R ad W1 0 0 20 [(0, .ref (ad (1, 0, 0))), (1, .int v1), (2, .int v2)] []) : ∀ (n : Nat) {V : gz_V} {v3 : Int32}, m_sharingOf_L2 N v1 v2 n V v3 = some W1 → gW X 7 tw_S tw_R ad V 0 0 2 [(0, .ref (ad (1, 0, 0))), (1, .int v1), (2, .int v2), (3, .int v3)] [] := by
  intro n
  induction n with
  | zero => intro V v3 h; rw [m_sharingOf_L2] at h; cases h
  | succ n ih =>
    intro V v3 h
    rw [m_sharingOf_L2] at h
    refine gz_iload_n (q := 3) hX dX6_sharingOf_2 rfl rfl ?_
    refine gz_iload_n (q := 2) hX dX6_sharingOf_3 rfl rfl ?_
    refine gz_icmp_ge (tgt := 20) hX dX6_sharingOf_4 (by decide) (fun c1 => ?_) (fun c1 => ?_)
    · have h := gz_ifp c1 h
      obtain rfl := gz_in1 h
      exact gz_lv [0, 1, 2] rfl k
    · have h := gz_ifn c1 h
      refine gz_aload_n (q := 0) hX dX6_sharingOf_7 rfl rfl ?_
      refine tg_inPen hX dX6_sharingOf_8 ?_
      refine gz_iload_n (q := 3) hX dX6_sharingOf_11 rfl rfl ?_
      refine gz_iconst (v := 0) hX dX6_sharingOf_12 gk_c_0 ?_
      obtain ⟨b2, h⟩ := gz_gd_o h
      obtain ⟨V3, e4, h⟩ := gz_let_o h
      refine gz_iast (L := 4) hX tw_S61 (by decide) (gz_inb_o b2) dX6_sharingOf_13 e4 ?_
      refine gz_iinc (q := 3) (lv2 := [(3, .int (v3 + 1)), (0, .ref (ad (1, 0, 0))), (1, .int v1), (2, .int v2)]) hX dX6_sharingOf_14 rfl gk_c_1 (by decide) rfl ?_
      refine gz_goto (tgt := 2) hX dX6_sharingOf_17 (by decide) ?_
      exact gz_lv [1, 2, 3, 0] rfl (ih h)
noncomputable def m_sharingOf_L25 (N : Nat) (v2 : Int32) : Nat → gz_V → Int32 → Int32 → Option (gz_V)
  | 0, _, _, _ => none
  | n + 1, V, v3, v4 => (if (V (1, 0, 0) 59) ≤ v4 then some V else gz_gd (¬ v2 = 0) (gz_gd (¬ v2 = 0) (gz_gd (gz_inb (v3 - v3 / v2 * v2) 4 = true) (gz_gd (gz_inb v4 7 = true) (gz_gd (gz_inb (v3 - v3 / v2 * v2) 4 = true) (gz_let (gz_up V (2, 61, 0) (v3 - v3 / v2 * v2).toNatClampNeg ((V (2, 61, 0) (v3 - v3 / v2 * v2).toNatClampNeg) + (V (2, 60, 0) v4.toNatClampNeg))) (fun V9 => gz_gd (¬ v2 = 0) (gz_let (v3 / v2) (fun x12 => m_sharingOf_L25 N v2 n V9 x12 (v4 + 1))))))))))
theorem w_m_sharingOf_L25 {X : gz_X} {ad : gz_A0} (hX : gz_ok X cX6_sharingOf RX6 "sharingOf" 7 rm_sharingOf (some .int)) (hZ : gz_Z X) {N : Nat} {v2 : Int32} {W1 : gz_V} (k : gW X 7 tw_S tw_R ad W1 0 0 68 [(0, .ref (ad (1, 0, 0))), (2, .int v2)] []) : ∀ (n : Nat) {V : gz_V} {v3 : Int32} {v4 : Int32}, m_sharingOf_L25 N v2 n V v3 v4 = some W1 → gW X 7 tw_S tw_R ad V 0 0 25 [(0, .ref (ad (1, 0, 0))), (2, .int v2), (3, .int v3), (4, .int v4)] [] := by
  intro n
  induction n with
  | zero => intro V v3 v4 h; rw [m_sharingOf_L25] at h; cases h
  | succ n ih =>
    intro V v3 v4 h
    rw [m_sharingOf_L25] at h
    refine gz_iload (q := 3) hX dX6_sharingOf_25 rfl ?_
    refine gz_aload_n (q := 0) hX dX6_sharingOf_27 rfl rfl ?_
    refine tg_herdMany hX dX6_sharingOf_28 ?_
    refine gz_icmp_ge (tgt := 68) hX dX6_sharingOf_31 (by decide) (fun c3 => ?_) (fun c3 => ?_)
    · have h := gz_ifp c3 h
      obtain rfl := gz_in1 h
      exact gz_lv [0, 1] rfl k
    · have h := gz_ifn c3 h
      refine gz_aload_n (q := 0) hX dX6_sharingOf_34 rfl rfl ?_
      refine tg_inPen hX dX6_sharingOf_35 ?_
      refine gz_iload_n (q := 2) hX dX6_sharingOf_38 rfl rfl ?_
      refine gz_iload_n (q := 1) hX dX6_sharingOf_39 rfl rfl ?_
      obtain ⟨b4, h⟩ := gz_gd_o h
      refine gz_irem hX dX6_sharingOf_40 b4 ?_
      refine gz_aload_n (q := 0) hX dX6_sharingOf_41 rfl rfl ?_
      refine tg_inPen hX dX6_sharingOf_42 ?_
      refine gz_iload_n (q := 2) hX dX6_sharingOf_45 rfl rfl ?_
      refine gz_iload_n (q := 1) hX dX6_sharingOf_46 rfl rfl ?_
      obtain ⟨b5, h⟩ := gz_gd_o h
      refine gz_irem hX dX6_sharingOf_47 b5 ?_
      obtain ⟨b6, h⟩ := gz_gd_o h
      refine gz_iald (L := 4) hX tw_S61 (gz_inb_o b6) dX6_sharingOf_48 ?_
      refine gz_aload_n (q := 0) hX dX6_sharingOf_49 rfl rfl ?_
      refine tg_herds hX dX6_sharingOf_50 ?_
      refine gz_iload (q := 3) hX dX6_sharingOf_53 rfl ?_
      obtain ⟨b7, h⟩ := gz_gd_o h
      refine gz_iald (L := 7) hX tw_S60 (gz_inb_o b7) dX6_sharingOf_55 ?_
      refine gz_iadd hX dX6_sharingOf_56 ?_
      obtain ⟨b8, h⟩ := gz_gd_o h
      obtain ⟨V9, e10, h⟩ := gz_let_o h
      refine gz_iast (L := 4) hX tw_S61 (by decide) (gz_inb_o b8) dX6_sharingOf_57 e10 ?_
      refine gz_iload_n (q := 2) hX dX6_sharingOf_58 rfl rfl ?_
      refine gz_iload_n (q := 1) hX dX6_sharingOf_59 rfl rfl ?_
      obtain ⟨b11, h⟩ := gz_gd_o h
      refine gz_idiv hX dX6_sharingOf_60 b11 ?_
      obtain ⟨x12, e13, h⟩ := gz_let_o h
      refine gz_nm e13 ?_
      refine gz_istore_n (lv2 := [(3, .int x12), (0, .ref (ad (1, 0, 0))), (2, .int v2), (4, .int v4)]) hX dX6_sharingOf_61 rfl (by decide) rfl ?_
      refine gz_iinc (q := 3) (lv2 := [(4, .int (v4 + 1)), (3, .int x12), (0, .ref (ad (1, 0, 0))), (2, .int v2)]) hX dX6_sharingOf_62 rfl gk_c_1 (by decide) rfl ?_
      refine gz_goto (tgt := 25) hX dX6_sharingOf_65 (by decide) ?_
      exact gz_lv [2, 3, 1, 0] rfl (ih h)
noncomputable def m_sharingOf_L79 (N : Nat) (V : gz_V) (v2 : Int32) : Nat → Int32 → Int32 → Int32 → Option (Int32 × Int32)
  | 0, _, _, _ => none
  | n + 1, v4, v5, v6 => (if v2 ≤ v6 then some (v4, v5) else gz_gd (gz_inb v6 4 = true) (gz_let (m_greater v4 (V (2, 61, 0) v6.toNatClampNeg)) (fun x7 => gz_gd (gz_inb v6 4 = true) (gz_let (m_lesser v5 (V (2, 61, 0) v6.toNatClampNeg)) (fun x10 => m_sharingOf_L79 N V v2 n x7 x10 (v6 + 1))))))
theorem w_m_sharingOf_L79 {X : gz_X} {ad : gz_A0} (hX : gz_ok X cX6_sharingOf RX6 "sharingOf" 7 rm_sharingOf (some .int)) (hZ : gz_Z X) {N : Nat} {V : gz_V} {v2 : Int32} {o4 : Int32} {o5 : Int32} (k : gW X 7 tw_S tw_R ad V 0 0 121 [(4, .int o4), (5, .int o5)] []) : ∀ (n : Nat) {v4 : Int32} {v5 : Int32} {v6 : Int32}, m_sharingOf_L79 N V v2 n v4 v5 v6 = some (o4, o5) → gW X 7 tw_S tw_R ad V 0 0 79 [(0, .ref (ad (1, 0, 0))), (2, .int v2), (4, .int v4), (5, .int v5), (6, .int v6)] [] := by
  intro n
  induction n with
  | zero => intro v4 v5 v6 h; rw [m_sharingOf_L79] at h; cases h
  | succ n ih =>
    intro v4 v5 v6 h
    rw [m_sharingOf_L79] at h
    refine gz_iload (q := 4) hX dX6_sharingOf_79 rfl ?_
    refine gz_iload_n (q := 1) hX dX6_sharingOf_81 rfl rfl ?_
    refine gz_icmp_ge (tgt := 121) hX dX6_sharingOf_82 (by decide) (fun c5 => ?_) (fun c5 => ?_)
    · have h := gz_ifp c5 h
      obtain ⟨rfl, rfl⟩ := gz_in2 h
      exact gz_lv [2, 3] rfl k
    · have h := gz_ifn c5 h
      refine gz_aload_n (q := 0) hX dX6_sharingOf_85 rfl rfl ?_
      refine gz_iload (q := 2) hX dX6_sharingOf_86 rfl ?_
      refine gz_aload_n (q := 0) hX dX6_sharingOf_88 rfl rfl ?_
      refine tg_inPen hX dX6_sharingOf_89 ?_
      refine gz_iload (q := 4) hX dX6_sharingOf_92 rfl ?_
      obtain ⟨b6, h⟩ := gz_gd_o h
      refine gz_iald (L := 4) hX tw_S61 (gz_inb_o b6) dX6_sharingOf_94 ?_
      refine tc_V (As := [.int v4, .int (V (2, 61, 0) v6.toNatClampNeg)]) hX (c_greater rfl) (lw_greater_ q2091) rfl rfl nn_greater ⟨Nat.le_of_ble_eq_true rfl, Nat.le_of_ble_eq_true rfl⟩ rfl rfl (Nat.le_of_ble_eq_true rfl) dX6_sharingOf_95 rfl ?_
      obtain ⟨x7, e8, h⟩ := gz_let_o h
      refine gz_nm e8 ?_
      refine gz_istore (lv2 := [(4, .int x7), (0, .ref (ad (1, 0, 0))), (2, .int v2), (5, .int v5), (6, .int v6)]) hX dX6_sharingOf_98 (by decide) rfl ?_
      refine gz_aload_n (q := 1) hX dX6_sharingOf_100 rfl rfl ?_
      refine gz_iload (q := 3) hX dX6_sharingOf_101 rfl ?_
      refine gz_aload_n (q := 1) hX dX6_sharingOf_103 rfl rfl ?_
      refine tg_inPen hX dX6_sharingOf_104 ?_
      refine gz_iload (q := 4) hX dX6_sharingOf_107 rfl ?_
      obtain ⟨b9, h⟩ := gz_gd_o h
      refine gz_iald (L := 4) hX tw_S61 (gz_inb_o b9) dX6_sharingOf_109 ?_
      refine tc_V (As := [.int v5, .int (V (2, 61, 0) v6.toNatClampNeg)]) hX (c_lesser rfl) (lw_lesser_ q1932) rfl rfl nn_lesser ⟨Nat.le_of_ble_eq_true rfl, Nat.le_of_ble_eq_true rfl⟩ rfl rfl (Nat.le_of_ble_eq_true rfl) dX6_sharingOf_110 rfl ?_
      obtain ⟨x10, e11, h⟩ := gz_let_o h
      refine gz_nm e11 ?_
      refine gz_istore (lv2 := [(5, .int x10), (4, .int x7), (0, .ref (ad (1, 0, 0))), (2, .int v2), (6, .int v6)]) hX dX6_sharingOf_113 (by decide) rfl ?_
      refine gz_iinc (q := 4) (lv2 := [(6, .int (v6 + 1)), (5, .int x10), (4, .int x7), (0, .ref (ad (1, 0, 0))), (2, .int v2)]) hX dX6_sharingOf_115 rfl gk_c_1 (by decide) rfl ?_
      refine gz_goto (tgt := 79) hX dX6_sharingOf_118 (by decide) ?_
      exact gz_lv [3, 4, 2, 1, 0] rfl (ih h)
noncomputable def m_sharingOf (N : Nat) (V : gz_V) (a1 : Int32) (a2 : Int32) : Option (gz_V × Int32) := gz_bd (m_sharingOf_L2 N a1 a2 N V 0) (fun V1 => gz_bd (m_sharingOf_L25 N a2 N V1 a1 0) (fun V3 => gz_b2 (m_sharingOf_L79 N V3 a2 N 0 100000000 0) (fun x5 x6 => some (V3, (((1000 * x5) + x5) - x6)))))
theorem c_sharingOf {l : Launch} {D : va_G} {aC : Nat → ClassId} {ad : gz_A0} {N : Nat} {V : gz_V} {a1 : Int32} {a2 : Int32} {W1 : gz_V} {r : Int32} (h : m_sharingOf N V a1 a2 = some (W1, r)) : gz_Met l yX6_sharingOf cX6_sharingOf 7 (some .int) rm_sharingOf D aC ad tw_S V tw_R [.ref (ad (1, 0, 0)), .int a1, .int a2] (gz_F1 tw_S tw_R ad W1 (some (.int r))) 0 0 := by
  refine gt_ofW (own := RX6) (mn := "sharingOf") (lv := [(0, .ref (ad (1, 0, 0))), (1, .int a1), (2, .int a2)]) (by decide) rfl rfl (Nat.le_of_ble_eq_true rfl) rfl ?_
  intro X hX hZ hF
  rw [m_sharingOf] at h
  refine gz_iconst (v := 0) hX dX6_sharingOf_0 gk_c_0 ?_
  refine gz_istore_n (lv2 := [(3, .int 0), (0, .ref (ad (1, 0, 0))), (1, .int a1), (2, .int a2)]) hX dX6_sharingOf_1 rfl (by decide) rfl ?_
  obtain ⟨V1, e2, h⟩ := gz_bd_o h
  refine gz_lv [1, 2, 3, 0] rfl (w_m_sharingOf_L2 hX hZ ?_ N e2)
  refine gz_iload_n (q := 1) hX dX6_sharingOf_20 rfl rfl ?_
  refine gz_istore_n (lv2 := [(3, .int a1), (0, .ref (ad (1, 0, 0))), (1, .int a1), (2, .int a2)]) hX dX6_sharingOf_21 rfl (by decide) rfl ?_
  refine gz_iconst (v := 0) hX dX6_sharingOf_22 gk_c_0 ?_
  refine gz_istore (lv2 := [(4, .int 0), (3, .int a1), (0, .ref (ad (1, 0, 0))), (1, .int a1), (2, .int a2)]) hX dX6_sharingOf_23 (by decide) rfl ?_
  obtain ⟨V3, e4, h⟩ := gz_bd_o h
  refine gz_lv [2, 4, 1, 0] rfl (w_m_sharingOf_L25 hX hZ ?_ N e4)
  refine gz_iconst (v := 0) hX dX6_sharingOf_68 gk_c_0 ?_
  refine gz_istore (lv2 := [(4, .int 0), (0, .ref (ad (1, 0, 0))), (2, .int a2)]) hX dX6_sharingOf_69 (by decide) rfl ?_
  refine gz_ldcw (v := 100000000) hX q2127 dX6_sharingOf_71 ?_
  refine gz_istore (lv2 := [(5, .int 100000000), (4, .int 0), (0, .ref (ad (1, 0, 0))), (2, .int a2)]) hX dX6_sharingOf_74 (by decide) rfl ?_
  refine gz_iconst (v := 0) hX dX6_sharingOf_76 gk_c_0 ?_
  refine gz_istore (lv2 := [(6, .int 0), (5, .int 100000000), (4, .int 0), (0, .ref (ad (1, 0, 0))), (2, .int a2)]) hX dX6_sharingOf_77 (by decide) rfl ?_
  obtain ⟨x5, x6, e7, h⟩ := gz_b2_o h
  refine gz_lv [3, 4, 2, 1, 0] rfl (w_m_sharingOf_L79 hX hZ ?_ N e7)
  refine gz_sipush (v := 1000) hX dX6_sharingOf_121 gk_s_1000 ?_
  refine gz_iload (q := 0) hX dX6_sharingOf_124 rfl ?_
  refine gz_imul hX dX6_sharingOf_126 ?_
  refine gz_iload (q := 0) hX dX6_sharingOf_127 rfl ?_
  refine gz_iadd hX dX6_sharingOf_129 ?_
  refine gz_iload (q := 1) hX dX6_sharingOf_130 rfl ?_
  refine gz_isub hX dX6_sharingOf_132 ?_
  obtain ⟨e1, e2⟩ := gz_in2 h
  exact gt_iret hX hZ hF e1 e2 dX6_sharingOf_133
theorem lw_sharingOf_ {i : Nat} (hl : Cond.methodLink RX6 i yX6_sharingOf ∈ lw_all) : GoodIn lw_all (wsV RX6 i RX6 yX6_sharingOf (ws_ yX6_sharingOf cX6_sharingOf 7 (some .int))) := lw_V hl q2158 qs136 q153 q2159
theorem nn_sharingOf : yX6_sharingOf.cls = RX6 ∧ yX6_sharingOf.cls ≠ "java/lang/invoke/MethodHandle" ∧ yX6_sharingOf.cls ≠ "java/lang/invoke/VarHandle" ∧ (parseMethodDescriptor yX6_sharingOf.desc).map (fun d => d.parameters.length) = some 2 := by decide +kernel
def rm_pens : Room := { frames := 2, cells := 0, slots := 0, locals := 48 }
noncomputable def m_pens_L32 (N : Nat) (V : gz_V) (v1 : Int32) (v2 : Int32) : Nat → Int32 → Int32 → Option (Int32)
  | 0, _, _ => none
  | n + 1, v3, v4 => (if (V (1, 0, 0) 59) ≤ v4 then some v3 else gz_let (v3 * v1) (fun x6 => m_pens_L32 N V v1 v2 n x6 (v4 + 1)))
theorem w_m_pens_L32 {X : gz_X} {ad : gz_A0} (hX : gz_ok X cX6_pens RX6 "pens" 6 rm_pens (some .int)) (hZ : gz_Z X) {N : Nat} {V : gz_V} {v1 : Int32} {v2 : Int32} {o3 : Int32} (k : gW X 6 tw_S tw_R ad V 0 0 51 [(0, .ref (ad (1, 0, 0))), (1, .int v1), (2, .int v2), (3, .int o3)] []) : ∀ (n : Nat) {v3 : Int32} {v4 : Int32}, m_pens_L32 N V v1 v2 n v3 v4 = some o3 → gW X 6 tw_S tw_R ad V 0 0 32 [(0, .ref (ad (1, 0, 0))), (1, .int v1), (2, .int v2), (3, .int v3), (4, .int v4)] [] := by
  intro n
  induction n with
  | zero => intro v3 v4 h; rw [m_pens_L32] at h; cases h
  | succ n ih =>
    intro v3 v4 h
    rw [m_pens_L32] at h
    refine gz_iload (q := 4) hX dX6_pens_32 rfl ?_
    refine gz_aload_n (q := 0) hX dX6_pens_34 rfl rfl ?_
    refine tg_herdMany hX dX6_pens_35 ?_
    refine gz_icmp_ge (tgt := 51) hX dX6_pens_38 (by decide) (fun c5 => ?_) (fun c5 => ?_)
    · have h := gz_ifp c5 h
      obtain rfl := gz_in1 h
      exact gz_lv [0, 1, 2, 3] rfl k
    · have h := gz_ifn c5 h
      refine gz_iload_n (q := 3) hX dX6_pens_41 rfl rfl ?_
      refine gz_iload_n (q := 1) hX dX6_pens_42 rfl rfl ?_
      refine gz_imul hX dX6_pens_43 ?_
      obtain ⟨x6, e7, h⟩ := gz_let_o h
      refine gz_nm e7 ?_
      refine gz_istore_n (lv2 := [(3, .int x6), (0, .ref (ad (1, 0, 0))), (1, .int v1), (2, .int v2), (4, .int v4)]) hX dX6_pens_44 rfl (by decide) rfl ?_
      refine gz_iinc (q := 4) (lv2 := [(4, .int (v4 + 1)), (3, .int x6), (0, .ref (ad (1, 0, 0))), (1, .int v1), (2, .int v2)]) hX dX6_pens_45 rfl gk_c_1 (by decide) rfl ?_
      refine gz_goto (tgt := 32) hX dX6_pens_48 (by decide) ?_
      exact gz_lv [2, 3, 4, 1, 0] rfl (ih h)
noncomputable def m_pens_L59 (N : Nat) (v1 : Int32) (v2 : Int32) (v3 : Int32) : Nat → gz_V → Int32 → Int32 → Option (gz_V × Int32)
  | 0, _, _, _ => none
  | n + 1, V, v4, v5 => (if v3 ≤ v5 then some (V, v4) else gz_b2 (m_sharingOf N V v5 v1) (fun V10 r8 => gz_let (m_lesser v4 r8) (fun x11 => m_pens_L59 N v1 v2 v3 n V10 x11 (v5 + 1))))
theorem w_m_pens_L59 {X : gz_X} {ad : gz_A0} (hX : gz_ok X cX6_pens RX6 "pens" 6 rm_pens (some .int)) (hZ : gz_Z X) {N : Nat} {v1 : Int32} {v2 : Int32} {v3 : Int32} {W1 : gz_V} {o4 : Int32} (k : gW X 6 tw_S tw_R ad W1 0 0 86 [(2, .int v2), (4, .int o4)] []) : ∀ (n : Nat) {V : gz_V} {v4 : Int32} {v5 : Int32}, m_pens_L59 N v1 v2 v3 n V v4 v5 = some (W1, o4) → gW X 6 tw_S tw_R ad V 0 0 59 [(0, .ref (ad (1, 0, 0))), (1, .int v1), (2, .int v2), (3, .int v3), (4, .int v4), (5, .int v5)] [] := by
  intro n
  induction n with
  | zero => intro V v4 v5 h; rw [m_pens_L59] at h; cases h
  | succ n ih =>
    intro V v4 v5 h
    rw [m_pens_L59] at h
    refine gz_iload (q := 5) hX dX6_pens_59 rfl ?_
    refine gz_iload_n (q := 3) hX dX6_pens_61 rfl rfl ?_
    refine gz_icmp_ge (tgt := 86) hX dX6_pens_62 (by decide) (fun c7 => ?_) (fun c7 => ?_)
    · have h := gz_ifp c7 h
      obtain ⟨rfl, rfl⟩ := gz_in2 h
      exact gz_lv [2, 4] rfl k
    · have h := gz_ifn c7 h
      refine gz_aload_n (q := 0) hX dX6_pens_65 rfl rfl ?_
      refine gz_iload (q := 4) hX dX6_pens_66 rfl ?_
      refine gz_aload_n (q := 0) hX dX6_pens_68 rfl rfl ?_
      refine gz_iload (q := 5) hX dX6_pens_69 rfl ?_
      refine gz_iload_n (q := 1) hX dX6_pens_71 rfl rfl ?_
      obtain ⟨V10, r8, e9, h⟩ := gz_b2_o h
      refine tc_V (As := [.int v5, .int v1]) hX (c_sharingOf e9) (lw_sharingOf_ q2156) rfl rfl nn_sharingOf ⟨Nat.le_of_ble_eq_true rfl, Nat.le_of_ble_eq_true rfl⟩ rfl rfl (Nat.le_of_ble_eq_true rfl) dX6_pens_72 rfl ?_
      refine tc_V (As := [.int v4, .int r8]) hX (c_lesser rfl) (lw_lesser_ q1932) rfl rfl nn_lesser ⟨Nat.le_of_ble_eq_true rfl, Nat.le_of_ble_eq_true rfl⟩ rfl rfl (Nat.le_of_ble_eq_true rfl) dX6_pens_75 rfl ?_
      obtain ⟨x11, e12, h⟩ := gz_let_o h
      refine gz_nm e12 ?_
      refine gz_istore (lv2 := [(4, .int x11), (0, .ref (ad (1, 0, 0))), (1, .int v1), (2, .int v2), (3, .int v3), (5, .int v5)]) hX dX6_pens_78 (by decide) rfl ?_
      refine gz_iinc (q := 5) (lv2 := [(5, .int (v5 + 1)), (4, .int x11), (0, .ref (ad (1, 0, 0))), (1, .int v1), (2, .int v2), (3, .int v3)]) hX dX6_pens_80 rfl gk_c_1 (by decide) rfl ?_
      refine gz_goto (tgt := 59) hX dX6_pens_83 (by decide) ?_
      exact gz_lv [2, 3, 4, 5, 1, 0] rfl (ih h)
noncomputable def m_pens (N : Nat) (V : gz_V) (a1 : Int32) (a2 : Int32) : Option (gz_V × Int32) := gz_let (gz_up V (1, 0, 0) 0 0) (fun V1 => (if (m_isIn a1 1 4) = 0 then some (V1, (-1)) else (if (m_isIn a2 0 1) = 0 then some (V1, (-1)) else gz_bd (m_pens_L32 N V1 a1 a2 N 1 0) (fun x5 => gz_b2 (m_pens_L59 N a1 a2 x5 N V1 100000000 0) (fun V7 x8 => (if a2 = 0 then some (V7, (x8 / 1000)) else some (V7, (x8 - x8 / 1000 * 1000))))))))
theorem c_pens {l : Launch} {D : va_G} {aC : Nat → ClassId} {ad : gz_A0} {N : Nat} {V : gz_V} {a1 : Int32} {a2 : Int32} {W1 : gz_V} {r : Int32} (h : m_pens N V a1 a2 = some (W1, r)) : gz_Met l yX6_pens cX6_pens 6 (some .int) rm_pens D aC ad tw_S V tw_R [.ref (ad (1, 0, 0)), .int a1, .int a2] (gz_F1 tw_S tw_R ad W1 (some (.int r))) 0 0 := by
  refine gt_ofW (own := RX6) (mn := "pens") (lv := [(0, .ref (ad (1, 0, 0))), (1, .int a1), (2, .int a2)]) (by decide) rfl rfl (Nat.le_of_ble_eq_true rfl) rfl ?_
  intro X hX hZ hF
  rw [m_pens] at h
  refine gz_aload_n (q := 0) hX dX6_pens_0 rfl rfl ?_
  refine gz_iconst (v := 0) hX dX6_pens_1 gk_c_0 ?_
  obtain ⟨V1, e2, h⟩ := gz_let_o h
  refine tp_told hX dX6_pens_2 e2 ?_
  refine gz_aload_n (q := 0) hX dX6_pens_5 rfl rfl ?_
  refine gz_iload_n (q := 1) hX dX6_pens_6 rfl rfl ?_
  refine gz_iconst (v := 1) hX dX6_pens_7 gk_c_1 ?_
  refine gz_iconst (v := 4) hX dX6_pens_8 gk_c_4 ?_
  refine tc_V (As := [.int a1, .int 1, .int 4]) hX (c_isIn rfl) (lw_isIn_ q1692) rfl rfl nn_isIn ⟨Nat.le_of_ble_eq_true rfl, Nat.le_of_ble_eq_true rfl⟩ rfl rfl (Nat.le_of_ble_eq_true rfl) dX6_pens_9 rfl ?_
  refine gz_if_eq (tgt := 25) hX dX6_pens_12 (by decide) (fun c3 => ?_) (fun c3 => ?_)
  · have h := gz_ifp c3 h
    refine gz_iconst (v := (-1)) hX dX6_pens_25 gk_c_m1 ?_
    obtain ⟨e1, e2⟩ := gz_in2 h
    exact gt_iret hX hZ hF e1 e2 dX6_pens_26
  · have h := gz_ifn c3 h
    refine gz_aload_n (q := 0) hX dX6_pens_15 rfl rfl ?_
    refine gz_iload_n (q := 2) hX dX6_pens_16 rfl rfl ?_
    refine gz_iconst (v := 0) hX dX6_pens_17 gk_c_0 ?_
    refine gz_iconst (v := 1) hX dX6_pens_18 gk_c_1 ?_
    refine tc_V (As := [.int a2, .int 0, .int 1]) hX (c_isIn rfl) (lw_isIn_ q1692) rfl rfl nn_isIn ⟨Nat.le_of_ble_eq_true rfl, Nat.le_of_ble_eq_true rfl⟩ rfl rfl (Nat.le_of_ble_eq_true rfl) dX6_pens_19 rfl ?_
    refine gz_if_ne (tgt := 27) hX dX6_pens_22 (by decide) (fun c4 => ?_) (fun c4 => ?_)
    · have h := gz_ifn c4 h
      refine gz_iconst (v := 1) hX dX6_pens_27 gk_c_1 ?_
      refine gz_istore_n (lv2 := [(3, .int 1), (0, .ref (ad (1, 0, 0))), (1, .int a1), (2, .int a2)]) hX dX6_pens_28 rfl (by decide) rfl ?_
      refine gz_iconst (v := 0) hX dX6_pens_29 gk_c_0 ?_
      refine gz_istore (lv2 := [(4, .int 0), (3, .int 1), (0, .ref (ad (1, 0, 0))), (1, .int a1), (2, .int a2)]) hX dX6_pens_30 (by decide) rfl ?_
      obtain ⟨x5, e6, h⟩ := gz_bd_o h
      refine gz_lv [2, 3, 4, 1, 0] rfl (w_m_pens_L32 hX hZ ?_ N e6)
      refine gz_ldcw (v := 100000000) hX q2127 dX6_pens_51 ?_
      refine gz_istore (lv2 := [(4, .int 100000000), (0, .ref (ad (1, 0, 0))), (1, .int a1), (2, .int a2), (3, .int x5)]) hX dX6_pens_54 (by decide) rfl ?_
      refine gz_iconst (v := 0) hX dX6_pens_56 gk_c_0 ?_
      refine gz_istore (lv2 := [(5, .int 0), (4, .int 100000000), (0, .ref (ad (1, 0, 0))), (1, .int a1), (2, .int a2), (3, .int x5)]) hX dX6_pens_57 (by decide) rfl ?_
      obtain ⟨V7, x8, e9, h⟩ := gz_b2_o h
      refine gz_lv [2, 3, 4, 5, 1, 0] rfl (w_m_pens_L59 hX hZ ?_ N e9)
      refine gz_iload_n (q := 0) hX dX6_pens_86 rfl rfl ?_
      refine gz_if_ne (tgt := 99) hX dX6_pens_87 (by decide) (fun c10 => ?_) (fun c10 => ?_)
      · have h := gz_ifn c10 h
        refine gz_iload (q := 1) hX dX6_pens_99 rfl ?_
        refine gz_sipush (v := 1000) hX dX6_pens_101 gk_s_1000 ?_
        refine gz_irem hX dX6_pens_104 (by decide) ?_
        obtain ⟨e1, e2⟩ := gz_in2 h
        exact gt_iret hX hZ hF e1 e2 dX6_pens_105
      · have h := gz_ifp c10 h
        refine gz_iload (q := 1) hX dX6_pens_90 rfl ?_
        refine gz_sipush (v := 1000) hX dX6_pens_92 gk_s_1000 ?_
        refine gz_idiv hX dX6_pens_95 (by decide) ?_
        refine gz_goto (tgt := 105) hX dX6_pens_96 (by decide) ?_
        obtain ⟨e1, e2⟩ := gz_in2 h
        exact gt_iret hX hZ hF e1 e2 dX6_pens_105
    · have h := gz_ifp c4 h
      refine gz_iconst (v := (-1)) hX dX6_pens_25 gk_c_m1 ?_
      obtain ⟨e1, e2⟩ := gz_in2 h
      exact gt_iret hX hZ hF e1 e2 dX6_pens_26
theorem lw_pens_ {i : Nat} (hl : Cond.methodLink RX6 i yX6_pens ∈ lw_all) : GoodIn lw_all (wsV RX6 i RX6 yX6_pens (ws_ yX6_pens cX6_pens 6 (some .int))) := lw_V hl q2153 q2154 q153 q2155
theorem nn_pens : yX6_pens.cls = RX6 ∧ yX6_pens.cls ≠ "java/lang/invoke/MethodHandle" ∧ yX6_pens.cls ≠ "java/lang/invoke/VarHandle" ∧ (parseMethodDescriptor yX6_pens.desc).map (fun d => d.parameters.length) = some 2 := by decide +kernel
def rm_person : Room := { frames := 2, cells := 0, slots := 0, locals := 46 }
noncomputable def m_person_L42 (N : Nat) (v1 : Int32) (v2 : Int32) : Nat → gz_V → Int32 → Option (gz_V)
  | 0, _, _ => none
  | n + 1, V, v3 => (if 5 ≤ v3 then some V else gz_bd (m_hasTrait V (V (1, 0, 0) 6) v3 v2) (fun V8 => m_person_L42 N v1 v2 n V8 (v3 + 1)))
theorem w_m_person_L42 {X : gz_X} {ad : gz_A0} (hX : gz_ok X cX6_person RX6 "person" 4 rm_person (some .int)) (hZ : gz_Z X) {N : Nat} {v1 : Int32} {v2 : Int32} {W1 : gz_V} (k : gW X 4 tw_S tw_R ad W1 0 0 63 [(0, .ref (ad (1, 0, 0))), (1, .int v1)] []) : ∀ (n : Nat) {V : gz_V} {v3 : Int32}, m_person_L42 N v1 v2 n V v3 = some W1 → gW X 4 tw_S tw_R ad V 0 0 42 [(0, .ref (ad (1, 0, 0))), (1, .int v1), (2, .int v2), (3, .int v3)] [] := by
  intro n
  induction n with
  | zero => intro V v3 h; rw [m_person_L42] at h; cases h
  | succ n ih =>
    intro V v3 h
    rw [m_person_L42] at h
    refine gz_iload_n (q := 3) hX dX6_person_42 rfl rfl ?_
    refine gz_iconst (v := 5) hX dX6_person_43 gk_c_5 ?_
    refine gz_icmp_ge (tgt := 63) hX dX6_person_44 (by decide) (fun c6 => ?_) (fun c6 => ?_)
    · have h := gz_ifp c6 h
      obtain rfl := gz_in1 h
      exact gz_lv [0, 1] rfl k
    · have h := gz_ifn c6 h
      refine gz_aload_n (q := 0) hX dX6_person_47 rfl rfl ?_
      refine gz_aload_n (q := 0) hX dX6_person_48 rfl rfl ?_
      refine tg_people hX dX6_person_49 ?_
      refine gz_iload_n (q := 3) hX dX6_person_52 rfl rfl ?_
      refine gz_iload_n (q := 2) hX dX6_person_53 rfl rfl ?_
      obtain ⟨V8, e7, h⟩ := gz_bd_o h
      refine tc_V (As := [.int (V (1, 0, 0) 6), .int v3, .int v2]) hX (c_hasTrait e7) (lw_hasTrait_ q1696) rfl rfl nn_hasTrait ⟨Nat.le_of_ble_eq_true rfl, Nat.le_of_ble_eq_true rfl⟩ rfl rfl (Nat.le_of_ble_eq_true rfl) dX6_person_54 rfl ?_
      refine gz_iinc (q := 3) (lv2 := [(3, .int (v3 + 1)), (0, .ref (ad (1, 0, 0))), (1, .int v1), (2, .int v2)]) hX dX6_person_57 rfl gk_c_1 (by decide) rfl ?_
      refine gz_goto (tgt := 42) hX dX6_person_60 (by decide) ?_
      exact gz_lv [1, 2, 3, 0] rfl (ih h)
noncomputable def m_person (N : Nat) (V : gz_V) (a1 : Int32) (a2 : Int32) : Option (gz_V × Int32) := gz_let (gz_up V (1, 0, 0) 0 0) (fun V1 => (if (m_isIn a1 0 9999) = 0 then some (V1, (-1)) else (if (m_isIn a2 0 999) = 0 then some (V1, (-1)) else (if (V1 (1, 0, 0) 6) = 12 then some (V1, (-1)) else gz_bd (m_person_L42 N a1 a2 N V1 0) (fun V6 => gz_gd (gz_inb (65 + (V6 (1, 0, 0) 6)) 121 = true) (gz_let (gz_up V6 (2, 1, 0) (65 + (V6 (1, 0, 0) 6)).toNatClampNeg a1) (fun V9 => gz_gd (gz_inb (77 + (V9 (1, 0, 0) 6)) 121 = true) (gz_let (gz_up V9 (2, 1, 0) (77 + (V9 (1, 0, 0) 6)).toNatClampNeg 0) (fun V12 => gz_gd (gz_inb (89 + (V12 (1, 0, 0) 6)) 121 = true) (gz_let (gz_up V12 (2, 1, 0) (89 + (V12 (1, 0, 0) 6)).toNatClampNeg 0) (fun V15 => gz_let (gz_up V15 (1, 0, 0) 6 ((V15 (1, 0, 0) 6) + 1)) (fun V17 => gz_let (gz_up V17 (1, 0, 0) 3 0) (fun V19 => some (V19, ((V19 (1, 0, 0) 6) - 1)))))))))))))))
theorem c_person {l : Launch} {D : va_G} {aC : Nat → ClassId} {ad : gz_A0} {N : Nat} {V : gz_V} {a1 : Int32} {a2 : Int32} {W1 : gz_V} {r : Int32} (h : m_person N V a1 a2 = some (W1, r)) : gz_Met l yX6_person cX6_person 4 (some .int) rm_person D aC ad tw_S V tw_R [.ref (ad (1, 0, 0)), .int a1, .int a2] (gz_F1 tw_S tw_R ad W1 (some (.int r))) 0 0 := by
  refine gt_ofW (own := RX6) (mn := "person") (lv := [(0, .ref (ad (1, 0, 0))), (1, .int a1), (2, .int a2)]) (by decide) rfl rfl (Nat.le_of_ble_eq_true rfl) rfl ?_
  intro X hX hZ hF
  rw [m_person] at h
  refine gz_aload_n (q := 0) hX dX6_person_0 rfl rfl ?_
  refine gz_iconst (v := 0) hX dX6_person_1 gk_c_0 ?_
  obtain ⟨V1, e2, h⟩ := gz_let_o h
  refine tp_told hX dX6_person_2 e2 ?_
  refine gz_aload_n (q := 0) hX dX6_person_5 rfl rfl ?_
  refine gz_iload_n (q := 1) hX dX6_person_6 rfl rfl ?_
  refine gz_iconst (v := 0) hX dX6_person_7 gk_c_0 ?_
  refine gz_sipush (v := 9999) hX dX6_person_8 gk_s_9999 ?_
  refine tc_V (As := [.int a1, .int 0, .int 9999]) hX (c_isIn rfl) (lw_isIn_ q1692) rfl rfl nn_isIn ⟨Nat.le_of_ble_eq_true rfl, Nat.le_of_ble_eq_true rfl⟩ rfl rfl (Nat.le_of_ble_eq_true rfl) dX6_person_11 rfl ?_
  refine gz_if_eq (tgt := 38) hX dX6_person_14 (by decide) (fun c3 => ?_) (fun c3 => ?_)
  · have h := gz_ifp c3 h
    refine gz_iconst (v := (-1)) hX dX6_person_38 gk_c_m1 ?_
    obtain ⟨e1, e2⟩ := gz_in2 h
    exact gt_iret hX hZ hF e1 e2 dX6_person_39
  · have h := gz_ifn c3 h
    refine gz_aload_n (q := 0) hX dX6_person_17 rfl rfl ?_
    refine gz_iload_n (q := 2) hX dX6_person_18 rfl rfl ?_
    refine gz_iconst (v := 0) hX dX6_person_19 gk_c_0 ?_
    refine gz_sipush (v := 999) hX dX6_person_20 gk_s_999 ?_
    refine tc_V (As := [.int a2, .int 0, .int 999]) hX (c_isIn rfl) (lw_isIn_ q1692) rfl rfl nn_isIn ⟨Nat.le_of_ble_eq_true rfl, Nat.le_of_ble_eq_true rfl⟩ rfl rfl (Nat.le_of_ble_eq_true rfl) dX6_person_23 rfl ?_
    refine gz_if_eq (tgt := 38) hX dX6_person_26 (by decide) (fun c4 => ?_) (fun c4 => ?_)
    · have h := gz_ifp c4 h
      refine gz_iconst (v := (-1)) hX dX6_person_38 gk_c_m1 ?_
      obtain ⟨e1, e2⟩ := gz_in2 h
      exact gt_iret hX hZ hF e1 e2 dX6_person_39
    · have h := gz_ifn c4 h
      refine gz_aload_n (q := 0) hX dX6_person_29 rfl rfl ?_
      refine tg_people hX dX6_person_30 ?_
      refine gz_bipush (v := 12) hX dX6_person_33 gk_b_12 ?_
      refine gz_icmp_ne (tgt := 40) hX dX6_person_35 (by decide) (fun c5 => ?_) (fun c5 => ?_)
      · have h := gz_ifn c5 h
        refine gz_iconst (v := 0) hX dX6_person_40 gk_c_0 ?_
        refine gz_istore_n (lv2 := [(3, .int 0), (0, .ref (ad (1, 0, 0))), (1, .int a1), (2, .int a2)]) hX dX6_person_41 rfl (by decide) rfl ?_
        obtain ⟨V6, e7, h⟩ := gz_bd_o h
        refine gz_lv [1, 2, 3, 0] rfl (w_m_person_L42 hX hZ ?_ N e7)
        refine gz_aload_n (q := 0) hX dX6_person_63 rfl rfl ?_
        refine tg_now hX dX6_person_64 ?_
        refine gz_bipush (v := 65) hX dX6_person_67 gk_b_65 ?_
        refine gz_aload_n (q := 0) hX dX6_person_69 rfl rfl ?_
        refine tg_people hX dX6_person_70 ?_
        refine gz_iadd hX dX6_person_73 ?_
        refine gz_iload_n (q := 1) hX dX6_person_74 rfl rfl ?_
        obtain ⟨b8, h⟩ := gz_gd_o h
        obtain ⟨V9, e10, h⟩ := gz_let_o h
        refine gz_iast (L := 121) hX tw_S1 (by decide) (gz_inb_o b8) dX6_person_75 e10 ?_
        refine gz_aload_n (q := 0) hX dX6_person_76 rfl rfl ?_
        refine tg_now hX dX6_person_77 ?_
        refine gz_bipush (v := 77) hX dX6_person_80 gk_b_77 ?_
        refine gz_aload_n (q := 0) hX dX6_person_82 rfl rfl ?_
        refine tg_people hX dX6_person_83 ?_
        refine gz_iadd hX dX6_person_86 ?_
        refine gz_iconst (v := 0) hX dX6_person_87 gk_c_0 ?_
        obtain ⟨b11, h⟩ := gz_gd_o h
        obtain ⟨V12, e13, h⟩ := gz_let_o h
        refine gz_iast (L := 121) hX tw_S1 (by decide) (gz_inb_o b11) dX6_person_88 e13 ?_
        refine gz_aload_n (q := 0) hX dX6_person_89 rfl rfl ?_
        refine tg_now hX dX6_person_90 ?_
        refine gz_bipush (v := 89) hX dX6_person_93 gk_b_89 ?_
        refine gz_aload_n (q := 0) hX dX6_person_95 rfl rfl ?_
        refine tg_people hX dX6_person_96 ?_
        refine gz_iadd hX dX6_person_99 ?_
        refine gz_iconst (v := 0) hX dX6_person_100 gk_c_0 ?_
        obtain ⟨b14, h⟩ := gz_gd_o h
        obtain ⟨V15, e16, h⟩ := gz_let_o h
        refine gz_iast (L := 121) hX tw_S1 (by decide) (gz_inb_o b14) dX6_person_101 e16 ?_
        refine gz_aload_n (q := 0) hX dX6_person_102 rfl rfl ?_
        refine gz_aload_n (q := 0) hX dX6_person_103 rfl rfl ?_
        refine tg_people hX dX6_person_104 ?_
        refine gz_iconst (v := 1) hX dX6_person_107 gk_c_1 ?_
        refine gz_iadd hX dX6_person_108 ?_
        obtain ⟨V17, e18, h⟩ := gz_let_o h
        refine tp_people hX dX6_person_109 e18 ?_
        refine gz_aload_n (q := 0) hX dX6_person_112 rfl rfl ?_
        refine gz_iconst (v := 0) hX dX6_person_113 gk_c_0 ?_
        obtain ⟨V19, e20, h⟩ := gz_let_o h
        refine tp_undoable hX dX6_person_114 e20 ?_
        refine gz_aload_n (q := 0) hX dX6_person_117 rfl rfl ?_
        refine tg_people hX dX6_person_118 ?_
        refine gz_iconst (v := 1) hX dX6_person_121 gk_c_1 ?_
        refine gz_isub hX dX6_person_122 ?_
        obtain ⟨e1, e2⟩ := gz_in2 h
        exact gt_iret hX hZ hF e1 e2 dX6_person_123
      · have h := gz_ifp c5 h
        refine gz_iconst (v := (-1)) hX dX6_person_38 gk_c_m1 ?_
        obtain ⟨e1, e2⟩ := gz_in2 h
        exact gt_iret hX hZ hF e1 e2 dX6_person_39
theorem lw_person_ {i : Nat} (hl : Cond.methodLink RX6 i yX6_person ∈ lw_all) : GoodIn lw_all (wsV RX6 i RX6 yX6_person (ws_ yX6_person cX6_person 4 (some .int))) := lw_V hl q1689 q1690 q153 q1691
theorem nn_person : yX6_person.cls = RX6 ∧ yX6_person.cls ≠ "java/lang/invoke/MethodHandle" ∧ yX6_person.cls ≠ "java/lang/invoke/VarHandle" ∧ (parseMethodDescriptor yX6_person.desc).map (fun d => d.parameters.length) = some 2 := by decide +kernel
def rm_prices : Room := { frames := 1, cells := 0, slots := 0, locals := 23 }
noncomputable def m_prices_L42 (N : Nat) (V : gz_V) (v1 : Int32) (v2 : Int32) (v3 : Int32) : Nat → Int32 → Option ((gz_V × Int32) ⊕ (Unit))
  | 0, _ => none
  | n + 1, v4 => (if v1 < v4 then some (.inr ()) else gz_gd (¬ v4 = 0) ((if (v1 - v1 / v4 * v4) = 0 then gz_gd (¬ v4 = 0) ((if (v2 - v2 / v4 * v4) = 0 then some (.inl (V, (-1))) else m_prices_L42 N V v1 v2 v3 n (v4 + 1))) else m_prices_L42 N V v1 v2 v3 n (v4 + 1))))
theorem w_m_prices_L42 {X : gz_X} {ad : gz_A0} (hX : gz_ok X cX6_prices RX6 "prices" 7 rm_prices (some .int)) (hZ : gz_Z X) {N : Nat} {V : gz_V} {v1 : Int32} {v2 : Int32} {v3 : Int32} {out : (gz_V × Int32) ⊕ (Unit)} (hout : (∃ (W2 : gz_V) (r : Int32), out = .inl (W2, r) ∧ gx_F X tw_S W2 tw_R ad (some (.int r))) ∨ (out = .inr () ∧ gW X 7 tw_S tw_R ad V 0 0 70 [(0, .ref (ad (1, 0, 0))), (1, .int v1), (2, .int v2), (3, .int v3)] [])) : ∀ (n : Nat) {v4 : Int32}, m_prices_L42 N V v1 v2 v3 n v4 = some out → gW X 7 tw_S tw_R ad V 0 0 42 [(0, .ref (ad (1, 0, 0))), (1, .int v1), (2, .int v2), (3, .int v3), (4, .int v4)] [] := by
  intro n
  induction n with
  | zero => intro v4 h; rw [m_prices_L42] at h; cases h
  | succ n ih =>
    intro v4 h
    rw [m_prices_L42] at h
    refine gz_iload (q := 4) hX dX6_prices_42 rfl ?_
    refine gz_iload_n (q := 1) hX dX6_prices_44 rfl rfl ?_
    refine gz_icmp_gt (tgt := 70) hX dX6_prices_45 (by decide) (fun c6 => ?_) (fun c6 => ?_)
    · have h := gz_ifp c6 h
      obtain rfl := gz_in1 h
      obtain ⟨_, _, e0, _⟩ | ⟨e0, k⟩ := hout
      · cases e0
      · cases e0
        exact gz_lv [0, 1, 2, 3] rfl k
    · have h := gz_ifn c6 h
      refine gz_iload_n (q := 1) hX dX6_prices_48 rfl rfl ?_
      refine gz_iload (q := 4) hX dX6_prices_49 rfl ?_
      obtain ⟨b7, h⟩ := gz_gd_o h
      refine gz_irem hX dX6_prices_51 b7 ?_
      refine gz_if_ne (tgt := 64) hX dX6_prices_52 (by decide) (fun c8 => ?_) (fun c8 => ?_)
      · have h := gz_ifn c8 h
        refine gz_iinc (q := 4) (lv2 := [(4, .int (v4 + 1)), (0, .ref (ad (1, 0, 0))), (1, .int v1), (2, .int v2), (3, .int v3)]) hX dX6_prices_64 rfl gk_c_1 (by decide) rfl ?_
        refine gz_goto (tgt := 42) hX dX6_prices_67 (by decide) ?_
        exact gz_lv [1, 2, 3, 4, 0] rfl (ih h)
      · have h := gz_ifp c8 h
        refine gz_iload_n (q := 2) hX dX6_prices_55 rfl rfl ?_
        refine gz_iload (q := 4) hX dX6_prices_56 rfl ?_
        obtain ⟨b9, h⟩ := gz_gd_o h
        refine gz_irem hX dX6_prices_58 b9 ?_
        refine gz_if_ne (tgt := 64) hX dX6_prices_59 (by decide) (fun c10 => ?_) (fun c10 => ?_)
        · have h := gz_ifn c10 h
          refine gz_iinc (q := 4) (lv2 := [(4, .int (v4 + 1)), (0, .ref (ad (1, 0, 0))), (1, .int v1), (2, .int v2), (3, .int v3)]) hX dX6_prices_64 rfl gk_c_1 (by decide) rfl ?_
          refine gz_goto (tgt := 42) hX dX6_prices_67 (by decide) ?_
          exact gz_lv [1, 2, 3, 4, 0] rfl (ih h)
        · have h := gz_ifp c10 h
          refine gz_iconst (v := (-1)) hX dX6_prices_62 gk_c_m1 ?_
          obtain rfl := gz_in1 h
          obtain ⟨_, _, e0, hF⟩ | ⟨e0, _⟩ := hout
          · cases e0
            exact gt_iret hX hZ hF rfl rfl dX6_prices_63
          · cases e0
noncomputable def m_prices_L79 (N : Nat) (v1 : Int32) (v2 : Int32) (v3 : Int32) : Nat → gz_V → Int32 → Int32 → Int32 → Option (gz_V × Int32 × Int32)
  | 0, _, _, _, _ => none
  | n + 1, V, v4, v5, v6 => (if (v1 * v2) ≤ v6 then some (V, v4, v5) else gz_bd (if v6 = 0 then some (1 : Int32) else (if v6 < v1 then (if v6 < v2 then some (0 : Int32) else gz_gd (gz_inb (v6 - v2) 3600 = true) ((if (V (2, 56, 0) (v6 - v2).toNatClampNeg) = 1 then some (1 : Int32) else some (0 : Int32)))) else gz_gd (gz_inb (v6 - v1) 3600 = true) ((if (V (2, 56, 0) (v6 - v1).toNatClampNeg) = 1 then some (1 : Int32) else (if v6 < v2 then some (0 : Int32) else gz_gd (gz_inb (v6 - v2) 3600 = true) ((if (V (2, 56, 0) (v6 - v2).toNatClampNeg) = 1 then some (1 : Int32) else some (0 : Int32)))))))) (fun y8 => gz_gd (gz_inb v6 3600 = true) (gz_let (gz_up V (2, 56, 0) v6.toNatClampNeg y8) (fun V22 => gz_gd (gz_inb v6 3600 = true) (gz_b2 (if (V22 (2, 56, 0) v6.toNatClampNeg) = 1 then some (v4, v5) else gz_let (v4 + 1) (fun x30 => some (x30, v6))) (fun y25 y26 => m_prices_L79 N v1 v2 v3 n V22 y25 y26 (v6 + 1)))))))
theorem w_m_prices_L79 {X : gz_X} {ad : gz_A0} (hX : gz_ok X cX6_prices RX6 "prices" 7 rm_prices (some .int)) (hZ : gz_Z X) {N : Nat} {v1 : Int32} {v2 : Int32} {v3 : Int32} {W1 : gz_V} {o4 : Int32} {o5 : Int32} (k : gW X 7 tw_S tw_R ad W1 0 0 172 [(3, .int v3), (4, .int o4), (5, .int o5)] []) : ∀ (n : Nat) {V : gz_V} {v4 : Int32} {v5 : Int32} {v6 : Int32}, m_prices_L79 N v1 v2 v3 n V v4 v5 v6 = some (W1, o4, o5) → gW X 7 tw_S tw_R ad V 0 0 79 [(0, .ref (ad (1, 0, 0))), (1, .int v1), (2, .int v2), (3, .int v3), (4, .int v4), (5, .int v5), (6, .int v6)] [] := by
  intro n
  induction n with
  | zero => intro V v4 v5 v6 h; rw [m_prices_L79] at h; cases h
  | succ n ih =>
    intro V v4 v5 v6 h
    rw [m_prices_L79] at h
    refine gz_iload (q := 6) hX dX6_prices_79 rfl ?_
    refine gz_iload_n (q := 1) hX dX6_prices_81 rfl rfl ?_
    refine gz_iload_n (q := 2) hX dX6_prices_82 rfl rfl ?_
    refine gz_imul hX dX6_prices_83 ?_
    refine gz_icmp_ge (tgt := 172) hX dX6_prices_84 (by decide) (fun c7 => ?_) (fun c7 => ?_)
    · have h := gz_ifp c7 h
      obtain ⟨rfl, rfl, rfl⟩ := gz_in3 h
      exact gz_lv [3, 4, 5] rfl k
    · have h := gz_ifn c7 h
      refine gz_aload_n (q := 0) hX dX6_prices_87 rfl rfl ?_
      refine tg_canPay hX dX6_prices_88 ?_
      refine gz_iload (q := 6) hX dX6_prices_91 rfl ?_
      refine gz_iload (q := 6) hX dX6_prices_93 rfl ?_
      obtain ⟨y8, g9, h⟩ := gz_bd_o h
      have J10 : gW X 7 tw_S tw_R ad V 0 0 141 [(0, .ref (ad (1, 0, 0))), (1, .int v1), (2, .int v2), (3, .int v3), (4, .int v4), (5, .int v5), (6, .int v6)] [.int y8, .int v6, .ref (ad (2, 56, 0))] := by
        obtain ⟨b21, h⟩ := gz_gd_o h
        obtain ⟨V22, e23, h⟩ := gz_let_o h
        refine gz_iast (L := 3600) hX tw_S56 (by decide) (gz_inb_o b21) dX6_prices_141 e23 ?_
        refine gz_aload_n (q := 0) hX dX6_prices_142 rfl rfl ?_
        refine tg_canPay hX dX6_prices_143 ?_
        refine gz_iload (q := 6) hX dX6_prices_146 rfl ?_
        obtain ⟨b24, h⟩ := gz_gd_o h
        refine gz_iald (L := 3600) hX tw_S56 (gz_inb_o b24) dX6_prices_148 ?_
        refine gz_iconst (v := 1) hX dX6_prices_149 gk_c_1 ?_
        obtain ⟨y25, y26, g27, h⟩ := gz_b2_o h
        have J28 : gW X 7 tw_S tw_R ad V22 0 0 166 [(0, .ref (ad (1, 0, 0))), (1, .int v1), (2, .int v2), (3, .int v3), (4, .int y25), (5, .int y26), (6, .int v6)] [] := by
          refine gz_iinc (q := 6) (lv2 := [(6, .int (v6 + 1)), (0, .ref (ad (1, 0, 0))), (1, .int v1), (2, .int v2), (3, .int v3), (4, .int y25), (5, .int y26)]) hX dX6_prices_166 rfl gk_c_1 (by decide) rfl ?_
          refine gz_goto (tgt := 79) hX dX6_prices_169 (by decide) ?_
          exact gz_lv [1, 2, 3, 4, 5, 6, 0] rfl (ih h)
        refine gz_icmp_ne (tgt := 156) hX dX6_prices_150 (by decide) (fun c29 => ?_) (fun c29 => ?_)
        · have g27 := gz_ifn c29 g27
          refine gz_iload (q := 4) hX dX6_prices_156 rfl ?_
          refine gz_iconst (v := 1) hX dX6_prices_158 gk_c_1 ?_
          refine gz_iadd hX dX6_prices_159 ?_
          obtain ⟨x30, e31, g27⟩ := gz_let_o g27
          refine gz_nm e31 ?_
          refine gz_istore (lv2 := [(4, .int x30), (0, .ref (ad (1, 0, 0))), (1, .int v1), (2, .int v2), (3, .int v3), (5, .int v5), (6, .int v6)]) hX dX6_prices_160 (by decide) rfl ?_
          refine gz_iload (q := 6) hX dX6_prices_162 rfl ?_
          refine gz_istore (lv2 := [(5, .int v6), (4, .int x30), (0, .ref (ad (1, 0, 0))), (1, .int v1), (2, .int v2), (3, .int v3), (6, .int v6)]) hX dX6_prices_164 (by decide) rfl ?_
          obtain ⟨rfl, rfl⟩ := gz_in2 g27
          exact gz_lv [2, 3, 4, 5, 1, 0, 6] rfl J28
        · have g27 := gz_ifp c29 g27
          refine gz_goto (tgt := 166) hX dX6_prices_153 (by decide) ?_
          obtain ⟨rfl, rfl⟩ := gz_in2 g27
          exact gz_lv [0, 1, 2, 3, 4, 5, 6] rfl J28
      refine gz_if_eq (tgt := 136) hX dX6_prices_95 (by decide) (fun c11 => ?_) (fun c11 => ?_)
      · have g9 := gz_ifp c11 g9
        refine gz_iconst (v := 1) hX dX6_prices_136 gk_c_1 ?_
        refine gz_goto (tgt := 141) hX dX6_prices_137 (by decide) ?_
        obtain rfl := gz_in1 g9
        exact gz_lv [0, 1, 2, 3, 4, 5, 6] rfl J10
      · have g9 := gz_ifn c11 g9
        refine gz_iload (q := 6) hX dX6_prices_98 rfl ?_
        refine gz_iload_n (q := 1) hX dX6_prices_100 rfl rfl ?_
        refine gz_icmp_lt (tgt := 117) hX dX6_prices_101 (by decide) (fun c12 => ?_) (fun c12 => ?_)
        · have g9 := gz_ifp c12 g9
          refine gz_iload (q := 6) hX dX6_prices_117 rfl ?_
          refine gz_iload_n (q := 2) hX dX6_prices_119 rfl rfl ?_
          refine gz_icmp_lt (tgt := 140) hX dX6_prices_120 (by decide) (fun c13 => ?_) (fun c13 => ?_)
          · have g9 := gz_ifp c13 g9
            refine gz_iconst (v := 0) hX dX6_prices_140 gk_c_0 ?_
            obtain rfl := gz_in1 g9
            exact gz_lv [0, 1, 2, 3, 4, 5, 6] rfl J10
          · have g9 := gz_ifn c13 g9
            refine gz_aload_n (q := 0) hX dX6_prices_123 rfl rfl ?_
            refine tg_canPay hX dX6_prices_124 ?_
            refine gz_iload (q := 6) hX dX6_prices_127 rfl ?_
            refine gz_iload_n (q := 2) hX dX6_prices_129 rfl rfl ?_
            refine gz_isub hX dX6_prices_130 ?_
            obtain ⟨b14, g9⟩ := gz_gd_o g9
            refine gz_iald (L := 3600) hX tw_S56 (gz_inb_o b14) dX6_prices_131 ?_
            refine gz_iconst (v := 1) hX dX6_prices_132 gk_c_1 ?_
            refine gz_icmp_ne (tgt := 140) hX dX6_prices_133 (by decide) (fun c15 => ?_) (fun c15 => ?_)
            · have g9 := gz_ifn c15 g9
              refine gz_iconst (v := 0) hX dX6_prices_140 gk_c_0 ?_
              obtain rfl := gz_in1 g9
              exact gz_lv [0, 1, 2, 3, 4, 5, 6] rfl J10
            · have g9 := gz_ifp c15 g9
              refine gz_iconst (v := 1) hX dX6_prices_136 gk_c_1 ?_
              refine gz_goto (tgt := 141) hX dX6_prices_137 (by decide) ?_
              obtain rfl := gz_in1 g9
              exact gz_lv [0, 1, 2, 3, 4, 5, 6] rfl J10
        · have g9 := gz_ifn c12 g9
          refine gz_aload_n (q := 0) hX dX6_prices_104 rfl rfl ?_
          refine tg_canPay hX dX6_prices_105 ?_
          refine gz_iload (q := 6) hX dX6_prices_108 rfl ?_
          refine gz_iload_n (q := 1) hX dX6_prices_110 rfl rfl ?_
          refine gz_isub hX dX6_prices_111 ?_
          obtain ⟨b16, g9⟩ := gz_gd_o g9
          refine gz_iald (L := 3600) hX tw_S56 (gz_inb_o b16) dX6_prices_112 ?_
          refine gz_iconst (v := 1) hX dX6_prices_113 gk_c_1 ?_
          refine gz_icmp_eq (tgt := 136) hX dX6_prices_114 (by decide) (fun c17 => ?_) (fun c17 => ?_)
          · have g9 := gz_ifp c17 g9
            refine gz_iconst (v := 1) hX dX6_prices_136 gk_c_1 ?_
            refine gz_goto (tgt := 141) hX dX6_prices_137 (by decide) ?_
            obtain rfl := gz_in1 g9
            exact gz_lv [0, 1, 2, 3, 4, 5, 6] rfl J10
          · have g9 := gz_ifn c17 g9
            refine gz_iload (q := 6) hX dX6_prices_117 rfl ?_
            refine gz_iload_n (q := 2) hX dX6_prices_119 rfl rfl ?_
            refine gz_icmp_lt (tgt := 140) hX dX6_prices_120 (by decide) (fun c18 => ?_) (fun c18 => ?_)
            · have g9 := gz_ifp c18 g9
              refine gz_iconst (v := 0) hX dX6_prices_140 gk_c_0 ?_
              obtain rfl := gz_in1 g9
              exact gz_lv [0, 1, 2, 3, 4, 5, 6] rfl J10
            · have g9 := gz_ifn c18 g9
              refine gz_aload_n (q := 0) hX dX6_prices_123 rfl rfl ?_
              refine tg_canPay hX dX6_prices_124 ?_
              refine gz_iload (q := 6) hX dX6_prices_127 rfl ?_
              refine gz_iload_n (q := 2) hX dX6_prices_129 rfl rfl ?_
              refine gz_isub hX dX6_prices_130 ?_
              obtain ⟨b19, g9⟩ := gz_gd_o g9
              refine gz_iald (L := 3600) hX tw_S56 (gz_inb_o b19) dX6_prices_131 ?_
              refine gz_iconst (v := 1) hX dX6_prices_132 gk_c_1 ?_
              refine gz_icmp_ne (tgt := 140) hX dX6_prices_133 (by decide) (fun c20 => ?_) (fun c20 => ?_)
              · have g9 := gz_ifn c20 g9
                refine gz_iconst (v := 0) hX dX6_prices_140 gk_c_0 ?_
                obtain rfl := gz_in1 g9
                exact gz_lv [0, 1, 2, 3, 4, 5, 6] rfl J10
              · have g9 := gz_ifp c20 g9
                refine gz_iconst (v := 1) hX dX6_prices_136 gk_c_1 ?_
                refine gz_goto (tgt := 141) hX dX6_prices_137 (by decide) ?_
                obtain rfl := gz_in1 g9
                exact gz_lv [0, 1, 2, 3, 4, 5, 6] rfl J10
noncomputable def m_prices (N : Nat) (V : gz_V) (a1 : Int32) (a2 : Int32) (a3 : Int32) : Option (gz_V × Int32) := gz_let (gz_up V (1, 0, 0) 0 0) (fun V1 => (if (m_isIn a1 2 60) = 0 then some (V1, (-1)) else (if (m_isIn a2 2 60) = 0 then some (V1, (-1)) else (if (m_isIn a3 0 1) = 0 then some (V1, (-1)) else gz_lp (m_prices_L42 N V1 a1 a2 a3 N 2) some (fun _ => gz_b3 (m_prices_L79 N a1 a2 a3 N V1 0 (-1) 0) (fun V7 x8 x9 => (if a3 = 0 then some (V7, x9) else some (V7, x8))))))))
theorem c_prices {l : Launch} {D : va_G} {aC : Nat → ClassId} {ad : gz_A0} {N : Nat} {V : gz_V} {a1 : Int32} {a2 : Int32} {a3 : Int32} {W1 : gz_V} {r : Int32} (h : m_prices N V a1 a2 a3 = some (W1, r)) : gz_Met l yX6_prices cX6_prices 7 (some .int) rm_prices D aC ad tw_S V tw_R [.ref (ad (1, 0, 0)), .int a1, .int a2, .int a3] (gz_F1 tw_S tw_R ad W1 (some (.int r))) 0 0 := by
  refine gt_ofW (own := RX6) (mn := "prices") (lv := [(0, .ref (ad (1, 0, 0))), (1, .int a1), (2, .int a2), (3, .int a3)]) (by decide) rfl rfl (Nat.le_of_ble_eq_true rfl) rfl ?_
  intro X hX hZ hF
  rw [m_prices] at h
  refine gz_aload_n (q := 0) hX dX6_prices_0 rfl rfl ?_
  refine gz_iconst (v := 0) hX dX6_prices_1 gk_c_0 ?_
  obtain ⟨V1, e2, h⟩ := gz_let_o h
  refine tp_told hX dX6_prices_2 e2 ?_
  refine gz_aload_n (q := 0) hX dX6_prices_5 rfl rfl ?_
  refine gz_iload_n (q := 1) hX dX6_prices_6 rfl rfl ?_
  refine gz_iconst (v := 2) hX dX6_prices_7 gk_c_2 ?_
  refine gz_bipush (v := 60) hX dX6_prices_8 gk_b_60 ?_
  refine tc_V (As := [.int a1, .int 2, .int 60]) hX (c_isIn rfl) (lw_isIn_ q1692) rfl rfl nn_isIn ⟨Nat.le_of_ble_eq_true rfl, Nat.le_of_ble_eq_true rfl⟩ rfl rfl (Nat.le_of_ble_eq_true rfl) dX6_prices_10 rfl ?_
  refine gz_if_eq (tgt := 37) hX dX6_prices_13 (by decide) (fun c3 => ?_) (fun c3 => ?_)
  · have h := gz_ifp c3 h
    refine gz_iconst (v := (-1)) hX dX6_prices_37 gk_c_m1 ?_
    obtain ⟨e1, e2⟩ := gz_in2 h
    exact gt_iret hX hZ hF e1 e2 dX6_prices_38
  · have h := gz_ifn c3 h
    refine gz_aload_n (q := 0) hX dX6_prices_16 rfl rfl ?_
    refine gz_iload_n (q := 2) hX dX6_prices_17 rfl rfl ?_
    refine gz_iconst (v := 2) hX dX6_prices_18 gk_c_2 ?_
    refine gz_bipush (v := 60) hX dX6_prices_19 gk_b_60 ?_
    refine tc_V (As := [.int a2, .int 2, .int 60]) hX (c_isIn rfl) (lw_isIn_ q1692) rfl rfl nn_isIn ⟨Nat.le_of_ble_eq_true rfl, Nat.le_of_ble_eq_true rfl⟩ rfl rfl (Nat.le_of_ble_eq_true rfl) dX6_prices_21 rfl ?_
    refine gz_if_eq (tgt := 37) hX dX6_prices_24 (by decide) (fun c4 => ?_) (fun c4 => ?_)
    · have h := gz_ifp c4 h
      refine gz_iconst (v := (-1)) hX dX6_prices_37 gk_c_m1 ?_
      obtain ⟨e1, e2⟩ := gz_in2 h
      exact gt_iret hX hZ hF e1 e2 dX6_prices_38
    · have h := gz_ifn c4 h
      refine gz_aload_n (q := 0) hX dX6_prices_27 rfl rfl ?_
      refine gz_iload_n (q := 3) hX dX6_prices_28 rfl rfl ?_
      refine gz_iconst (v := 0) hX dX6_prices_29 gk_c_0 ?_
      refine gz_iconst (v := 1) hX dX6_prices_30 gk_c_1 ?_
      refine tc_V (As := [.int a3, .int 0, .int 1]) hX (c_isIn rfl) (lw_isIn_ q1692) rfl rfl nn_isIn ⟨Nat.le_of_ble_eq_true rfl, Nat.le_of_ble_eq_true rfl⟩ rfl rfl (Nat.le_of_ble_eq_true rfl) dX6_prices_31 rfl ?_
      refine gz_if_ne (tgt := 39) hX dX6_prices_34 (by decide) (fun c5 => ?_) (fun c5 => ?_)
      · have h := gz_ifn c5 h
        refine gz_iconst (v := 2) hX dX6_prices_39 gk_c_2 ?_
        refine gz_istore (lv2 := [(4, .int 2), (0, .ref (ad (1, 0, 0))), (1, .int a1), (2, .int a2), (3, .int a3)]) hX dX6_prices_40 (by decide) rfl ?_
        rcases gz_lp_o h with ⟨p12, e6, h⟩ | ⟨_, e6, h⟩
        · obtain rfl := gz_in1 h
          exact gz_lv [1, 2, 3, 4, 0] rfl (w_m_prices_L42 hX hZ (Or.inl ⟨_, _, rfl, hF⟩) N e6)
        · refine gz_lv [1, 2, 3, 4, 0] rfl (w_m_prices_L42 hX hZ (Or.inr ⟨rfl, ?_⟩) N e6)
          refine gz_iconst (v := 0) hX dX6_prices_70 gk_c_0 ?_
          refine gz_istore (lv2 := [(4, .int 0), (0, .ref (ad (1, 0, 0))), (1, .int a1), (2, .int a2), (3, .int a3)]) hX dX6_prices_71 (by decide) rfl ?_
          refine gz_iconst (v := (-1)) hX dX6_prices_73 gk_c_m1 ?_
          refine gz_istore (lv2 := [(5, .int (-1)), (4, .int 0), (0, .ref (ad (1, 0, 0))), (1, .int a1), (2, .int a2), (3, .int a3)]) hX dX6_prices_74 (by decide) rfl ?_
          refine gz_iconst (v := 0) hX dX6_prices_76 gk_c_0 ?_
          refine gz_istore (lv2 := [(6, .int 0), (5, .int (-1)), (4, .int 0), (0, .ref (ad (1, 0, 0))), (1, .int a1), (2, .int a2), (3, .int a3)]) hX dX6_prices_77 (by decide) rfl ?_
          obtain ⟨V7, x8, x9, e10, h⟩ := gz_b3_o h
          refine gz_lv [3, 4, 5, 6, 2, 1, 0] rfl (w_m_prices_L79 hX hZ ?_ N e10)
          refine gz_iload_n (q := 0) hX dX6_prices_172 rfl rfl ?_
          refine gz_if_ne (tgt := 181) hX dX6_prices_173 (by decide) (fun c11 => ?_) (fun c11 => ?_)
          · have h := gz_ifn c11 h
            refine gz_iload (q := 1) hX dX6_prices_181 rfl ?_
            obtain ⟨e1, e2⟩ := gz_in2 h
            exact gt_iret hX hZ hF e1 e2 dX6_prices_183
          · have h := gz_ifp c11 h
            refine gz_iload (q := 2) hX dX6_prices_176 rfl ?_
            refine gz_goto (tgt := 183) hX dX6_prices_178 (by decide) ?_
            obtain ⟨e1, e2⟩ := gz_in2 h
            exact gt_iret hX hZ hF e1 e2 dX6_prices_183
      · have h := gz_ifp c5 h
        refine gz_iconst (v := (-1)) hX dX6_prices_37 gk_c_m1 ?_
        obtain ⟨e1, e2⟩ := gz_in2 h
        exact gt_iret hX hZ hF e1 e2 dX6_prices_38
theorem lw_prices_ {i : Nat} (hl : Cond.methodLink RX6 i yX6_prices ∈ lw_all) : GoodIn lw_all (wsV RX6 i RX6 yX6_prices (ws_ yX6_prices cX6_prices 7 (some .int))) := lw_V hl q2112 q2113 q153 q2114
theorem nn_prices : yX6_prices.cls = RX6 ∧ yX6_prices.cls ≠ "java/lang/invoke/MethodHandle" ∧ yX6_prices.cls ≠ "java/lang/invoke/VarHandle" ∧ (parseMethodDescriptor yX6_prices.desc).map (fun d => d.parameters.length) = some 3 := by decide +kernel
def rm_raw : Room := { frames := 0, cells := 0, slots := 0, locals := 0 }
noncomputable def m_raw (V : gz_V) (a1 : Int32) : Option Int32 := (if (V (1, 0, 0) 12) ≤ a1 then some (-1) else gz_gd (gz_inb a1 400 = true) (some (V (2, 11, 0) a1.toNatClampNeg)))
theorem c_raw {l : Launch} {D : va_G} {aC : Nat → ClassId} {ad : gz_A0} {V : gz_V} {a1 : Int32} {r : Int32} (h : m_raw V a1 = some r) : gz_Met l yX6_raw cX6_raw 2 (some .int) rm_raw D aC ad tw_S V tw_R [.ref (ad (1, 0, 0)), .int a1] (gz_F1 tw_S tw_R ad V (some (.int r))) 0 0 := by
  refine gt_ofW (own := RX6) (mn := "raw") (lv := [(0, .ref (ad (1, 0, 0))), (1, .int a1)]) (by decide) rfl rfl (Nat.le_of_ble_eq_true rfl) rfl ?_
  intro X hX hZ hF
  rw [m_raw] at h
  refine gz_iload_n (q := 1) hX dX6_raw_0 rfl rfl ?_
  refine gz_aload_n (q := 0) hX dX6_raw_1 rfl rfl ?_
  refine tg_taped hX dX6_raw_2 ?_
  refine gz_icmp_ge (tgt := 17) hX dX6_raw_5 (by decide) (fun c1 => ?_) (fun c1 => ?_)
  · have h := gz_ifp c1 h
    refine gz_iconst (v := (-1)) hX dX6_raw_17 gk_c_m1 ?_
    exact gt_iret hX hZ hF rfl (gz_in1 h) dX6_raw_18
  · have h := gz_ifn c1 h
    refine gz_aload_n (q := 0) hX dX6_raw_8 rfl rfl ?_
    refine tg_tape hX dX6_raw_9 ?_
    refine gz_iload_n (q := 1) hX dX6_raw_12 rfl rfl ?_
    obtain ⟨b2, h⟩ := gz_gd_o h
    refine gz_iald (L := 400) hX tw_S11 (gz_inb_o b2) dX6_raw_13 ?_
    refine gz_goto (tgt := 18) hX dX6_raw_14 (by decide) ?_
    exact gt_iret hX hZ hF rfl (gz_in1 h) dX6_raw_18
theorem lw_raw_ {i : Nat} (hl : Cond.methodLink RX6 i yX6_raw ∈ lw_all) : GoodIn lw_all (wsV RX6 i RX6 yX6_raw (ws_ yX6_raw cX6_raw 2 (some .int))) := lw_V hl q1750 qs62 q153 q1751
theorem nn_raw : yX6_raw.cls = RX6 ∧ yX6_raw.cls ≠ "java/lang/invoke/MethodHandle" ∧ yX6_raw.cls ≠ "java/lang/invoke/VarHandle" ∧ (parseMethodDescriptor yX6_raw.desc).map (fun d => d.parameters.length) = some 1 := by decide +kernel
def rm_waits : Room := { frames := 0, cells := 0, slots := 0, locals := 0 }
noncomputable def m_waits (V : gz_V) (a1 : Int32) : Option gz_V := gz_gd (gz_inb (V (1, 0, 0) 29) 40 = true) (gz_let (gz_up V (2, 28, 0) (V (1, 0, 0) 29).toNatClampNeg a1) (fun V2 => gz_let (gz_up V2 (1, 0, 0) 29 ((V2 (1, 0, 0) 29) + 1)) (fun V4 => some V4)))
theorem c_waits {l : Launch} {D : va_G} {aC : Nat → ClassId} {ad : gz_A0} {V : gz_V} {a1 : Int32} {W1 : gz_V} (h : m_waits V a1 = some W1) : gz_Met l yX6_waits cX6_waits 2 none rm_waits D aC ad tw_S V tw_R [.ref (ad (1, 0, 0)), .int a1] (gz_F1 tw_S tw_R ad W1 none) 0 0 := by
  refine gt_ofW (own := RX6) (mn := "waits") (lv := [(0, .ref (ad (1, 0, 0))), (1, .int a1)]) (by decide) rfl rfl (Nat.le_of_ble_eq_true rfl) rfl ?_
  intro X hX hZ hF
  rw [m_waits] at h
  refine gz_aload_n (q := 0) hX dX6_waits_0 rfl rfl ?_
  refine tg_pending hX dX6_waits_1 ?_
  refine gz_aload_n (q := 0) hX dX6_waits_4 rfl rfl ?_
  refine tg_pendings hX dX6_waits_5 ?_
  refine gz_iload_n (q := 1) hX dX6_waits_8 rfl rfl ?_
  obtain ⟨b1, h⟩ := gz_gd_o h
  obtain ⟨V2, e3, h⟩ := gz_let_o h
  refine gz_iast (L := 40) hX tw_S28 (by decide) (gz_inb_o b1) dX6_waits_9 e3 ?_
  refine gz_aload_n (q := 0) hX dX6_waits_10 rfl rfl ?_
  refine gz_aload_n (q := 0) hX dX6_waits_11 rfl rfl ?_
  refine tg_pendings hX dX6_waits_12 ?_
  refine gz_iconst (v := 1) hX dX6_waits_15 gk_c_1 ?_
  refine gz_iadd hX dX6_waits_16 ?_
  obtain ⟨V4, e5, h⟩ := gz_let_o h
  refine tp_pendings hX dX6_waits_17 e5 ?_
  exact gt_vret hX hZ hF (gz_in1 h) dX6_waits_20
theorem lw_waits_ {i : Nat} (hl : Cond.methodLink RX6 i yX6_waits ∈ lw_all) : GoodIn lw_all (wsV RX6 i RX6 yX6_waits (ws_ yX6_waits cX6_waits 2 none)) := lw_V hl q1850 qs87 q153 q1851
theorem nn_waits : yX6_waits.cls = RX6 ∧ yX6_waits.cls ≠ "java/lang/invoke/MethodHandle" ∧ yX6_waits.cls ≠ "java/lang/invoke/VarHandle" ∧ (parseMethodDescriptor yX6_waits.desc).map (fun d => d.parameters.length) = some 1 := by decide +kernel
theorem gk_b_32 : (Int8.ofInt 32).toInt32 = 32 := by decide
theorem gk_s_139 : (Int16.ofInt 139).toInt32 = 139 := by decide
def rm_wordAt : Room := { frames := 0, cells := 0, slots := 0, locals := 0 }
noncomputable def m_wordAt_L20 (N : Nat) (V : gz_V) (v1 : Int32) (v2 : Int32) (v3 : Int32) (v4 : Int32) : Nat → Int32 → Option (Int32)
  | 0, _ => none
  | n + 1, v5 => (if v2 ≤ (v1 + v5) then some v5 else gz_gd (gz_inb ((v4 + 1) + v5) 140 = true) (gz_gd (gz_inb (v1 + v5) 400 = true) ((if (V (2, 17, 0) ((v4 + 1) + v5).toNatClampNeg) = (V (2, 11, 0) (v1 + v5).toNatClampNeg) then gz_let (v5 + 1) (fun x8 => m_wordAt_L20 N V v1 v2 v3 v4 n x8) else some v5))))
theorem w_m_wordAt_L20 {X : gz_X} {ad : gz_A0} (hX : gz_ok X cX6_wordAt RX6 "wordAt" 6 rm_wordAt (some .int)) (hZ : gz_Z X) {N : Nat} {V : gz_V} {v1 : Int32} {v2 : Int32} {v3 : Int32} {v4 : Int32} {o5 : Int32} (k : gW X 6 tw_S tw_R ad V 0 0 61 [(0, .ref (ad (1, 0, 0))), (1, .int v1), (2, .int v2), (3, .int v3), (4, .int v4), (5, .int o5)] []) : ∀ (n : Nat) {v5 : Int32}, m_wordAt_L20 N V v1 v2 v3 v4 n v5 = some o5 → gW X 6 tw_S tw_R ad V 0 0 20 [(0, .ref (ad (1, 0, 0))), (1, .int v1), (2, .int v2), (3, .int v3), (4, .int v4), (5, .int v5)] [] := by
  intro n
  induction n with
  | zero => intro v5 h; rw [m_wordAt_L20] at h; cases h
  | succ n ih =>
    intro v5 h
    rw [m_wordAt_L20] at h
    refine gz_iload_n (q := 1) hX dX6_wordAt_20 rfl rfl ?_
    refine gz_iload (q := 5) hX dX6_wordAt_21 rfl ?_
    refine gz_iadd hX dX6_wordAt_23 ?_
    refine gz_iload_n (q := 2) hX dX6_wordAt_24 rfl rfl ?_
    refine gz_icmp_ge (tgt := 61) hX dX6_wordAt_25 (by decide) (fun c4 => ?_) (fun c4 => ?_)
    · have h := gz_ifp c4 h
      obtain rfl := gz_in1 h
      exact gz_lv [0, 1, 2, 3, 4, 5] rfl k
    · have h := gz_ifn c4 h
      refine gz_aload_n (q := 0) hX dX6_wordAt_28 rfl rfl ?_
      refine tg_words hX dX6_wordAt_29 ?_
      refine gz_iload (q := 4) hX dX6_wordAt_32 rfl ?_
      refine gz_iconst (v := 1) hX dX6_wordAt_34 gk_c_1 ?_
      refine gz_iadd hX dX6_wordAt_35 ?_
      refine gz_iload (q := 5) hX dX6_wordAt_36 rfl ?_
      refine gz_iadd hX dX6_wordAt_38 ?_
      obtain ⟨b5, h⟩ := gz_gd_o h
      refine gz_iald (L := 140) hX tw_S17 (gz_inb_o b5) dX6_wordAt_39 ?_
      refine gz_aload_n (q := 0) hX dX6_wordAt_40 rfl rfl ?_
      refine tg_tape hX dX6_wordAt_41 ?_
      refine gz_iload_n (q := 1) hX dX6_wordAt_44 rfl rfl ?_
      refine gz_iload (q := 5) hX dX6_wordAt_45 rfl ?_
      refine gz_iadd hX dX6_wordAt_47 ?_
      obtain ⟨b6, h⟩ := gz_gd_o h
      refine gz_iald (L := 400) hX tw_S11 (gz_inb_o b6) dX6_wordAt_48 ?_
      refine gz_icmp_ne (tgt := 61) hX dX6_wordAt_49 (by decide) (fun c7 => ?_) (fun c7 => ?_)
      · have h := gz_ifn c7 h
        obtain rfl := gz_in1 h
        exact gz_lv [0, 1, 2, 3, 4, 5] rfl k
      · have h := gz_ifp c7 h
        refine gz_iload (q := 5) hX dX6_wordAt_52 rfl ?_
        refine gz_iconst (v := 1) hX dX6_wordAt_54 gk_c_1 ?_
        refine gz_iadd hX dX6_wordAt_55 ?_
        obtain ⟨x8, e9, h⟩ := gz_let_o h
        refine gz_nm e9 ?_
        refine gz_istore (lv2 := [(5, .int x8), (0, .ref (ad (1, 0, 0))), (1, .int v1), (2, .int v2), (3, .int v3), (4, .int v4)]) hX dX6_wordAt_56 (by decide) rfl ?_
        refine gz_goto (tgt := 20) hX dX6_wordAt_58 (by decide) ?_
        exact gz_lv [1, 2, 3, 4, 5, 0] rfl (ih h)
noncomputable def m_wordAt_L94 (N : Nat) (V : gz_V) (v1 : Int32) (v2 : Int32) (v3 : Int32) : Nat → Int32 → Option (Int32)
  | 0, _ => none
  | n + 1, v4 => gz_gd (gz_inb v4 140 = true) ((if (V (2, 17, 0) v4.toNatClampNeg) = 32 then some v4 else gz_let (v4 + 1) (fun x11 => m_wordAt_L94 N V v1 v2 v3 n x11)))
theorem w_m_wordAt_L94 {X : gz_X} {ad : gz_A0} (hX : gz_ok X cX6_wordAt RX6 "wordAt" 6 rm_wordAt (some .int)) (hZ : gz_Z X) {N : Nat} {V : gz_V} {v1 : Int32} {v2 : Int32} {v3 : Int32} {o4 : Int32} (k : gW X 6 tw_S tw_R ad V 0 0 115 [(0, .ref (ad (1, 0, 0))), (1, .int v1), (2, .int v2), (3, .int v3), (4, .int o4)] []) : ∀ (n : Nat) {v4 : Int32}, m_wordAt_L94 N V v1 v2 v3 n v4 = some o4 → gW X 6 tw_S tw_R ad V 0 0 94 [(0, .ref (ad (1, 0, 0))), (1, .int v1), (2, .int v2), (3, .int v3), (4, .int v4)] [] := by
  intro n
  induction n with
  | zero => intro v4 h; rw [m_wordAt_L94] at h; cases h
  | succ n ih =>
    intro v4 h
    rw [m_wordAt_L94] at h
    refine gz_aload_n (q := 0) hX dX6_wordAt_94 rfl rfl ?_
    refine tg_words hX dX6_wordAt_95 ?_
    refine gz_iload (q := 4) hX dX6_wordAt_98 rfl ?_
    obtain ⟨b9, h⟩ := gz_gd_o h
    refine gz_iald (L := 140) hX tw_S17 (gz_inb_o b9) dX6_wordAt_100 ?_
    refine gz_bipush (v := 32) hX dX6_wordAt_101 gk_b_32 ?_
    refine gz_icmp_eq (tgt := 115) hX dX6_wordAt_103 (by decide) (fun c10 => ?_) (fun c10 => ?_)
    · have h := gz_ifp c10 h
      obtain rfl := gz_in1 h
      exact gz_lv [0, 1, 2, 3, 4] rfl k
    · have h := gz_ifn c10 h
      refine gz_iload (q := 4) hX dX6_wordAt_106 rfl ?_
      refine gz_iconst (v := 1) hX dX6_wordAt_108 gk_c_1 ?_
      refine gz_iadd hX dX6_wordAt_109 ?_
      obtain ⟨x11, e12, h⟩ := gz_let_o h
      refine gz_nm e12 ?_
      refine gz_istore (lv2 := [(4, .int x11), (0, .ref (ad (1, 0, 0))), (1, .int v1), (2, .int v2), (3, .int v3)]) hX dX6_wordAt_110 (by decide) rfl ?_
      refine gz_goto (tgt := 94) hX dX6_wordAt_112 (by decide) ?_
      exact gz_lv [1, 2, 3, 4, 0] rfl (ih h)
noncomputable def m_wordAt_L5 (N : Nat) (V : gz_V) (v1 : Int32) (v2 : Int32) : Nat → Int32 → Int32 → Option ((Int32) ⊕ (Unit))
  | 0, _, _ => none
  | n + 1, v3, v4 => (if 139 ≤ v4 then some (.inr ()) else gz_let (v3 + 1) (fun x2 => gz_bd (m_wordAt_L20 N V v1 v2 x2 v4 N 0) (fun x4 => (if (v1 + x4) = v2 then gz_gd (gz_inb ((v4 + 1) + x4) 140 = true) ((if (V (2, 17, 0) ((v4 + 1) + x4).toNatClampNeg) = 32 then some (.inl x2) else gz_let (v4 + 1) (fun x13 => gz_bd (m_wordAt_L94 N V v1 v2 x2 N x13) (fun x15 => m_wordAt_L5 N V v1 v2 n x2 x15)))) else gz_let (v4 + 1) (fun x7 => gz_bd (m_wordAt_L94 N V v1 v2 x2 N x7) (fun x9 => m_wordAt_L5 N V v1 v2 n x2 x9))))))
theorem w_m_wordAt_L5 {X : gz_X} {ad : gz_A0} (hX : gz_ok X cX6_wordAt RX6 "wordAt" 6 rm_wordAt (some .int)) (hZ : gz_Z X) {N : Nat} {V : gz_V} {v1 : Int32} {v2 : Int32} {out : (Int32) ⊕ (Unit)} (hout : (∃ (r : Int32), out = .inl r ∧ gx_F X tw_S V tw_R ad (some (.int r))) ∨ (out = .inr () ∧ gW X 6 tw_S tw_R ad V 0 0 118 [] [])) : ∀ (n : Nat) {v3 : Int32} {v4 : Int32}, m_wordAt_L5 N V v1 v2 n v3 v4 = some out → gW X 6 tw_S tw_R ad V 0 0 5 [(0, .ref (ad (1, 0, 0))), (1, .int v1), (2, .int v2), (3, .int v3), (4, .int v4)] [] := by
  intro n
  induction n with
  | zero => intro v3 v4 h; rw [m_wordAt_L5] at h; cases h
  | succ n ih =>
    intro v3 v4 h
    rw [m_wordAt_L5] at h
    refine gz_iload (q := 4) hX dX6_wordAt_5 rfl ?_
    refine gz_sipush (v := 139) hX dX6_wordAt_7 gk_s_139 ?_
    refine gz_icmp_ge (tgt := 118) hX dX6_wordAt_10 (by decide) (fun c1 => ?_) (fun c1 => ?_)
    · have h := gz_ifp c1 h
      obtain rfl := gz_in1 h
      obtain ⟨_, e0, _⟩ | ⟨e0, k⟩ := hout
      · cases e0
      · cases e0
        exact gz_lv [] rfl k
    · have h := gz_ifn c1 h
      refine gz_iconst (v := 0) hX dX6_wordAt_13 gk_c_0 ?_
      refine gz_istore (lv2 := [(5, .int 0), (0, .ref (ad (1, 0, 0))), (1, .int v1), (2, .int v2), (3, .int v3), (4, .int v4)]) hX dX6_wordAt_14 (by decide) rfl ?_
      refine gz_iload_n (q := 4) hX dX6_wordAt_16 rfl rfl ?_
      refine gz_iconst (v := 1) hX dX6_wordAt_17 gk_c_1 ?_
      refine gz_iadd hX dX6_wordAt_18 ?_
      obtain ⟨x2, e3, h⟩ := gz_let_o h
      refine gz_nm e3 ?_
      refine gz_istore_n (lv2 := [(3, .int x2), (5, .int 0), (0, .ref (ad (1, 0, 0))), (1, .int v1), (2, .int v2), (4, .int v4)]) hX dX6_wordAt_19 rfl (by decide) rfl ?_
      obtain ⟨x4, e5, h⟩ := gz_bd_o h
      refine gz_lv [2, 3, 4, 0, 5, 1] rfl (w_m_wordAt_L20 hX hZ ?_ N e5)
      refine gz_iload_n (q := 1) hX dX6_wordAt_61 rfl rfl ?_
      refine gz_iload (q := 5) hX dX6_wordAt_62 rfl ?_
      refine gz_iadd hX dX6_wordAt_64 ?_
      refine gz_iload_n (q := 2) hX dX6_wordAt_65 rfl rfl ?_
      refine gz_icmp_ne (tgt := 88) hX dX6_wordAt_66 (by decide) (fun c6 => ?_) (fun c6 => ?_)
      · have h := gz_ifn c6 h
        refine gz_iload (q := 4) hX dX6_wordAt_88 rfl ?_
        refine gz_iconst (v := 1) hX dX6_wordAt_90 gk_c_1 ?_
        refine gz_iadd hX dX6_wordAt_91 ?_
        obtain ⟨x7, e8, h⟩ := gz_let_o h
        refine gz_nm e8 ?_
        refine gz_istore (lv2 := [(4, .int x7), (0, .ref (ad (1, 0, 0))), (1, .int v1), (2, .int v2), (3, .int x2), (5, .int x4)]) hX dX6_wordAt_92 (by decide) rfl ?_
        obtain ⟨x9, e10, h⟩ := gz_bd_o h
        refine gz_lv [1, 2, 3, 4, 0] rfl (w_m_wordAt_L94 hX hZ ?_ N e10)
        refine gz_goto (tgt := 5) hX dX6_wordAt_115 (by decide) ?_
        exact gz_lv [0, 1, 2, 3, 4] rfl (ih h)
      · have h := gz_ifp c6 h
        refine gz_aload_n (q := 0) hX dX6_wordAt_69 rfl rfl ?_
        refine tg_words hX dX6_wordAt_70 ?_
        refine gz_iload (q := 4) hX dX6_wordAt_73 rfl ?_
        refine gz_iconst (v := 1) hX dX6_wordAt_75 gk_c_1 ?_
        refine gz_iadd hX dX6_wordAt_76 ?_
        refine gz_iload (q := 5) hX dX6_wordAt_77 rfl ?_
        refine gz_iadd hX dX6_wordAt_79 ?_
        obtain ⟨b11, h⟩ := gz_gd_o h
        refine gz_iald (L := 140) hX tw_S17 (gz_inb_o b11) dX6_wordAt_80 ?_
        refine gz_bipush (v := 32) hX dX6_wordAt_81 gk_b_32 ?_
        refine gz_icmp_ne (tgt := 88) hX dX6_wordAt_83 (by decide) (fun c12 => ?_) (fun c12 => ?_)
        · have h := gz_ifn c12 h
          refine gz_iload (q := 4) hX dX6_wordAt_88 rfl ?_
          refine gz_iconst (v := 1) hX dX6_wordAt_90 gk_c_1 ?_
          refine gz_iadd hX dX6_wordAt_91 ?_
          obtain ⟨x13, e14, h⟩ := gz_let_o h
          refine gz_nm e14 ?_
          refine gz_istore (lv2 := [(4, .int x13), (0, .ref (ad (1, 0, 0))), (1, .int v1), (2, .int v2), (3, .int x2), (5, .int x4)]) hX dX6_wordAt_92 (by decide) rfl ?_
          obtain ⟨x15, e16, h⟩ := gz_bd_o h
          refine gz_lv [1, 2, 3, 4, 0] rfl (w_m_wordAt_L94 hX hZ ?_ N e16)
          refine gz_goto (tgt := 5) hX dX6_wordAt_115 (by decide) ?_
          exact gz_lv [0, 1, 2, 3, 4] rfl (ih h)
        · have h := gz_ifp c12 h
          refine gz_iload_n (q := 3) hX dX6_wordAt_86 rfl rfl ?_
          obtain rfl := gz_in1 h
          obtain ⟨_, e0, hF⟩ | ⟨e0, _⟩ := hout
          · cases e0
            exact gt_iret hX hZ hF rfl rfl dX6_wordAt_87
          · cases e0
noncomputable def m_wordAt (N : Nat) (V : gz_V) (a1 : Int32) (a2 : Int32) : Option Int32 := gz_lp (m_wordAt_L5 N V a1 a2 N (-1) 0) some (fun _ => some (-1))
theorem c_wordAt {l : Launch} {D : va_G} {aC : Nat → ClassId} {ad : gz_A0} {N : Nat} {V : gz_V} {a1 : Int32} {a2 : Int32} {r : Int32} (h : m_wordAt N V a1 a2 = some r) : gz_Met l yX6_wordAt cX6_wordAt 6 (some .int) rm_wordAt D aC ad tw_S V tw_R [.ref (ad (1, 0, 0)), .int a1, .int a2] (gz_F1 tw_S tw_R ad V (some (.int r))) 0 0 := by
  refine gt_ofW (own := RX6) (mn := "wordAt") (lv := [(0, .ref (ad (1, 0, 0))), (1, .int a1), (2, .int a2)]) (by decide) rfl rfl (Nat.le_of_ble_eq_true rfl) rfl ?_
  intro X hX hZ hF
  rw [m_wordAt] at h
  refine gz_iconst (v := (-1)) hX dX6_wordAt_0 gk_c_m1 ?_
  refine gz_istore_n (lv2 := [(3, .int (-1)), (0, .ref (ad (1, 0, 0))), (1, .int a1), (2, .int a2)]) hX dX6_wordAt_1 rfl (by decide) rfl ?_
  refine gz_iconst (v := 0) hX dX6_wordAt_2 gk_c_0 ?_
  refine gz_istore (lv2 := [(4, .int 0), (3, .int (-1)), (0, .ref (ad (1, 0, 0))), (1, .int a1), (2, .int a2)]) hX dX6_wordAt_3 (by decide) rfl ?_
  rcases gz_lp_o h with ⟨p2, e1, h⟩ | ⟨_, e1, h⟩
  · obtain rfl := gz_in1 h
    exact gz_lv [2, 3, 4, 1, 0] rfl (w_m_wordAt_L5 hX hZ (Or.inl ⟨_, rfl, hF⟩) N e1)
  · refine gz_lv [2, 3, 4, 1, 0] rfl (w_m_wordAt_L5 hX hZ (Or.inr ⟨rfl, ?_⟩) N e1)
    refine gz_iconst (v := (-1)) hX dX6_wordAt_118 gk_c_m1 ?_
    exact gt_iret hX hZ hF rfl (gz_in1 h) dX6_wordAt_119
theorem lw_wordAt_ {i : Nat} (hl : Cond.methodLink RX6 i yX6_wordAt ∈ lw_all) : GoodIn lw_all (wsV RX6 i RX6 yX6_wordAt (ws_ yX6_wordAt cX6_wordAt 6 (some .int))) := lw_V hl q1758 qs64 q153 q1759
theorem nn_wordAt : yX6_wordAt.cls = RX6 ∧ yX6_wordAt.cls ≠ "java/lang/invoke/MethodHandle" ∧ yX6_wordAt.cls ≠ "java/lang/invoke/VarHandle" ∧ (parseMethodDescriptor yX6_wordAt.desc).map (fun d => d.parameters.length) = some 2 := by decide +kernel
theorem gk_s_10000 : (Int16.ofInt 10000).toInt32 = 10000 := by decide
def rm_reads : Room := { frames := 2, cells := 0, slots := 0, locals := 44 }
noncomputable def m_reads_L0 (N : Nat) : Nat → gz_V → Option (gz_V)
  | 0, _ => none
  | n + 1, V => gz_bd (m_raw V (V (1, 0, 0) 13)) (fun r1 => (if r1 = 32 then gz_let (gz_up V (1, 0, 0) 13 ((V (1, 0, 0) 13) + 1)) (fun V4 => m_reads_L0 N n V4) else gz_bd (m_raw V (V (1, 0, 0) 13)) (fun r6 => (if r6 = 10 then gz_let (gz_up V (1, 0, 0) 13 ((V (1, 0, 0) 13) + 1)) (fun V9 => m_reads_L0 N n V9) else some V))))
theorem w_m_reads_L0 {X : gz_X} {ad : gz_A0} (hX : gz_ok X cX6_reads RX6 "reads" 2 rm_reads none) (hZ : gz_Z X) {N : Nat} {W1 : gz_V} (k : gW X 2 tw_S tw_R ad W1 0 0 39 [(0, .ref (ad (1, 0, 0)))] []) : ∀ (n : Nat) {V : gz_V}, m_reads_L0 N n V = some W1 → gW X 2 tw_S tw_R ad V 0 0 0 [(0, .ref (ad (1, 0, 0)))] [] := by
  intro n
  induction n with
  | zero => intro V h; rw [m_reads_L0] at h; cases h
  | succ n ih =>
    intro V h
    rw [m_reads_L0] at h
    refine gz_aload_n (q := 0) hX dX6_reads_0 rfl rfl ?_
    refine gz_aload_n (q := 0) hX dX6_reads_1 rfl rfl ?_
    refine tg_spot hX dX6_reads_2 ?_
    obtain ⟨r1, e2, h⟩ := gz_bd_o h
    refine tc_V (As := [.int (V (1, 0, 0) 13)]) hX (c_raw e2) (lw_raw_ q1748) rfl rfl nn_raw ⟨Nat.le_of_ble_eq_true rfl, Nat.le_of_ble_eq_true rfl⟩ rfl rfl (Nat.le_of_ble_eq_true rfl) dX6_reads_5 rfl ?_
    refine gz_bipush (v := 32) hX dX6_reads_8 gk_b_32 ?_
    refine gz_icmp_eq (tgt := 26) hX dX6_reads_10 (by decide) (fun c3 => ?_) (fun c3 => ?_)
    · have h := gz_ifp c3 h
      refine gz_aload_n (q := 0) hX dX6_reads_26 rfl rfl ?_
      refine gz_aload_n (q := 0) hX dX6_reads_27 rfl rfl ?_
      refine tg_spot hX dX6_reads_28 ?_
      refine gz_iconst (v := 1) hX dX6_reads_31 gk_c_1 ?_
      refine gz_iadd hX dX6_reads_32 ?_
      obtain ⟨V4, e5, h⟩ := gz_let_o h
      refine tp_spot hX dX6_reads_33 e5 ?_
      refine gz_goto (tgt := 0) hX dX6_reads_36 (by decide) ?_
      exact gz_lv [0] rfl (ih h)
    · have h := gz_ifn c3 h
      refine gz_aload_n (q := 0) hX dX6_reads_13 rfl rfl ?_
      refine gz_aload_n (q := 0) hX dX6_reads_14 rfl rfl ?_
      refine tg_spot hX dX6_reads_15 ?_
      obtain ⟨r6, e7, h⟩ := gz_bd_o h
      refine tc_V (As := [.int (V (1, 0, 0) 13)]) hX (c_raw e7) (lw_raw_ q1748) rfl rfl nn_raw ⟨Nat.le_of_ble_eq_true rfl, Nat.le_of_ble_eq_true rfl⟩ rfl rfl (Nat.le_of_ble_eq_true rfl) dX6_reads_18 rfl ?_
      refine gz_bipush (v := 10) hX dX6_reads_21 gk_b_10 ?_
      refine gz_icmp_ne (tgt := 39) hX dX6_reads_23 (by decide) (fun c8 => ?_) (fun c8 => ?_)
      · have h := gz_ifn c8 h
        obtain rfl := gz_in1 h
        exact gz_lv [0] rfl k
      · have h := gz_ifp c8 h
        refine gz_aload_n (q := 0) hX dX6_reads_26 rfl rfl ?_
        refine gz_aload_n (q := 0) hX dX6_reads_27 rfl rfl ?_
        refine tg_spot hX dX6_reads_28 ?_
        refine gz_iconst (v := 1) hX dX6_reads_31 gk_c_1 ?_
        refine gz_iadd hX dX6_reads_32 ?_
        obtain ⟨V9, e10, h⟩ := gz_let_o h
        refine tp_spot hX dX6_reads_33 e10 ?_
        refine gz_goto (tgt := 0) hX dX6_reads_36 (by decide) ?_
        exact gz_lv [0] rfl (ih h)
noncomputable def m_reads_L171 (N : Nat) : Nat → gz_V → Option (gz_V)
  | 0, _ => none
  | n + 1, V => gz_bd (m_raw V (V (1, 0, 0) 13)) (fun r21 => (if (m_isDigit r21) = 0 then some V else gz_bd (if 10000 ≤ (V (1, 0, 0) 16) then some (V (1, 0, 0) 16) else gz_bd (m_raw V (V (1, 0, 0) 13)) (fun r28 => some (((10 * (V (1, 0, 0) 16)) + r28) - 48))) (fun y24 => gz_let (gz_up V (1, 0, 0) 16 y24) (fun V30 => gz_let (gz_up V30 (1, 0, 0) 13 ((V30 (1, 0, 0) 13) + 1)) (fun V32 => m_reads_L171 N n V32)))))
theorem w_m_reads_L171 {X : gz_X} {ad : gz_A0} (hX : gz_ok X cX6_reads RX6 "reads" 2 rm_reads none) (hZ : gz_Z X) {N : Nat} {W1 : gz_V} (k : gW X 2 tw_S tw_R ad W1 0 0 239 [(0, .ref (ad (1, 0, 0)))] []) : ∀ (n : Nat) {V : gz_V}, m_reads_L171 N n V = some W1 → gW X 2 tw_S tw_R ad V 0 0 171 [(0, .ref (ad (1, 0, 0)))] [] := by
  intro n
  induction n with
  | zero => intro V h; rw [m_reads_L171] at h; cases h
  | succ n ih =>
    intro V h
    rw [m_reads_L171] at h
    refine gz_aload_n (q := 0) hX dX6_reads_171 rfl rfl ?_
    refine gz_aload_n (q := 0) hX dX6_reads_172 rfl rfl ?_
    refine gz_aload_n (q := 0) hX dX6_reads_173 rfl rfl ?_
    refine tg_spot hX dX6_reads_174 ?_
    obtain ⟨r21, e22, h⟩ := gz_bd_o h
    refine tc_V (As := [.int (V (1, 0, 0) 13)]) hX (c_raw e22) (lw_raw_ q1748) rfl rfl nn_raw ⟨Nat.le_of_ble_eq_true rfl, Nat.le_of_ble_eq_true rfl⟩ rfl rfl (Nat.le_of_ble_eq_true rfl) dX6_reads_177 rfl ?_
    refine tc_V (As := [.int r21]) hX (c_isDigit rfl) (lw_isDigit_ q1760) rfl rfl nn_isDigit ⟨Nat.le_of_ble_eq_true rfl, Nat.le_of_ble_eq_true rfl⟩ rfl rfl (Nat.le_of_ble_eq_true rfl) dX6_reads_180 rfl ?_
    refine gz_if_eq (tgt := 239) hX dX6_reads_183 (by decide) (fun c23 => ?_) (fun c23 => ?_)
    · have h := gz_ifp c23 h
      obtain rfl := gz_in1 h
      exact gz_lv [0] rfl k
    · have h := gz_ifn c23 h
      refine gz_aload_n (q := 0) hX dX6_reads_186 rfl rfl ?_
      refine gz_aload_n (q := 0) hX dX6_reads_187 rfl rfl ?_
      refine tg_value hX dX6_reads_188 ?_
      refine gz_sipush (v := 10000) hX dX6_reads_191 gk_s_10000 ?_
      obtain ⟨y24, g25, h⟩ := gz_bd_o h
      have J26 : gW X 2 tw_S tw_R ad V 0 0 223 [(0, .ref (ad (1, 0, 0)))] [.int y24, .ref (ad (1, 0, 0))] := by
        obtain ⟨V30, e31, h⟩ := gz_let_o h
        refine tp_value hX dX6_reads_223 e31 ?_
        refine gz_aload_n (q := 0) hX dX6_reads_226 rfl rfl ?_
        refine gz_aload_n (q := 0) hX dX6_reads_227 rfl rfl ?_
        refine tg_spot hX dX6_reads_228 ?_
        refine gz_iconst (v := 1) hX dX6_reads_231 gk_c_1 ?_
        refine gz_iadd hX dX6_reads_232 ?_
        obtain ⟨V32, e33, h⟩ := gz_let_o h
        refine tp_spot hX dX6_reads_233 e33 ?_
        refine gz_goto (tgt := 171) hX dX6_reads_236 (by decide) ?_
        exact gz_lv [0] rfl (ih h)
      refine gz_icmp_ge (tgt := 219) hX dX6_reads_194 (by decide) (fun c27 => ?_) (fun c27 => ?_)
      · have g25 := gz_ifp c27 g25
        refine gz_aload_n (q := 0) hX dX6_reads_219 rfl rfl ?_
        refine tg_value hX dX6_reads_220 ?_
        obtain rfl := gz_in1 g25
        exact gz_lv [0] rfl J26
      · have g25 := gz_ifn c27 g25
        refine gz_bipush (v := 10) hX dX6_reads_197 gk_b_10 ?_
        refine gz_aload_n (q := 0) hX dX6_reads_199 rfl rfl ?_
        refine tg_value hX dX6_reads_200 ?_
        refine gz_imul hX dX6_reads_203 ?_
        refine gz_aload_n (q := 0) hX dX6_reads_204 rfl rfl ?_
        refine gz_aload_n (q := 0) hX dX6_reads_205 rfl rfl ?_
        refine tg_spot hX dX6_reads_206 ?_
        obtain ⟨r28, e29, g25⟩ := gz_bd_o g25
        refine tc_V (As := [.int (V (1, 0, 0) 13)]) hX (c_raw e29) (lw_raw_ q1748) rfl rfl nn_raw ⟨Nat.le_of_ble_eq_true rfl, Nat.le_of_ble_eq_true rfl⟩ rfl rfl (Nat.le_of_ble_eq_true rfl) dX6_reads_209 rfl ?_
        refine gz_iadd hX dX6_reads_212 ?_
        refine gz_bipush (v := 48) hX dX6_reads_213 gk_b_48 ?_
        refine gz_isub hX dX6_reads_215 ?_
        refine gz_goto (tgt := 223) hX dX6_reads_216 (by decide) ?_
        obtain rfl := gz_in1 g25
        exact gz_lv [0] rfl J26
noncomputable def m_reads_L95 (N : Nat) : Nat → gz_V → Option (gz_V)
  | 0, _ => none
  | n + 1, V => gz_bd (m_raw V (V (1, 0, 0) 13)) (fun r26 => (if (m_isLetter r26) = 0 then some V else gz_let (gz_up V (1, 0, 0) 13 ((V (1, 0, 0) 13) + 1)) (fun V29 => m_reads_L95 N n V29)))
theorem w_m_reads_L95 {X : gz_X} {ad : gz_A0} (hX : gz_ok X cX6_reads RX6 "reads" 2 rm_reads none) (hZ : gz_Z X) {N : Nat} {W1 : gz_V} (k : gW X 2 tw_S tw_R ad W1 0 0 123 [(0, .ref (ad (1, 0, 0)))] []) : ∀ (n : Nat) {V : gz_V}, m_reads_L95 N n V = some W1 → gW X 2 tw_S tw_R ad V 0 0 95 [(0, .ref (ad (1, 0, 0)))] [] := by
  intro n
  induction n with
  | zero => intro V h; rw [m_reads_L95] at h; cases h
  | succ n ih =>
    intro V h
    rw [m_reads_L95] at h
    refine gz_aload_n (q := 0) hX dX6_reads_95 rfl rfl ?_
    refine gz_aload_n (q := 0) hX dX6_reads_96 rfl rfl ?_
    refine gz_aload_n (q := 0) hX dX6_reads_97 rfl rfl ?_
    refine tg_spot hX dX6_reads_98 ?_
    obtain ⟨r26, e27, h⟩ := gz_bd_o h
    refine tc_V (As := [.int (V (1, 0, 0) 13)]) hX (c_raw e27) (lw_raw_ q1748) rfl rfl nn_raw ⟨Nat.le_of_ble_eq_true rfl, Nat.le_of_ble_eq_true rfl⟩ rfl rfl (Nat.le_of_ble_eq_true rfl) dX6_reads_101 rfl ?_
    refine tc_V (As := [.int r26]) hX (c_isLetter rfl) (lw_isLetter_ q1752) rfl rfl nn_isLetter ⟨Nat.le_of_ble_eq_true rfl, Nat.le_of_ble_eq_true rfl⟩ rfl rfl (Nat.le_of_ble_eq_true rfl) dX6_reads_104 rfl ?_
    refine gz_if_eq (tgt := 123) hX dX6_reads_107 (by decide) (fun c28 => ?_) (fun c28 => ?_)
    · have h := gz_ifp c28 h
      obtain rfl := gz_in1 h
      exact gz_lv [0] rfl k
    · have h := gz_ifn c28 h
      refine gz_aload_n (q := 0) hX dX6_reads_110 rfl rfl ?_
      refine gz_aload_n (q := 0) hX dX6_reads_111 rfl rfl ?_
      refine tg_spot hX dX6_reads_112 ?_
      refine gz_iconst (v := 1) hX dX6_reads_115 gk_c_1 ?_
      refine gz_iadd hX dX6_reads_116 ?_
      obtain ⟨V29, e30, h⟩ := gz_let_o h
      refine tp_spot hX dX6_reads_117 e30 ?_
      refine gz_goto (tgt := 95) hX dX6_reads_120 (by decide) ?_
      exact gz_lv [0] rfl (ih h)
noncomputable def m_reads (N : Nat) (V : gz_V) : Option gz_V := gz_bd (m_reads_L0 N N V) (fun V1 => gz_let (gz_up V1 (1, 0, 0) 14 (V1 (1, 0, 0) 13)) (fun V3 => gz_let (gz_up V3 (1, 0, 0) 15 1) (fun V5 => gz_bd (m_raw V5 (V5 (1, 0, 0) 13)) (fun r7 => (if r7 = (-1) then gz_let (gz_up V5 (1, 0, 0) 15 0) (fun V35 => some V35) else gz_let (gz_up V5 (1, 0, 0) 13 ((V5 (1, 0, 0) 13) + 1)) (fun V10 => gz_let (gz_up V10 (1, 0, 0) 16 r7) (fun V12 => (if (m_isLetter r7) = 0 then (if (m_isDigit r7) = 0 then (if (m_isMarkSign r7) = 0 then some V12 else gz_let (gz_up V12 (1, 0, 0) 15 4) (fun V17 => some V17)) else gz_let (gz_up V12 (1, 0, 0) 16 (r7 - 48)) (fun V19 => gz_bd (m_reads_L171 N N V19) (fun V21 => (if 5 ≤ ((V21 (1, 0, 0) 13) - (V21 (1, 0, 0) 14)) then some V21 else gz_let (gz_up V21 (1, 0, 0) 15 3) (fun V24 => some V24))))) else gz_bd (m_reads_L95 N N V12) (fun V26 => gz_bd (m_wordAt N V26 (V26 (1, 0, 0) 14) (V26 (1, 0, 0) 13)) (fun r28 => gz_let (gz_up V26 (1, 0, 0) 16 r28) (fun V30 => (if (V30 (1, 0, 0) 16) = (-1) then some V30 else gz_let (gz_up V30 (1, 0, 0) 15 2) (fun V33 => some V33)))))))))))))
theorem c_reads {l : Launch} {D : va_G} {aC : Nat → ClassId} {ad : gz_A0} {N : Nat} {V : gz_V} {W1 : gz_V} (h : m_reads N V = some W1) : gz_Met l yX6_reads cX6_reads 2 none rm_reads D aC ad tw_S V tw_R [.ref (ad (1, 0, 0))] (gz_F1 tw_S tw_R ad W1 none) 0 0 := by
  refine gt_ofW (own := RX6) (mn := "reads") (lv := [(0, .ref (ad (1, 0, 0)))]) (by decide) rfl rfl (Nat.le_of_ble_eq_true rfl) rfl ?_
  intro X hX hZ hF
  rw [m_reads] at h
  obtain ⟨V1, e2, h⟩ := gz_bd_o h
  refine gz_lv [0] rfl (w_m_reads_L0 hX hZ ?_ N e2)
  refine gz_aload_n (q := 0) hX dX6_reads_39 rfl rfl ?_
  refine gz_aload_n (q := 0) hX dX6_reads_40 rfl rfl ?_
  refine tg_spot hX dX6_reads_41 ?_
  obtain ⟨V3, e4, h⟩ := gz_let_o h
  refine tp_from hX dX6_reads_44 e4 ?_
  refine gz_aload_n (q := 0) hX dX6_reads_47 rfl rfl ?_
  refine gz_iconst (v := 1) hX dX6_reads_48 gk_c_1 ?_
  obtain ⟨V5, e6, h⟩ := gz_let_o h
  refine tp_token hX dX6_reads_49 e6 ?_
  refine gz_aload_n (q := 0) hX dX6_reads_52 rfl rfl ?_
  refine gz_aload_n (q := 0) hX dX6_reads_53 rfl rfl ?_
  refine tg_spot hX dX6_reads_54 ?_
  obtain ⟨r7, e8, h⟩ := gz_bd_o h
  refine tc_V (As := [.int (V5 (1, 0, 0) 13)]) hX (c_raw e8) (lw_raw_ q1748) rfl rfl nn_raw ⟨Nat.le_of_ble_eq_true rfl, Nat.le_of_ble_eq_true rfl⟩ rfl rfl (Nat.le_of_ble_eq_true rfl) dX6_reads_57 rfl ?_
  refine gz_istore_n (lv2 := [(1, .int r7), (0, .ref (ad (1, 0, 0)))]) hX dX6_reads_60 rfl (by decide) rfl ?_
  refine gz_iload_n (q := 0) hX dX6_reads_61 rfl rfl ?_
  refine gz_iconst (v := (-1)) hX dX6_reads_62 gk_c_m1 ?_
  refine gz_icmp_ne (tgt := 72) hX dX6_reads_63 (by decide) (fun c9 => ?_) (fun c9 => ?_)
  · have h := gz_ifn c9 h
    refine gz_aload_n (q := 1) hX dX6_reads_72 rfl rfl ?_
    refine gz_aload_n (q := 1) hX dX6_reads_73 rfl rfl ?_
    refine tg_spot hX dX6_reads_74 ?_
    refine gz_iconst (v := 1) hX dX6_reads_77 gk_c_1 ?_
    refine gz_iadd hX dX6_reads_78 ?_
    obtain ⟨V10, e11, h⟩ := gz_let_o h
    refine tp_spot hX dX6_reads_79 e11 ?_
    refine gz_aload_n (q := 1) hX dX6_reads_82 rfl rfl ?_
    refine gz_iload_n (q := 0) hX dX6_reads_83 rfl rfl ?_
    obtain ⟨V12, e13, h⟩ := gz_let_o h
    refine tp_value hX dX6_reads_84 e13 ?_
    refine gz_aload_n (q := 1) hX dX6_reads_87 rfl rfl ?_
    refine gz_iload_n (q := 0) hX dX6_reads_88 rfl rfl ?_
    refine tc_V (As := [.int r7]) hX (c_isLetter rfl) (lw_isLetter_ q1752) rfl rfl nn_isLetter ⟨Nat.le_of_ble_eq_true rfl, Nat.le_of_ble_eq_true rfl⟩ rfl rfl (Nat.le_of_ble_eq_true rfl) dX6_reads_89 rfl ?_
    refine gz_if_eq (tgt := 155) hX dX6_reads_92 (by decide) (fun c14 => ?_) (fun c14 => ?_)
    · have h := gz_ifp c14 h
      refine gz_aload_n (q := 1) hX dX6_reads_155 rfl rfl ?_
      refine gz_iload_n (q := 0) hX dX6_reads_156 rfl rfl ?_
      refine tc_V (As := [.int r7]) hX (c_isDigit rfl) (lw_isDigit_ q1760) rfl rfl nn_isDigit ⟨Nat.le_of_ble_eq_true rfl, Nat.le_of_ble_eq_true rfl⟩ rfl rfl (Nat.le_of_ble_eq_true rfl) dX6_reads_157 rfl ?_
      refine gz_if_eq (tgt := 260) hX dX6_reads_160 (by decide) (fun c15 => ?_) (fun c15 => ?_)
      · have h := gz_ifp c15 h
        refine gz_aload_n (q := 1) hX dX6_reads_260 rfl rfl ?_
        refine gz_iload_n (q := 0) hX dX6_reads_261 rfl rfl ?_
        refine tc_V (As := [.int r7]) hX (c_isMarkSign rfl) (lw_isMarkSign_ q1764) rfl rfl nn_isMarkSign ⟨Nat.le_of_ble_eq_true rfl, Nat.le_of_ble_eq_true rfl⟩ rfl rfl (Nat.le_of_ble_eq_true rfl) dX6_reads_262 rfl ?_
        refine gz_if_eq (tgt := 273) hX dX6_reads_265 (by decide) (fun c16 => ?_) (fun c16 => ?_)
        · have h := gz_ifp c16 h
          exact gt_vret hX hZ hF (gz_in1 h) dX6_reads_273
        · have h := gz_ifn c16 h
          refine gz_aload_n (q := 1) hX dX6_reads_268 rfl rfl ?_
          refine gz_iconst (v := 4) hX dX6_reads_269 gk_c_4 ?_
          obtain ⟨V17, e18, h⟩ := gz_let_o h
          refine tp_token hX dX6_reads_270 e18 ?_
          exact gt_vret hX hZ hF (gz_in1 h) dX6_reads_273
      · have h := gz_ifn c15 h
        refine gz_aload_n (q := 1) hX dX6_reads_163 rfl rfl ?_
        refine gz_iload_n (q := 0) hX dX6_reads_164 rfl rfl ?_
        refine gz_bipush (v := 48) hX dX6_reads_165 gk_b_48 ?_
        refine gz_isub hX dX6_reads_167 ?_
        obtain ⟨V19, e20, h⟩ := gz_let_o h
        refine tp_value hX dX6_reads_168 e20 ?_
        obtain ⟨V21, e22, h⟩ := gz_bd_o h
        refine gz_lv [1] rfl (w_m_reads_L171 hX hZ ?_ N e22)
        refine gz_aload_n (q := 0) hX dX6_reads_239 rfl rfl ?_
        refine tg_spot hX dX6_reads_240 ?_
        refine gz_aload_n (q := 0) hX dX6_reads_243 rfl rfl ?_
        refine tg_from hX dX6_reads_244 ?_
        refine gz_isub hX dX6_reads_247 ?_
        refine gz_iconst (v := 5) hX dX6_reads_248 gk_c_5 ?_
        refine gz_icmp_ge (tgt := 273) hX dX6_reads_249 (by decide) (fun c23 => ?_) (fun c23 => ?_)
        · have h := gz_ifp c23 h
          exact gt_vret hX hZ hF (gz_in1 h) dX6_reads_273
        · have h := gz_ifn c23 h
          refine gz_aload_n (q := 0) hX dX6_reads_252 rfl rfl ?_
          refine gz_iconst (v := 3) hX dX6_reads_253 gk_c_3 ?_
          obtain ⟨V24, e25, h⟩ := gz_let_o h
          refine tp_token hX dX6_reads_254 e25 ?_
          refine gz_goto (tgt := 273) hX dX6_reads_257 (by decide) ?_
          exact gt_vret hX hZ hF (gz_in1 h) dX6_reads_273
    · have h := gz_ifn c14 h
      obtain ⟨V26, e27, h⟩ := gz_bd_o h
      refine gz_lv [1] rfl (w_m_reads_L95 hX hZ ?_ N e27)
      refine gz_aload_n (q := 0) hX dX6_reads_123 rfl rfl ?_
      refine gz_aload_n (q := 0) hX dX6_reads_124 rfl rfl ?_
      refine gz_aload_n (q := 0) hX dX6_reads_125 rfl rfl ?_
      refine tg_from hX dX6_reads_126 ?_
      refine gz_aload_n (q := 0) hX dX6_reads_129 rfl rfl ?_
      refine tg_spot hX dX6_reads_130 ?_
      obtain ⟨r28, e29, h⟩ := gz_bd_o h
      refine tc_V (As := [.int (V26 (1, 0, 0) 14), .int (V26 (1, 0, 0) 13)]) hX (c_wordAt e29) (lw_wordAt_ q1756) rfl rfl nn_wordAt ⟨Nat.le_of_ble_eq_true rfl, Nat.le_of_ble_eq_true rfl⟩ rfl rfl (Nat.le_of_ble_eq_true rfl) dX6_reads_133 rfl ?_
      obtain ⟨V30, e31, h⟩ := gz_let_o h
      refine tp_value hX dX6_reads_136 e31 ?_
      refine gz_aload_n (q := 0) hX dX6_reads_139 rfl rfl ?_
      refine tg_value hX dX6_reads_140 ?_
      refine gz_iconst (v := (-1)) hX dX6_reads_143 gk_c_m1 ?_
      refine gz_icmp_eq (tgt := 273) hX dX6_reads_144 (by decide) (fun c32 => ?_) (fun c32 => ?_)
      · have h := gz_ifp c32 h
        exact gt_vret hX hZ hF (gz_in1 h) dX6_reads_273
      · have h := gz_ifn c32 h
        refine gz_aload_n (q := 0) hX dX6_reads_147 rfl rfl ?_
        refine gz_iconst (v := 2) hX dX6_reads_148 gk_c_2 ?_
        obtain ⟨V33, e34, h⟩ := gz_let_o h
        refine tp_token hX dX6_reads_149 e34 ?_
        refine gz_goto (tgt := 273) hX dX6_reads_152 (by decide) ?_
        exact gt_vret hX hZ hF (gz_in1 h) dX6_reads_273
  · have h := gz_ifp c9 h
    refine gz_aload_n (q := 1) hX dX6_reads_66 rfl rfl ?_
    refine gz_iconst (v := 0) hX dX6_reads_67 gk_c_0 ?_
    obtain ⟨V35, e36, h⟩ := gz_let_o h
    refine tp_token hX dX6_reads_68 e36 ?_
    exact gt_vret hX hZ hF (gz_in1 h) dX6_reads_71
theorem lw_reads_ {i : Nat} (hl : Cond.methodLink RX6 i yX6_reads ∈ lw_all) : GoodIn lw_all (wsV RX6 i RX6 yX6_reads (ws_ yX6_reads cX6_reads 2 none)) := lw_V hl q1746 qs61 q153 q1747
theorem nn_reads : yX6_reads.cls = RX6 ∧ yX6_reads.cls ≠ "java/lang/invoke/MethodHandle" ∧ yX6_reads.cls ≠ "java/lang/invoke/VarHandle" ∧ (parseMethodDescriptor yX6_reads.desc).map (fun d => d.parameters.length) = some 0 := by decide +kernel
