/-! THE TWIN, walked. Printed by wip/D-99505w/gen/mkx6.py -/
set_option maxRecDepth 100000
theorem gk_s_1000 : (Int16.ofInt 1000).toInt32 = 1000 := by decide
def rm_balance : Room := { frames := 1, cells := 0, slots := 0, locals := 27 }
noncomputable def m_balance_L12 (N : Nat) (V : gz_V) : Nat → Int32 → Option (Int32)
  | 0, _ => none
  | n + 1, v3 => gz_bd (m_canWeigh N V (v3 + 1) 1) (fun r13 => (if r13 = 0 then some v3 else gz_let (v3 + 1) (fun x16 => m_balance_L12 N V n x16)))
theorem w_m_balance_L12 {X : gz_X} {ad : gz_A0} (hX : gz_ok X cX6_balance RX6 "balance" 4 rm_balance (some .int)) (hZ : gz_Z X) {N : Nat} {V : gz_V} {o3 : Int32} (k : gW X 4 tw_S tw_R ad V 0 0 30 [(3, .int o3)] []) : ∀ (n : Nat) {v3 : Int32}, m_balance_L12 N V n v3 = some o3 → gW X 4 tw_S tw_R ad V 0 0 12 [(0, .ref (ad (1, 0, 0))), (3, .int v3)] [] := by
  intro n
  induction n with
  | zero => intro v3 h; rw [m_balance_L12] at h; cases h
  | succ n ih =>
    intro v3 h
    rw [m_balance_L12] at h
    refine gz_aload_n (q := 0) hX dX6_balance_12 rfl rfl ?_
    refine gz_iload_n (q := 1) hX dX6_balance_13 rfl rfl ?_
    refine gz_iconst (v := 1) hX dX6_balance_14 gk_c_1 ?_
    refine gz_iadd hX dX6_balance_15 ?_
    refine gz_iconst (v := 1) hX dX6_balance_16 gk_c_1 ?_
    obtain ⟨r13, e14, h⟩ := gz_bd_o h
    refine tc_V (As := [.int (v3 + 1), .int 1]) hX (c_canWeigh e14) (lw_canWeigh_ q2123) rfl rfl nn_canWeigh ⟨Nat.le_of_ble_eq_true rfl, Nat.le_of_ble_eq_true rfl⟩ rfl rfl (Nat.le_of_ble_eq_true rfl) dX6_balance_17 rfl ?_
    refine gz_if_eq (tgt := 30) hX dX6_balance_20 (by decide) (fun c15 => ?_) (fun c15 => ?_)
    · have h := gz_ifp c15 h
      obtain rfl := gz_in1 h
      exact gz_lv [1] rfl k
    · have h := gz_ifn c15 h
      refine gz_iload_n (q := 1) hX dX6_balance_23 rfl rfl ?_
      refine gz_iconst (v := 1) hX dX6_balance_24 gk_c_1 ?_
      refine gz_iadd hX dX6_balance_25 ?_
      obtain ⟨x16, e17, h⟩ := gz_let_o h
      refine gz_nm e17 ?_
      refine gz_istore_n (lv2 := [(3, .int x16), (0, .ref (ad (1, 0, 0)))]) hX dX6_balance_26 rfl (by decide) rfl ?_
      refine gz_goto (tgt := 12) hX dX6_balance_27 (by decide) ?_
      exact gz_lv [1, 0] rfl (ih h)
noncomputable def m_balance (N : Nat) (V : gz_V) (a1 : Int32) (a2 : Int32) : Option (gz_V × Int32) := gz_let (gz_up V (1, 0, 0) 0 0) (fun V1 => (if a2 = 2 then gz_bd (m_balance_L12 N V1 N 0) (fun x13 => some (V1, x13)) else (if (m_isIn a1 0 1000) = 0 then some (V1, (-1)) else (if (m_isIn a2 0 1) = 0 then some (V1, (-1)) else gz_let (if a2 = 0 then (1 : Int32) else (0 : Int32)) (fun y6 => gz_bd (m_canWeigh N V1 a1 y6) (fun r10 => (if r10 = 0 then some (V1, 0) else some (V1, 1))))))))
theorem c_balance {l : Launch} {D : va_G} {aC : Nat → ClassId} {ad : gz_A0} {N : Nat} {V : gz_V} {a1 : Int32} {a2 : Int32} {W1 : gz_V} {r : Int32} (h : m_balance N V a1 a2 = some (W1, r)) : gz_Met l yX6_balance cX6_balance 4 (some .int) rm_balance D aC ad tw_S V tw_R [.ref (ad (1, 0, 0)), .int a1, .int a2] (gz_F1 tw_S tw_R ad W1 (some (.int r))) 0 0 := by
  refine gt_ofW (own := RX6) (mn := "balance") (lv := [(0, .ref (ad (1, 0, 0))), (1, .int a1), (2, .int a2)]) (by decide) rfl rfl (Nat.le_of_ble_eq_true rfl) rfl ?_
  intro X hX hZ hF
  rw [m_balance] at h
  refine gz_aload_n (q := 0) hX dX6_balance_0 rfl rfl ?_
  refine gz_iconst (v := 0) hX dX6_balance_1 gk_c_0 ?_
  obtain ⟨V1, e2, h⟩ := gz_let_o h
  refine tp_told hX dX6_balance_2 e2 ?_
  refine gz_iload_n (q := 2) hX dX6_balance_5 rfl rfl ?_
  refine gz_iconst (v := 2) hX dX6_balance_6 gk_c_2 ?_
  refine gz_icmp_ne (tgt := 32) hX dX6_balance_7 (by decide) (fun c3 => ?_) (fun c3 => ?_)
  · have h := gz_ifn c3 h
    refine gz_aload_n (q := 0) hX dX6_balance_32 rfl rfl ?_
    refine gz_iload_n (q := 1) hX dX6_balance_33 rfl rfl ?_
    refine gz_iconst (v := 0) hX dX6_balance_34 gk_c_0 ?_
    refine gz_sipush (v := 1000) hX dX6_balance_35 gk_s_1000 ?_
    refine tc_V (As := [.int a1, .int 0, .int 1000]) hX (c_isIn rfl) (lw_isIn_ q1692) rfl rfl nn_isIn ⟨Nat.le_of_ble_eq_true rfl, Nat.le_of_ble_eq_true rfl⟩ rfl rfl (Nat.le_of_ble_eq_true rfl) dX6_balance_38 rfl ?_
    refine gz_if_eq (tgt := 54) hX dX6_balance_41 (by decide) (fun c4 => ?_) (fun c4 => ?_)
    · have h := gz_ifp c4 h
      refine gz_iconst (v := (-1)) hX dX6_balance_54 gk_c_m1 ?_
      obtain ⟨e1, e2⟩ := gz_in2 h
      exact gt_iret hX hZ hF e1 e2 dX6_balance_55
    · have h := gz_ifn c4 h
      refine gz_aload_n (q := 0) hX dX6_balance_44 rfl rfl ?_
      refine gz_iload_n (q := 2) hX dX6_balance_45 rfl rfl ?_
      refine gz_iconst (v := 0) hX dX6_balance_46 gk_c_0 ?_
      refine gz_iconst (v := 1) hX dX6_balance_47 gk_c_1 ?_
      refine tc_V (As := [.int a2, .int 0, .int 1]) hX (c_isIn rfl) (lw_isIn_ q1692) rfl rfl nn_isIn ⟨Nat.le_of_ble_eq_true rfl, Nat.le_of_ble_eq_true rfl⟩ rfl rfl (Nat.le_of_ble_eq_true rfl) dX6_balance_48 rfl ?_
      refine gz_if_ne (tgt := 56) hX dX6_balance_51 (by decide) (fun c5 => ?_) (fun c5 => ?_)
      · have h := gz_ifn c5 h
        refine gz_aload_n (q := 0) hX dX6_balance_56 rfl rfl ?_
        refine gz_iload_n (q := 1) hX dX6_balance_57 rfl rfl ?_
        refine gz_iload_n (q := 2) hX dX6_balance_58 rfl rfl ?_
        obtain ⟨y6, g7, h⟩ := gz_let_o h
        have J8 : gW X 4 tw_S tw_R ad V1 0 0 67 [] [.int y6, .int a1, .ref (ad (1, 0, 0))] := by
          obtain ⟨r10, e11, h⟩ := gz_bd_o h
          refine tc_V (As := [.int a1, .int y6]) hX (c_canWeigh e11) (lw_canWeigh_ q2123) rfl rfl nn_canWeigh ⟨Nat.le_of_ble_eq_true rfl, Nat.le_of_ble_eq_true rfl⟩ rfl rfl (Nat.le_of_ble_eq_true rfl) dX6_balance_67 rfl ?_
          refine gz_if_eq (tgt := 77) hX dX6_balance_70 (by decide) (fun c12 => ?_) (fun c12 => ?_)
          · have h := gz_ifp c12 h
            refine gz_iconst (v := 0) hX dX6_balance_77 gk_c_0 ?_
            obtain ⟨e1, e2⟩ := gz_in2 h
            exact gt_iret hX hZ hF e1 e2 dX6_balance_78
          · have h := gz_ifn c12 h
            refine gz_iconst (v := 1) hX dX6_balance_73 gk_c_1 ?_
            refine gz_goto (tgt := 78) hX dX6_balance_74 (by decide) ?_
            obtain ⟨e1, e2⟩ := gz_in2 h
            exact gt_iret hX hZ hF e1 e2 dX6_balance_78
        refine gz_if_ne (tgt := 66) hX dX6_balance_59 (by decide) (fun c9 => ?_) (fun c9 => ?_)
        · have g7 := gz_ifn c9 g7
          refine gz_iconst (v := 0) hX dX6_balance_66 gk_c_0 ?_
          obtain rfl := g7
          exact gz_lv [] rfl J8
        · have g7 := gz_ifp c9 g7
          refine gz_iconst (v := 1) hX dX6_balance_62 gk_c_1 ?_
          refine gz_goto (tgt := 67) hX dX6_balance_63 (by decide) ?_
          obtain rfl := g7
          exact gz_lv [] rfl J8
      · have h := gz_ifp c5 h
        refine gz_iconst (v := (-1)) hX dX6_balance_54 gk_c_m1 ?_
        obtain ⟨e1, e2⟩ := gz_in2 h
        exact gt_iret hX hZ hF e1 e2 dX6_balance_55
  · have h := gz_ifp c3 h
    refine gz_iconst (v := 0) hX dX6_balance_10 gk_c_0 ?_
    refine gz_istore_n (lv2 := [(3, .int 0), (0, .ref (ad (1, 0, 0))), (1, .int a1), (2, .int a2)]) hX dX6_balance_11 rfl (by decide) rfl ?_
    obtain ⟨x13, e14, h⟩ := gz_bd_o h
    refine gz_lv [1, 0] rfl (w_m_balance_L12 hX hZ ?_ N e14)
    refine gz_iload_n (q := 0) hX dX6_balance_30 rfl rfl ?_
    obtain ⟨e1, e2⟩ := gz_in2 h
    exact gt_iret hX hZ hF e1 e2 dX6_balance_31
theorem lw_balance_ {i : Nat} (hl : Cond.methodLink RX6 i yX6_balance ∈ lw_all) : GoodIn lw_all (wsV RX6 i RX6 yX6_balance (ws_ yX6_balance cX6_balance 4 (some .int))) := lw_V hl q2120 q2121 q153 q2122
theorem nn_balance : yX6_balance.cls = RX6 ∧ yX6_balance.cls ≠ "java/lang/invoke/MethodHandle" ∧ yX6_balance.cls ≠ "java/lang/invoke/VarHandle" ∧ (parseMethodDescriptor yX6_balance.desc).map (fun d => d.parameters.length) = some 2 := by decide +kernel
def rm_shake : Room := { frames := 0, cells := 0, slots := 0, locals := 0 }
noncomputable def m_shake (V : gz_V) (a1 : Int32) (a2 : Int32) : Option gz_V := gz_gd (gz_inb (89 + a1) 121 = true) (gz_gd (gz_inb (89 + a1) 121 = true) (gz_let (gz_up V (2, 1, 0) (89 + a1).toNatClampNeg ((V (2, 1, 0) (89 + a1).toNatClampNeg) + 1)) (fun V3 => gz_gd (gz_inb (89 + a2) 121 = true) (gz_gd (gz_inb (89 + a2) 121 = true) (gz_let (gz_up V3 (2, 1, 0) (89 + a2).toNatClampNeg ((V3 (2, 1, 0) (89 + a2).toNatClampNeg) + 1)) (fun V7 => some V7))))))
theorem c_shake {l : Launch} {D : va_G} {aC : Nat → ClassId} {ad : gz_A0} {V : gz_V} {a1 : Int32} {a2 : Int32} {W1 : gz_V} (h : m_shake V a1 a2 = some W1) : gz_Met l yX6_shake cX6_shake 3 none rm_shake D aC ad tw_S V tw_R [.ref (ad (1, 0, 0)), .int a1, .int a2] (gz_F1 tw_S tw_R ad W1 none) 0 0 := by
  refine gt_ofW (own := RX6) (mn := "shake") (lv := [(0, .ref (ad (1, 0, 0))), (1, .int a1), (2, .int a2)]) (by decide) rfl rfl (Nat.le_of_ble_eq_true rfl) rfl ?_
  intro X hX hZ hF
  rw [m_shake] at h
  refine gz_aload_n (q := 0) hX dX6_shake_0 rfl rfl ?_
  refine tg_now hX dX6_shake_1 ?_
  refine gz_bipush (v := 89) hX dX6_shake_4 gk_b_89 ?_
  refine gz_iload_n (q := 1) hX dX6_shake_6 rfl rfl ?_
  refine gz_iadd hX dX6_shake_7 ?_
  refine gz_aload_n (q := 0) hX dX6_shake_8 rfl rfl ?_
  refine tg_now hX dX6_shake_9 ?_
  refine gz_bipush (v := 89) hX dX6_shake_12 gk_b_89 ?_
  refine gz_iload_n (q := 1) hX dX6_shake_14 rfl rfl ?_
  refine gz_iadd hX dX6_shake_15 ?_
  obtain ⟨b1, h⟩ := gz_gd_o h
  refine gz_iald (L := 121) hX tw_S1 (gz_inb_o b1) dX6_shake_16 ?_
  refine gz_iconst (v := 1) hX dX6_shake_17 gk_c_1 ?_
  refine gz_iadd hX dX6_shake_18 ?_
  obtain ⟨b2, h⟩ := gz_gd_o h
  obtain ⟨V3, e4, h⟩ := gz_let_o h
  refine gz_iast (L := 121) hX tw_S1 (by decide) (gz_inb_o b2) dX6_shake_19 e4 ?_
  refine gz_aload_n (q := 0) hX dX6_shake_20 rfl rfl ?_
  refine tg_now hX dX6_shake_21 ?_
  refine gz_bipush (v := 89) hX dX6_shake_24 gk_b_89 ?_
  refine gz_iload_n (q := 2) hX dX6_shake_26 rfl rfl ?_
  refine gz_iadd hX dX6_shake_27 ?_
  refine gz_aload_n (q := 0) hX dX6_shake_28 rfl rfl ?_
  refine tg_now hX dX6_shake_29 ?_
  refine gz_bipush (v := 89) hX dX6_shake_32 gk_b_89 ?_
  refine gz_iload_n (q := 2) hX dX6_shake_34 rfl rfl ?_
  refine gz_iadd hX dX6_shake_35 ?_
  obtain ⟨b5, h⟩ := gz_gd_o h
  refine gz_iald (L := 121) hX tw_S1 (gz_inb_o b5) dX6_shake_36 ?_
  refine gz_iconst (v := 1) hX dX6_shake_37 gk_c_1 ?_
  refine gz_iadd hX dX6_shake_38 ?_
  obtain ⟨b6, h⟩ := gz_gd_o h
  obtain ⟨V7, e8, h⟩ := gz_let_o h
  refine gz_iast (L := 121) hX tw_S1 (by decide) (gz_inb_o b6) dX6_shake_39 e8 ?_
  exact gt_vret hX hZ hF (gz_in1 h) dX6_shake_40
theorem lw_shake_ {i : Nat} (hl : Cond.methodLink RX6 i yX6_shake ∈ lw_all) : GoodIn lw_all (wsV RX6 i RX6 yX6_shake (ws_ yX6_shake cX6_shake 3 none)) := lw_V hl q1930 qs105 q153 q1931
theorem nn_shake : yX6_shake.cls = RX6 ∧ yX6_shake.cls ≠ "java/lang/invoke/MethodHandle" ∧ yX6_shake.cls ≠ "java/lang/invoke/VarHandle" ∧ (parseMethodDescriptor yX6_shake.desc).map (fun d => d.parameters.length) = some 2 := by decide +kernel
def rm_lesser : Room := { frames := 0, cells := 0, slots := 0, locals := 0 }
noncomputable def m_lesser (a1 : Int32) (a2 : Int32) : Int32 := (if a2 ≤ a1 then a2 else a1)
theorem c_lesser {l : Launch} {D : va_G} {aC : Nat → ClassId} {ad : gz_A0} {V : gz_V} {a1 : Int32} {a2 : Int32} {r : Int32} (h : m_lesser a1 a2 = r) : gz_Met l yX6_lesser cX6_lesser 3 (some .int) rm_lesser D aC ad tw_S V tw_R [.ref (ad (1, 0, 0)), .int a1, .int a2] (gz_F1 tw_S tw_R ad V (some (.int r))) 0 0 := by
  refine gt_ofW (own := RX6) (mn := "lesser") (lv := [(0, .ref (ad (1, 0, 0))), (1, .int a1), (2, .int a2)]) (by decide) rfl rfl (Nat.le_of_ble_eq_true rfl) rfl ?_
  intro X hX hZ hF
  rw [m_lesser] at h
  refine gz_iload_n (q := 1) hX dX6_lesser_0 rfl rfl ?_
  refine gz_iload_n (q := 2) hX dX6_lesser_1 rfl rfl ?_
  refine gz_icmp_ge (tgt := 9) hX dX6_lesser_2 (by decide) (fun c1 => ?_) (fun c1 => ?_)
  · have h := gz_ifp c1 h
    refine gz_iload_n (q := 2) hX dX6_lesser_9 rfl rfl ?_
    exact gt_iret hX hZ hF rfl h dX6_lesser_10
  · have h := gz_ifn c1 h
    refine gz_iload_n (q := 1) hX dX6_lesser_5 rfl rfl ?_
    refine gz_goto (tgt := 10) hX dX6_lesser_6 (by decide) ?_
    exact gt_iret hX hZ hF rfl h dX6_lesser_10
theorem lw_lesser_ {i : Nat} (hl : Cond.methodLink RX6 i yX6_lesser ∈ lw_all) : GoodIn lw_all (wsV RX6 i RX6 yX6_lesser (ws_ yX6_lesser cX6_lesser 3 (some .int))) := lw_V hl q1934 qs106 q153 q1935
theorem nn_lesser : yX6_lesser.cls = RX6 ∧ yX6_lesser.cls ≠ "java/lang/invoke/MethodHandle" ∧ yX6_lesser.cls ≠ "java/lang/invoke/VarHandle" ∧ (parseMethodDescriptor yX6_lesser.desc).map (fun d => d.parameters.length) = some 2 := by decide +kernel
theorem gk_s_150 : (Int16.ofInt 150).toInt32 = 150 := by decide
def rm_notes : Room := { frames := 0, cells := 0, slots := 0, locals := 0 }
noncomputable def m_notes (V : gz_V) (a1 : Int32) (a2 : Int32) (a3 : Int32) : Option gz_V := (if (V (1, 0, 0) 5) = 0 then (if (V (2, 1, 0) (2 : Int32).toNatClampNeg) = 150 then some V else gz_let (4 * (V (2, 1, 0) (2 : Int32).toNatClampNeg)) (fun x3 => gz_gd (gz_inb x3 600 = true) (gz_let (gz_up V (2, 10, 0) x3.toNatClampNeg (V (2, 1, 0) (0 : Int32).toNatClampNeg)) (fun V6 => gz_gd (gz_inb (x3 + 1) 600 = true) (gz_let (gz_up V6 (2, 10, 0) (x3 + 1).toNatClampNeg a1) (fun V9 => gz_gd (gz_inb (x3 + 2) 600 = true) (gz_let (gz_up V9 (2, 10, 0) (x3 + 2).toNatClampNeg a2) (fun V12 => gz_gd (gz_inb (x3 + 3) 600 = true) (gz_let (gz_up V12 (2, 10, 0) (x3 + 3).toNatClampNeg a3) (fun V15 => gz_let (gz_up V15 (2, 1, 0) (2 : Int32).toNatClampNeg ((V15 (2, 1, 0) (2 : Int32).toNatClampNeg) + 1)) (fun V17 => some V17))))))))))) else some V)
theorem c_notes {l : Launch} {D : va_G} {aC : Nat → ClassId} {ad : gz_A0} {V : gz_V} {a1 : Int32} {a2 : Int32} {a3 : Int32} {W1 : gz_V} (h : m_notes V a1 a2 a3 = some W1) : gz_Met l yX6_notes cX6_notes 5 none rm_notes D aC ad tw_S V tw_R [.ref (ad (1, 0, 0)), .int a1, .int a2, .int a3] (gz_F1 tw_S tw_R ad W1 none) 0 0 := by
  refine gt_ofW (own := RX6) (mn := "notes") (lv := [(0, .ref (ad (1, 0, 0))), (1, .int a1), (2, .int a2), (3, .int a3)]) (by decide) rfl rfl (Nat.le_of_ble_eq_true rfl) rfl ?_
  intro X hX hZ hF
  rw [m_notes] at h
  refine gz_aload_n (q := 0) hX dX6_notes_0 rfl rfl ?_
  refine tg_isThought hX dX6_notes_1 ?_
  refine gz_if_ne (tgt := 19) hX dX6_notes_4 (by decide) (fun c1 => ?_) (fun c1 => ?_)
  · have h := gz_ifn c1 h
    exact gt_vret hX hZ hF (gz_in1 h) dX6_notes_19
  · have h := gz_ifp c1 h
    refine gz_aload_n (q := 0) hX dX6_notes_7 rfl rfl ?_
    refine tg_now hX dX6_notes_8 ?_
    refine gz_iconst (v := 2) hX dX6_notes_11 gk_c_2 ?_
    refine gz_iald (L := 121) hX tw_S1 (gz_inb_o (by decide)) dX6_notes_12 ?_
    refine gz_sipush (v := 150) hX dX6_notes_13 gk_s_150 ?_
    refine gz_icmp_ne (tgt := 20) hX dX6_notes_16 (by decide) (fun c2 => ?_) (fun c2 => ?_)
    · have h := gz_ifn c2 h
      refine gz_iconst (v := 4) hX dX6_notes_20 gk_c_4 ?_
      refine gz_aload_n (q := 0) hX dX6_notes_21 rfl rfl ?_
      refine tg_now hX dX6_notes_22 ?_
      refine gz_iconst (v := 2) hX dX6_notes_25 gk_c_2 ?_
      refine gz_iald (L := 121) hX tw_S1 (gz_inb_o (by decide)) dX6_notes_26 ?_
      refine gz_imul hX dX6_notes_27 ?_
      obtain ⟨x3, e4, h⟩ := gz_let_o h
      refine gz_nm e4 ?_
      refine gz_istore (lv2 := [(4, .int x3), (0, .ref (ad (1, 0, 0))), (1, .int a1), (2, .int a2), (3, .int a3)]) hX dX6_notes_28 (by decide) rfl ?_
      refine gz_aload_n (q := 1) hX dX6_notes_30 rfl rfl ?_
      refine tg_book hX dX6_notes_31 ?_
      refine gz_iload (q := 0) hX dX6_notes_34 rfl ?_
      refine gz_aload_n (q := 1) hX dX6_notes_36 rfl rfl ?_
      refine tg_now hX dX6_notes_37 ?_
      refine gz_iconst (v := 0) hX dX6_notes_40 gk_c_0 ?_
      refine gz_iald (L := 121) hX tw_S1 (gz_inb_o (by decide)) dX6_notes_41 ?_
      obtain ⟨b5, h⟩ := gz_gd_o h
      obtain ⟨V6, e7, h⟩ := gz_let_o h
      refine gz_iast (L := 600) hX tw_S10 (by decide) (gz_inb_o b5) dX6_notes_42 e7 ?_
      refine gz_aload_n (q := 1) hX dX6_notes_43 rfl rfl ?_
      refine tg_book hX dX6_notes_44 ?_
      refine gz_iload (q := 0) hX dX6_notes_47 rfl ?_
      refine gz_iconst (v := 1) hX dX6_notes_49 gk_c_1 ?_
      refine gz_iadd hX dX6_notes_50 ?_
      refine gz_iload_n (q := 2) hX dX6_notes_51 rfl rfl ?_
      obtain ⟨b8, h⟩ := gz_gd_o h
      obtain ⟨V9, e10, h⟩ := gz_let_o h
      refine gz_iast (L := 600) hX tw_S10 (by decide) (gz_inb_o b8) dX6_notes_52 e10 ?_
      refine gz_aload_n (q := 1) hX dX6_notes_53 rfl rfl ?_
      refine tg_book hX dX6_notes_54 ?_
      refine gz_iload (q := 0) hX dX6_notes_57 rfl ?_
      refine gz_iconst (v := 2) hX dX6_notes_59 gk_c_2 ?_
      refine gz_iadd hX dX6_notes_60 ?_
      refine gz_iload_n (q := 3) hX dX6_notes_61 rfl rfl ?_
      obtain ⟨b11, h⟩ := gz_gd_o h
      obtain ⟨V12, e13, h⟩ := gz_let_o h
      refine gz_iast (L := 600) hX tw_S10 (by decide) (gz_inb_o b11) dX6_notes_62 e13 ?_
      refine gz_aload_n (q := 1) hX dX6_notes_63 rfl rfl ?_
      refine tg_book hX dX6_notes_64 ?_
      refine gz_iload (q := 0) hX dX6_notes_67 rfl ?_
      refine gz_iconst (v := 3) hX dX6_notes_69 gk_c_3 ?_
      refine gz_iadd hX dX6_notes_70 ?_
      refine gz_iload_n (q := 4) hX dX6_notes_71 rfl rfl ?_
      obtain ⟨b14, h⟩ := gz_gd_o h
      obtain ⟨V15, e16, h⟩ := gz_let_o h
      refine gz_iast (L := 600) hX tw_S10 (by decide) (gz_inb_o b14) dX6_notes_72 e16 ?_
      refine gz_aload_n (q := 1) hX dX6_notes_73 rfl rfl ?_
      refine tg_now hX dX6_notes_74 ?_
      refine gz_iconst (v := 2) hX dX6_notes_77 gk_c_2 ?_
      refine gz_aload_n (q := 1) hX dX6_notes_78 rfl rfl ?_
      refine tg_now hX dX6_notes_79 ?_
      refine gz_iconst (v := 2) hX dX6_notes_82 gk_c_2 ?_
      refine gz_iald (L := 121) hX tw_S1 (gz_inb_o (by decide)) dX6_notes_83 ?_
      refine gz_iconst (v := 1) hX dX6_notes_84 gk_c_1 ?_
      refine gz_iadd hX dX6_notes_85 ?_
      obtain ⟨V17, e18, h⟩ := gz_let_o h
      refine gz_iast (L := 121) hX tw_S1 (by decide) (gz_inb_o (by decide)) dX6_notes_86 e18 ?_
      exact gt_vret hX hZ hF (gz_in1 h) dX6_notes_87
    · have h := gz_ifp c2 h
      exact gt_vret hX hZ hF (gz_in1 h) dX6_notes_19
theorem lw_notes_ {i : Nat} (hl : Cond.methodLink RX6 i yX6_notes ∈ lw_all) : GoodIn lw_all (wsV RX6 i RX6 yX6_notes (ws_ yX6_notes cX6_notes 5 none)) := lw_V hl q1938 qs107 q153 q1939
theorem nn_notes : yX6_notes.cls = RX6 ∧ yX6_notes.cls ≠ "java/lang/invoke/MethodHandle" ∧ yX6_notes.cls ≠ "java/lang/invoke/VarHandle" ∧ (parseMethodDescriptor yX6_notes.desc).map (fun d => d.parameters.length) = some 3 := by decide +kernel
theorem gk_b_20 : (Int8.ofInt 20).toInt32 = 20 := by decide
def rm_passesOf : Room := { frames := 4, cells := 0, slots := 0, locals := 94 }
noncomputable def m_passesOf (N : Nat) (V : gz_V) (a1 : Int32) (a2 : Int32) (a3 : Int32) : Option (gz_V × Int32) := gz_bd (m_looks V a1 a2 a3 1) (fun V2 => gz_b2 (m_lawTells N V2 0 (20 * (V2 (1, 0, 0) 42)) 1000) (fun V5 r3 => some (V5, r3)))
theorem c_passesOf {l : Launch} {D : va_G} {aC : Nat → ClassId} {ad : gz_A0} {N : Nat} {V : gz_V} {a1 : Int32} {a2 : Int32} {a3 : Int32} {W1 : gz_V} {r : Int32} (h : m_passesOf N V a1 a2 a3 = some (W1, r)) : gz_Met l yX6_passesOf cX6_passesOf 4 (some .int) rm_passesOf D aC ad tw_S V tw_R [.ref (ad (1, 0, 0)), .int a1, .int a2, .int a3] (gz_F1 tw_S tw_R ad W1 (some (.int r))) 0 0 := by
  refine gt_ofW (own := RX6) (mn := "passesOf") (lv := [(0, .ref (ad (1, 0, 0))), (1, .int a1), (2, .int a2), (3, .int a3)]) (by decide) rfl rfl (Nat.le_of_ble_eq_true rfl) rfl ?_
  intro X hX hZ hF
  rw [m_passesOf] at h
  refine gz_aload_n (q := 0) hX dX6_passesOf_0 rfl rfl ?_
  refine gz_iload_n (q := 1) hX dX6_passesOf_1 rfl rfl ?_
  refine gz_iload_n (q := 2) hX dX6_passesOf_2 rfl rfl ?_
  refine gz_iload_n (q := 3) hX dX6_passesOf_3 rfl rfl ?_
  refine gz_iconst (v := 1) hX dX6_passesOf_4 gk_c_1 ?_
  obtain ⟨V2, e1, h⟩ := gz_bd_o h
  refine tc_V (As := [.int a1, .int a2, .int a3, .int 1]) hX (c_looks e1) (lw_looks_ q1892) rfl rfl nn_looks ⟨Nat.le_of_ble_eq_true rfl, Nat.le_of_ble_eq_true rfl⟩ rfl rfl (Nat.le_of_ble_eq_true rfl) dX6_passesOf_5 rfl ?_
  refine gz_aload_n (q := 0) hX dX6_passesOf_8 rfl rfl ?_
  refine gz_iconst (v := 0) hX dX6_passesOf_9 gk_c_0 ?_
  refine gz_bipush (v := 20) hX dX6_passesOf_10 gk_b_20 ?_
  refine gz_aload_n (q := 0) hX dX6_passesOf_12 rfl rfl ?_
  refine tg_byGrip hX dX6_passesOf_13 ?_
  refine gz_imul hX dX6_passesOf_16 ?_
  refine gz_sipush (v := 1000) hX dX6_passesOf_17 gk_s_1000 ?_
  obtain ⟨V5, r3, e4, h⟩ := gz_b2_o h
  refine tc_V (As := [.int 0, .int (20 * (V2 (1, 0, 0) 42)), .int 1000]) hX (c_lawTells e4) (lw_lawTells_ q1904) rfl rfl nn_lawTells ⟨Nat.le_of_ble_eq_true rfl, Nat.le_of_ble_eq_true rfl⟩ rfl rfl (Nat.le_of_ble_eq_true rfl) dX6_passesOf_20 rfl ?_
  obtain ⟨e1, e2⟩ := gz_in2 h
  exact gt_iret hX hZ hF e1 e2 dX6_passesOf_23
theorem lw_passesOf_ {i : Nat} (hl : Cond.methodLink RX6 i yX6_passesOf ∈ lw_all) : GoodIn lw_all (wsV RX6 i RX6 yX6_passesOf (ws_ yX6_passesOf cX6_passesOf 4 (some .int))) := lw_V hl q1954 qs111 q153 q1955
theorem nn_passesOf : yX6_passesOf.cls = RX6 ∧ yX6_passesOf.cls ≠ "java/lang/invoke/MethodHandle" ∧ yX6_passesOf.cls ≠ "java/lang/invoke/VarHandle" ∧ (parseMethodDescriptor yX6_passesOf.desc).map (fun d => d.parameters.length) = some 3 := by decide +kernel
theorem gk_s_999 : (Int16.ofInt 999).toInt32 = 999 := by decide
def rm_hasTrait : Room := { frames := 1, cells := 0, slots := 0, locals := 23 }
noncomputable def m_hasTrait (V : gz_V) (a1 : Int32) (a2 : Int32) (a3 : Int32) : Option gz_V := gz_gd (gz_inb ((5 + (5 * a1)) + a2) 121 = true) (gz_let (gz_up V (2, 1, 0) ((5 + (5 * a1)) + a2).toNatClampNeg (m_held a3 0 999)) (fun V2 => some V2))
theorem c_hasTrait {l : Launch} {D : va_G} {aC : Nat → ClassId} {ad : gz_A0} {V : gz_V} {a1 : Int32} {a2 : Int32} {a3 : Int32} {W1 : gz_V} (h : m_hasTrait V a1 a2 a3 = some W1) : gz_Met l yX6_hasTrait cX6_hasTrait 4 none rm_hasTrait D aC ad tw_S V tw_R [.ref (ad (1, 0, 0)), .int a1, .int a2, .int a3] (gz_F1 tw_S tw_R ad W1 none) 0 0 := by
  refine gt_ofW (own := RX6) (mn := "hasTrait") (lv := [(0, .ref (ad (1, 0, 0))), (1, .int a1), (2, .int a2), (3, .int a3)]) (by decide) rfl rfl (Nat.le_of_ble_eq_true rfl) rfl ?_
  intro X hX hZ hF
  rw [m_hasTrait] at h
  refine gz_aload_n (q := 0) hX dX6_hasTrait_0 rfl rfl ?_
  refine tg_now hX dX6_hasTrait_1 ?_
  refine gz_iconst (v := 5) hX dX6_hasTrait_4 gk_c_5 ?_
  refine gz_iconst (v := 5) hX dX6_hasTrait_5 gk_c_5 ?_
  refine gz_iload_n (q := 1) hX dX6_hasTrait_6 rfl rfl ?_
  refine gz_imul hX dX6_hasTrait_7 ?_
  refine gz_iadd hX dX6_hasTrait_8 ?_
  refine gz_iload_n (q := 2) hX dX6_hasTrait_9 rfl rfl ?_
  refine gz_iadd hX dX6_hasTrait_10 ?_
  refine gz_aload_n (q := 0) hX dX6_hasTrait_11 rfl rfl ?_
  refine gz_iload_n (q := 3) hX dX6_hasTrait_12 rfl rfl ?_
  refine gz_iconst (v := 0) hX dX6_hasTrait_13 gk_c_0 ?_
  refine gz_sipush (v := 999) hX dX6_hasTrait_14 gk_s_999 ?_
  refine tc_V (As := [.int a3, .int 0, .int 999]) hX (c_held rfl) (lw_held_ q1700) rfl rfl nn_held ⟨Nat.le_of_ble_eq_true rfl, Nat.le_of_ble_eq_true rfl⟩ rfl rfl (Nat.le_of_ble_eq_true rfl) dX6_hasTrait_17 rfl ?_
  obtain ⟨b1, h⟩ := gz_gd_o h
  obtain ⟨V2, e3, h⟩ := gz_let_o h
  refine gz_iast (L := 121) hX tw_S1 (by decide) (gz_inb_o b1) dX6_hasTrait_20 e3 ?_
  exact gt_vret hX hZ hF (gz_in1 h) dX6_hasTrait_21
theorem lw_hasTrait_ {i : Nat} (hl : Cond.methodLink RX6 i yX6_hasTrait ∈ lw_all) : GoodIn lw_all (wsV RX6 i RX6 yX6_hasTrait (ws_ yX6_hasTrait cX6_hasTrait 4 none)) := lw_V hl q1698 qs54 q153 q1699
theorem nn_hasTrait : yX6_hasTrait.cls = RX6 ∧ yX6_hasTrait.cls ≠ "java/lang/invoke/MethodHandle" ∧ yX6_hasTrait.cls ≠ "java/lang/invoke/VarHandle" ∧ (parseMethodDescriptor yX6_hasTrait.desc).map (fun d => d.parameters.length) = some 3 := by decide +kernel
def rm_passAll : Room := { frames := 5, cells := 0, slots := 0, locals := 117 }
noncomputable def m_passAll_L5 (N : Nat) (v1 : Int32) (v2 : Int32) : Nat → gz_V → Int32 → Int32 → Option (gz_V × Int32)
  | 0, _, _, _ => none
  | n + 1, V, v3, v4 => (if 5 ≤ v4 then some (V, v3) else gz_bd (m_traitOf V v1 v4) (fun r2 => gz_bd (m_traitOf V v2 v4) (fun r4 => gz_b2 (m_passesOf N V v1 v2 v4) (fun V8 r6 => gz_let ((r2 * r6) / 1000) (fun x9 => gz_b2 (m_passesOf N V8 v2 v1 v4) (fun V13 r11 => gz_let ((r4 * r11) / 1000) (fun x14 => gz_gd (gz_inb v4 5 = true) (gz_let (gz_up V13 (2, 45, 0) v4.toNatClampNeg (m_lesser x9 ((999 - r4) + x14))) (fun V17 => gz_gd (gz_inb v4 5 = true) (gz_let (gz_up V17 (2, 46, 0) v4.toNatClampNeg (m_lesser x14 ((999 - r2) + x9))) (fun V20 => gz_gd (gz_inb v4 5 = true) (gz_gd (gz_inb v4 5 = true) (gz_bd (m_hasTrait V20 v1 v4 ((r2 - (V20 (2, 45, 0) v4.toNatClampNeg)) + (V20 (2, 46, 0) v4.toNatClampNeg))) (fun V25 => gz_gd (gz_inb v4 5 = true) (gz_gd (gz_inb v4 5 = true) (gz_bd (m_hasTrait V25 v2 v4 ((r4 - (V25 (2, 46, 0) v4.toNatClampNeg)) + (V25 (2, 45, 0) v4.toNatClampNeg))) (fun V29 => gz_gd (gz_inb v4 5 = true) (gz_gd (gz_inb v4 5 = true) (gz_let ((v3 + (V29 (2, 45, 0) v4.toNatClampNeg)) + (V29 (2, 46, 0) v4.toNatClampNeg)) (fun x32 => m_passAll_L5 N v1 v2 n V29 x32 (v4 + 1)))))))))))))))))))))
theorem w_m_passAll_L5 {X : gz_X} {ad : gz_A0} (hX : gz_ok X cX6_passAll RX6 "passAll" 9 rm_passAll (some .int)) (hZ : gz_Z X) {N : Nat} {v1 : Int32} {v2 : Int32} {W1 : gz_V} {o3 : Int32} (k : gW X 9 tw_S tw_R ad W1 0 0 181 [(0, .ref (ad (1, 0, 0))), (1, .int v1), (3, .int o3)] []) : ∀ (n : Nat) {V : gz_V} {v3 : Int32} {v4 : Int32}, m_passAll_L5 N v1 v2 n V v3 v4 = some (W1, o3) → gW X 9 tw_S tw_R ad V 0 0 5 [(0, .ref (ad (1, 0, 0))), (1, .int v1), (2, .int v2), (3, .int v3), (4, .int v4)] [] := by
  intro n
  induction n with
  | zero => intro V v3 v4 h; rw [m_passAll_L5] at h; cases h
  | succ n ih =>
    intro V v3 v4 h
    rw [m_passAll_L5] at h
    refine gz_iload (q := 4) hX dX6_passAll_5 rfl ?_
    refine gz_iconst (v := 5) hX dX6_passAll_7 gk_c_5 ?_
    refine gz_icmp_ge (tgt := 181) hX dX6_passAll_8 (by decide) (fun c1 => ?_) (fun c1 => ?_)
    · have h := gz_ifp c1 h
      obtain ⟨rfl, rfl⟩ := gz_in2 h
      exact gz_lv [0, 1, 3] rfl k
    · have h := gz_ifn c1 h
      refine gz_aload_n (q := 0) hX dX6_passAll_11 rfl rfl ?_
      refine gz_iload_n (q := 1) hX dX6_passAll_12 rfl rfl ?_
      refine gz_iload (q := 4) hX dX6_passAll_13 rfl ?_
      obtain ⟨r2, e3, h⟩ := gz_bd_o h
      refine tc_V (As := [.int v1, .int v4]) hX (c_traitOf e3) (lw_traitOf_ q1896) rfl rfl nn_traitOf ⟨Nat.le_of_ble_eq_true rfl, Nat.le_of_ble_eq_true rfl⟩ rfl rfl (Nat.le_of_ble_eq_true rfl) dX6_passAll_15 rfl ?_
      refine gz_istore (lv2 := [(5, .int r2), (0, .ref (ad (1, 0, 0))), (1, .int v1), (2, .int v2), (3, .int v3), (4, .int v4)]) hX dX6_passAll_18 (by decide) rfl ?_
      refine gz_aload_n (q := 1) hX dX6_passAll_20 rfl rfl ?_
      refine gz_iload_n (q := 3) hX dX6_passAll_21 rfl rfl ?_
      refine gz_iload (q := 5) hX dX6_passAll_22 rfl ?_
      obtain ⟨r4, e5, h⟩ := gz_bd_o h
      refine tc_V (As := [.int v2, .int v4]) hX (c_traitOf e5) (lw_traitOf_ q1896) rfl rfl nn_traitOf ⟨Nat.le_of_ble_eq_true rfl, Nat.le_of_ble_eq_true rfl⟩ rfl rfl (Nat.le_of_ble_eq_true rfl) dX6_passAll_24 rfl ?_
      refine gz_istore (lv2 := [(6, .int r4), (5, .int r2), (0, .ref (ad (1, 0, 0))), (1, .int v1), (2, .int v2), (3, .int v3), (4, .int v4)]) hX dX6_passAll_27 (by decide) rfl ?_
      refine gz_iload (q := 1) hX dX6_passAll_29 rfl ?_
      refine gz_aload_n (q := 2) hX dX6_passAll_31 rfl rfl ?_
      refine gz_iload_n (q := 3) hX dX6_passAll_32 rfl rfl ?_
      refine gz_iload_n (q := 4) hX dX6_passAll_33 rfl rfl ?_
      refine gz_iload (q := 6) hX dX6_passAll_34 rfl ?_
      obtain ⟨V8, r6, e7, h⟩ := gz_b2_o h
      refine tc_V (As := [.int v1, .int v2, .int v4]) hX (c_passesOf e7) (lw_passesOf_ q1952) rfl rfl nn_passesOf ⟨Nat.le_of_ble_eq_true rfl, Nat.le_of_ble_eq_true rfl⟩ rfl rfl (Nat.le_of_ble_eq_true rfl) dX6_passAll_36 rfl ?_
      refine gz_imul hX dX6_passAll_39 ?_
      refine gz_sipush (v := 1000) hX dX6_passAll_40 gk_s_1000 ?_
      refine gz_idiv hX dX6_passAll_43 (by decide) ?_
      obtain ⟨x9, e10, h⟩ := gz_let_o h
      refine gz_nm e10 ?_
      refine gz_istore (lv2 := [(7, .int x9), (6, .int r4), (5, .int r2), (0, .ref (ad (1, 0, 0))), (1, .int v1), (2, .int v2), (3, .int v3), (4, .int v4)]) hX dX6_passAll_44 (by decide) rfl ?_
      refine gz_iload (q := 1) hX dX6_passAll_46 rfl ?_
      refine gz_aload_n (q := 3) hX dX6_passAll_48 rfl rfl ?_
      refine gz_iload_n (q := 5) hX dX6_passAll_49 rfl rfl ?_
      refine gz_iload_n (q := 4) hX dX6_passAll_50 rfl rfl ?_
      refine gz_iload (q := 7) hX dX6_passAll_51 rfl ?_
      obtain ⟨V13, r11, e12, h⟩ := gz_b2_o h
      refine tc_V (As := [.int v2, .int v1, .int v4]) hX (c_passesOf e12) (lw_passesOf_ q1952) rfl rfl nn_passesOf ⟨Nat.le_of_ble_eq_true rfl, Nat.le_of_ble_eq_true rfl⟩ rfl rfl (Nat.le_of_ble_eq_true rfl) dX6_passAll_53 rfl ?_
      refine gz_imul hX dX6_passAll_56 ?_
      refine gz_sipush (v := 1000) hX dX6_passAll_57 gk_s_1000 ?_
      refine gz_idiv hX dX6_passAll_60 (by decide) ?_
      obtain ⟨x14, e15, h⟩ := gz_let_o h
      refine gz_nm e15 ?_
      refine gz_istore (lv2 := [(8, .int x14), (7, .int x9), (6, .int r4), (5, .int r2), (0, .ref (ad (1, 0, 0))), (1, .int v1), (2, .int v2), (3, .int v3), (4, .int v4)]) hX dX6_passAll_61 (by decide) rfl ?_
      refine gz_aload_n (q := 4) hX dX6_passAll_63 rfl rfl ?_
      refine tg_wentOver hX dX6_passAll_64 ?_
      refine gz_iload (q := 8) hX dX6_passAll_67 rfl ?_
      refine gz_aload_n (q := 4) hX dX6_passAll_69 rfl rfl ?_
      refine gz_iload (q := 1) hX dX6_passAll_70 rfl ?_
      refine gz_sipush (v := 999) hX dX6_passAll_72 gk_s_999 ?_
      refine gz_iload (q := 2) hX dX6_passAll_75 rfl ?_
      refine gz_isub hX dX6_passAll_77 ?_
      refine gz_iload (q := 0) hX dX6_passAll_78 rfl ?_
      refine gz_iadd hX dX6_passAll_80 ?_
      refine tc_V (As := [.int x9, .int ((999 - r4) + x14)]) hX (c_lesser rfl) (lw_lesser_ q1932) rfl rfl nn_lesser ⟨Nat.le_of_ble_eq_true rfl, Nat.le_of_ble_eq_true rfl⟩ rfl rfl (Nat.le_of_ble_eq_true rfl) dX6_passAll_81 rfl ?_
      obtain ⟨b16, h⟩ := gz_gd_o h
      obtain ⟨V17, e18, h⟩ := gz_let_o h
      refine gz_iast (L := 5) hX tw_S45 (by decide) (gz_inb_o b16) dX6_passAll_84 e18 ?_
      refine gz_aload_n (q := 4) hX dX6_passAll_85 rfl rfl ?_
      refine tg_wentBack hX dX6_passAll_86 ?_
      refine gz_iload (q := 8) hX dX6_passAll_89 rfl ?_
      refine gz_aload_n (q := 4) hX dX6_passAll_91 rfl rfl ?_
      refine gz_iload (q := 0) hX dX6_passAll_92 rfl ?_
      refine gz_sipush (v := 999) hX dX6_passAll_94 gk_s_999 ?_
      refine gz_iload (q := 3) hX dX6_passAll_97 rfl ?_
      refine gz_isub hX dX6_passAll_99 ?_
      refine gz_iload (q := 1) hX dX6_passAll_100 rfl ?_
      refine gz_iadd hX dX6_passAll_102 ?_
      refine tc_V (As := [.int x14, .int ((999 - r2) + x9)]) hX (c_lesser rfl) (lw_lesser_ q1932) rfl rfl nn_lesser ⟨Nat.le_of_ble_eq_true rfl, Nat.le_of_ble_eq_true rfl⟩ rfl rfl (Nat.le_of_ble_eq_true rfl) dX6_passAll_103 rfl ?_
      obtain ⟨b19, h⟩ := gz_gd_o h
      obtain ⟨V20, e21, h⟩ := gz_let_o h
      refine gz_iast (L := 5) hX tw_S46 (by decide) (gz_inb_o b19) dX6_passAll_106 e21 ?_
      refine gz_aload_n (q := 4) hX dX6_passAll_107 rfl rfl ?_
      refine gz_iload_n (q := 5) hX dX6_passAll_108 rfl rfl ?_
      refine gz_iload (q := 8) hX dX6_passAll_109 rfl ?_
      refine gz_iload (q := 3) hX dX6_passAll_111 rfl ?_
      refine gz_aload_n (q := 4) hX dX6_passAll_113 rfl rfl ?_
      refine tg_wentOver hX dX6_passAll_114 ?_
      refine gz_iload (q := 8) hX dX6_passAll_117 rfl ?_
      obtain ⟨b22, h⟩ := gz_gd_o h
      refine gz_iald (L := 5) hX tw_S45 (gz_inb_o b22) dX6_passAll_119 ?_
      refine gz_isub hX dX6_passAll_120 ?_
      refine gz_aload_n (q := 4) hX dX6_passAll_121 rfl rfl ?_
      refine tg_wentBack hX dX6_passAll_122 ?_
      refine gz_iload (q := 8) hX dX6_passAll_125 rfl ?_
      obtain ⟨b23, h⟩ := gz_gd_o h
      refine gz_iald (L := 5) hX tw_S46 (gz_inb_o b23) dX6_passAll_127 ?_
      refine gz_iadd hX dX6_passAll_128 ?_
      obtain ⟨V25, e24, h⟩ := gz_bd_o h
      refine tc_V (As := [.int v1, .int v4, .int ((r2 - (V20 (2, 45, 0) v4.toNatClampNeg)) + (V20 (2, 46, 0) v4.toNatClampNeg))]) hX (c_hasTrait e24) (lw_hasTrait_ q1696) rfl rfl nn_hasTrait ⟨Nat.le_of_ble_eq_true rfl, Nat.le_of_ble_eq_true rfl⟩ rfl rfl (Nat.le_of_ble_eq_true rfl) dX6_passAll_129 rfl ?_
      refine gz_aload_n (q := 4) hX dX6_passAll_132 rfl rfl ?_
      refine gz_iload_n (q := 6) hX dX6_passAll_133 rfl rfl ?_
      refine gz_iload (q := 8) hX dX6_passAll_134 rfl ?_
      refine gz_iload (q := 2) hX dX6_passAll_136 rfl ?_
      refine gz_aload_n (q := 4) hX dX6_passAll_138 rfl rfl ?_
      refine tg_wentBack hX dX6_passAll_139 ?_
      refine gz_iload (q := 8) hX dX6_passAll_142 rfl ?_
      obtain ⟨b26, h⟩ := gz_gd_o h
      refine gz_iald (L := 5) hX tw_S46 (gz_inb_o b26) dX6_passAll_144 ?_
      refine gz_isub hX dX6_passAll_145 ?_
      refine gz_aload_n (q := 4) hX dX6_passAll_146 rfl rfl ?_
      refine tg_wentOver hX dX6_passAll_147 ?_
      refine gz_iload (q := 8) hX dX6_passAll_150 rfl ?_
      obtain ⟨b27, h⟩ := gz_gd_o h
      refine gz_iald (L := 5) hX tw_S45 (gz_inb_o b27) dX6_passAll_152 ?_
      refine gz_iadd hX dX6_passAll_153 ?_
      obtain ⟨V29, e28, h⟩ := gz_bd_o h
      refine tc_V (As := [.int v2, .int v4, .int ((r4 - (V25 (2, 46, 0) v4.toNatClampNeg)) + (V25 (2, 45, 0) v4.toNatClampNeg))]) hX (c_hasTrait e28) (lw_hasTrait_ q1696) rfl rfl nn_hasTrait ⟨Nat.le_of_ble_eq_true rfl, Nat.le_of_ble_eq_true rfl⟩ rfl rfl (Nat.le_of_ble_eq_true rfl) dX6_passAll_154 rfl ?_
      refine gz_iload_n (q := 7) hX dX6_passAll_157 rfl rfl ?_
      refine gz_aload_n (q := 4) hX dX6_passAll_158 rfl rfl ?_
      refine tg_wentOver hX dX6_passAll_159 ?_
      refine gz_iload (q := 8) hX dX6_passAll_162 rfl ?_
      obtain ⟨b30, h⟩ := gz_gd_o h
      refine gz_iald (L := 5) hX tw_S45 (gz_inb_o b30) dX6_passAll_164 ?_
      refine gz_iadd hX dX6_passAll_165 ?_
      refine gz_aload_n (q := 4) hX dX6_passAll_166 rfl rfl ?_
      refine tg_wentBack hX dX6_passAll_167 ?_
      refine gz_iload (q := 8) hX dX6_passAll_170 rfl ?_
      obtain ⟨b31, h⟩ := gz_gd_o h
      refine gz_iald (L := 5) hX tw_S46 (gz_inb_o b31) dX6_passAll_172 ?_
      refine gz_iadd hX dX6_passAll_173 ?_
      obtain ⟨x32, e33, h⟩ := gz_let_o h
      refine gz_nm e33 ?_
      refine gz_istore_n (lv2 := [(3, .int x32), (8, .int x14), (7, .int x9), (6, .int r4), (5, .int r2), (0, .ref (ad (1, 0, 0))), (1, .int v1), (2, .int v2), (4, .int v4)]) hX dX6_passAll_174 rfl (by decide) rfl ?_
      refine gz_iinc (q := 8) (lv2 := [(4, .int (v4 + 1)), (3, .int x32), (8, .int x14), (7, .int x9), (6, .int r4), (5, .int r2), (0, .ref (ad (1, 0, 0))), (1, .int v1), (2, .int v2)]) hX dX6_passAll_175 rfl gk_c_1 (by decide) rfl ?_
      refine gz_goto (tgt := 5) hX dX6_passAll_178 (by decide) ?_
      exact gz_lv [6, 7, 8, 1, 0] rfl (ih h)
noncomputable def m_passAll (N : Nat) (V : gz_V) (a1 : Int32) (a2 : Int32) : Option (gz_V × Int32) := gz_b2 (m_passAll_L5 N a1 a2 N V 0 0) (fun V1 x2 => gz_let (gz_up V1 (2, 1, 0) (3 : Int32).toNatClampNeg ((V1 (2, 1, 0) (3 : Int32).toNatClampNeg) + x2)) (fun V4 => gz_bd (if x2 ≤ 0 then some V4 else gz_bd (m_notes V4 2 a1 x2) (fun V11 => some V11)) (fun V6 => some (V6, x2))))
theorem c_passAll {l : Launch} {D : va_G} {aC : Nat → ClassId} {ad : gz_A0} {N : Nat} {V : gz_V} {a1 : Int32} {a2 : Int32} {W1 : gz_V} {r : Int32} (h : m_passAll N V a1 a2 = some (W1, r)) : gz_Met l yX6_passAll cX6_passAll 9 (some .int) rm_passAll D aC ad tw_S V tw_R [.ref (ad (1, 0, 0)), .int a1, .int a2] (gz_F1 tw_S tw_R ad W1 (some (.int r))) 0 0 := by
  refine gt_ofW (own := RX6) (mn := "passAll") (lv := [(0, .ref (ad (1, 0, 0))), (1, .int a1), (2, .int a2)]) (by decide) rfl rfl (Nat.le_of_ble_eq_true rfl) rfl ?_
  intro X hX hZ hF
  rw [m_passAll] at h
  refine gz_iconst (v := 0) hX dX6_passAll_0 gk_c_0 ?_
  refine gz_istore_n (lv2 := [(3, .int 0), (0, .ref (ad (1, 0, 0))), (1, .int a1), (2, .int a2)]) hX dX6_passAll_1 rfl (by decide) rfl ?_
  refine gz_iconst (v := 0) hX dX6_passAll_2 gk_c_0 ?_
  refine gz_istore (lv2 := [(4, .int 0), (3, .int 0), (0, .ref (ad (1, 0, 0))), (1, .int a1), (2, .int a2)]) hX dX6_passAll_3 (by decide) rfl ?_
  obtain ⟨V1, x2, e3, h⟩ := gz_b2_o h
  refine gz_lv [2, 3, 4, 1, 0] rfl (w_m_passAll_L5 hX hZ ?_ N e3)
  refine gz_aload_n (q := 0) hX dX6_passAll_181 rfl rfl ?_
  refine tg_now hX dX6_passAll_182 ?_
  refine gz_iconst (v := 3) hX dX6_passAll_185 gk_c_3 ?_
  refine gz_aload_n (q := 0) hX dX6_passAll_186 rfl rfl ?_
  refine tg_now hX dX6_passAll_187 ?_
  refine gz_iconst (v := 3) hX dX6_passAll_190 gk_c_3 ?_
  refine gz_iald (L := 121) hX tw_S1 (gz_inb_o (by decide)) dX6_passAll_191 ?_
  refine gz_iload_n (q := 2) hX dX6_passAll_192 rfl rfl ?_
  refine gz_iadd hX dX6_passAll_193 ?_
  obtain ⟨V4, e5, h⟩ := gz_let_o h
  refine gz_iast (L := 121) hX tw_S1 (by decide) (gz_inb_o (by decide)) dX6_passAll_194 e5 ?_
  refine gz_iload_n (q := 2) hX dX6_passAll_195 rfl rfl ?_
  obtain ⟨V6, g7, h⟩ := gz_bd_o h
  have J8 : gW X 9 tw_S tw_R ad V6 0 0 206 [(3, .int x2)] [] := by
    refine gz_iload_n (q := 0) hX dX6_passAll_206 rfl rfl ?_
    obtain ⟨e1, e2⟩ := gz_in2 h
    exact gt_iret hX hZ hF e1 e2 dX6_passAll_207
  refine gz_if_le (tgt := 206) hX dX6_passAll_196 (by decide) (fun c9 => ?_) (fun c9 => ?_)
  · have g7 := gz_ifp c9 g7
    obtain rfl := gz_in1 g7
    exact gz_lv [2] rfl J8
  · have g7 := gz_ifn c9 g7
    refine gz_aload_n (q := 0) hX dX6_passAll_199 rfl rfl ?_
    refine gz_iconst (v := 2) hX dX6_passAll_200 gk_c_2 ?_
    refine gz_iload_n (q := 1) hX dX6_passAll_201 rfl rfl ?_
    refine gz_iload_n (q := 2) hX dX6_passAll_202 rfl rfl ?_
    obtain ⟨V11, e10, g7⟩ := gz_bd_o g7
    refine tc_V (As := [.int 2, .int a1, .int x2]) hX (c_notes e10) (lw_notes_ q1936) rfl rfl nn_notes ⟨Nat.le_of_ble_eq_true rfl, Nat.le_of_ble_eq_true rfl⟩ rfl rfl (Nat.le_of_ble_eq_true rfl) dX6_passAll_203 rfl ?_
    obtain rfl := gz_in1 g7
    exact gz_lv [2] rfl J8
theorem lw_passAll_ {i : Nat} (hl : Cond.methodLink RX6 i yX6_passAll ∈ lw_all) : GoodIn lw_all (wsV RX6 i RX6 yX6_passAll (ws_ yX6_passAll cX6_passAll 9 (some .int))) := lw_V hl q1950 qs110 q153 q1951
theorem nn_passAll : yX6_passAll.cls = RX6 ∧ yX6_passAll.cls ≠ "java/lang/invoke/MethodHandle" ∧ yX6_passAll.cls ≠ "java/lang/invoke/VarHandle" ∧ (parseMethodDescriptor yX6_passAll.desc).map (fun d => d.parameters.length) = some 2 := by decide +kernel
theorem gk_b_100 : (Int8.ofInt 100).toInt32 = 100 := by decide
def rm_holdsOf : Room := { frames := 4, cells := 0, slots := 0, locals := 94 }
noncomputable def m_holdsOf (N : Nat) (V : gz_V) (a1 : Int32) (a2 : Int32) : Option (gz_V × Int32) := gz_bd (m_looks V a1 a2 0 1) (fun V2 => gz_gd (gz_inb (89 + a1) 121 = true) (gz_b2 (m_lawTells N V2 1 (100 - (10 * (V2 (2, 1, 0) (89 + a1).toNatClampNeg))) 1000) (fun V6 r4 => some (V6, r4))))
theorem c_holdsOf {l : Launch} {D : va_G} {aC : Nat → ClassId} {ad : gz_A0} {N : Nat} {V : gz_V} {a1 : Int32} {a2 : Int32} {W1 : gz_V} {r : Int32} (h : m_holdsOf N V a1 a2 = some (W1, r)) : gz_Met l yX6_holdsOf cX6_holdsOf 3 (some .int) rm_holdsOf D aC ad tw_S V tw_R [.ref (ad (1, 0, 0)), .int a1, .int a2] (gz_F1 tw_S tw_R ad W1 (some (.int r))) 0 0 := by
  refine gt_ofW (own := RX6) (mn := "holdsOf") (lv := [(0, .ref (ad (1, 0, 0))), (1, .int a1), (2, .int a2)]) (by decide) rfl rfl (Nat.le_of_ble_eq_true rfl) rfl ?_
  intro X hX hZ hF
  rw [m_holdsOf] at h
  refine gz_aload_n (q := 0) hX dX6_holdsOf_0 rfl rfl ?_
  refine gz_iload_n (q := 1) hX dX6_holdsOf_1 rfl rfl ?_
  refine gz_iload_n (q := 2) hX dX6_holdsOf_2 rfl rfl ?_
  refine gz_iconst (v := 0) hX dX6_holdsOf_3 gk_c_0 ?_
  refine gz_iconst (v := 1) hX dX6_holdsOf_4 gk_c_1 ?_
  obtain ⟨V2, e1, h⟩ := gz_bd_o h
  refine tc_V (As := [.int a1, .int a2, .int 0, .int 1]) hX (c_looks e1) (lw_looks_ q1892) rfl rfl nn_looks ⟨Nat.le_of_ble_eq_true rfl, Nat.le_of_ble_eq_true rfl⟩ rfl rfl (Nat.le_of_ble_eq_true rfl) dX6_holdsOf_5 rfl ?_
  refine gz_aload_n (q := 0) hX dX6_holdsOf_8 rfl rfl ?_
  refine gz_iconst (v := 1) hX dX6_holdsOf_9 gk_c_1 ?_
  refine gz_bipush (v := 100) hX dX6_holdsOf_10 gk_b_100 ?_
  refine gz_bipush (v := 10) hX dX6_holdsOf_12 gk_b_10 ?_
  refine gz_aload_n (q := 0) hX dX6_holdsOf_14 rfl rfl ?_
  refine tg_now hX dX6_holdsOf_15 ?_
  refine gz_bipush (v := 89) hX dX6_holdsOf_18 gk_b_89 ?_
  refine gz_iload_n (q := 1) hX dX6_holdsOf_20 rfl rfl ?_
  refine gz_iadd hX dX6_holdsOf_21 ?_
  obtain ⟨b3, h⟩ := gz_gd_o h
  refine gz_iald (L := 121) hX tw_S1 (gz_inb_o b3) dX6_holdsOf_22 ?_
  refine gz_imul hX dX6_holdsOf_23 ?_
  refine gz_isub hX dX6_holdsOf_24 ?_
  refine gz_sipush (v := 1000) hX dX6_holdsOf_25 gk_s_1000 ?_
  obtain ⟨V6, r4, e5, h⟩ := gz_b2_o h
  refine tc_V (As := [.int 1, .int (100 - (10 * (V2 (2, 1, 0) (89 + a1).toNatClampNeg))), .int 1000]) hX (c_lawTells e5) (lw_lawTells_ q1904) rfl rfl nn_lawTells ⟨Nat.le_of_ble_eq_true rfl, Nat.le_of_ble_eq_true rfl⟩ rfl rfl (Nat.le_of_ble_eq_true rfl) dX6_holdsOf_28 rfl ?_
  obtain ⟨e1, e2⟩ := gz_in2 h
  exact gt_iret hX hZ hF e1 e2 dX6_holdsOf_31
theorem lw_holdsOf_ {i : Nat} (hl : Cond.methodLink RX6 i yX6_holdsOf ∈ lw_all) : GoodIn lw_all (wsV RX6 i RX6 yX6_holdsOf (ws_ yX6_holdsOf cX6_holdsOf 3 (some .int))) := lw_V hl q1962 qs113 q153 q1963
theorem nn_holdsOf : yX6_holdsOf.cls = RX6 ∧ yX6_holdsOf.cls ≠ "java/lang/invoke/MethodHandle" ∧ yX6_holdsOf.cls ≠ "java/lang/invoke/VarHandle" ∧ (parseMethodDescriptor yX6_holdsOf.desc).map (fun d => d.parameters.length) = some 2 := by decide +kernel
def rm_draw : Room := { frames := 0, cells := 0, slots := 0, locals := 0 }
noncomputable def m_draw (V : gz_V) (a1 : Int32) : Option (gz_V × Int32) := gz_let (gz_up V (2, 1, 0) (1 : Int32).toNatClampNeg ((1664525 * (V (2, 1, 0) (1 : Int32).toNatClampNeg)) + 1013904223)) (fun V1 => gz_gd (¬ a1 = 0) (some (V1, (((V1 (2, 1, 0) (1 : Int32).toNatClampNeg).toUInt32 >>> ((8 : Int32).toUInt32 &&& Int32.toUInt32 31)).toInt32 - ((V1 (2, 1, 0) (1 : Int32).toNatClampNeg).toUInt32 >>> ((8 : Int32).toUInt32 &&& Int32.toUInt32 31)).toInt32 / a1 * a1))))
theorem c_draw {l : Launch} {D : va_G} {aC : Nat → ClassId} {ad : gz_A0} {V : gz_V} {a1 : Int32} {W1 : gz_V} {r : Int32} (h : m_draw V a1 = some (W1, r)) : gz_Met l yX6_draw cX6_draw 2 (some .int) rm_draw D aC ad tw_S V tw_R [.ref (ad (1, 0, 0)), .int a1] (gz_F1 tw_S tw_R ad W1 (some (.int r))) 0 0 := by
  refine gt_ofW (own := RX6) (mn := "draw") (lv := [(0, .ref (ad (1, 0, 0))), (1, .int a1)]) (by decide) rfl rfl (Nat.le_of_ble_eq_true rfl) rfl ?_
  intro X hX hZ hF
  rw [m_draw] at h
  refine gz_aload_n (q := 0) hX dX6_draw_0 rfl rfl ?_
  refine tg_now hX dX6_draw_1 ?_
  refine gz_iconst (v := 1) hX dX6_draw_4 gk_c_1 ?_
  refine gz_ldc (v := 1664525) hX q1968 dX6_draw_5 ?_
  refine gz_aload_n (q := 0) hX dX6_draw_7 rfl rfl ?_
  refine tg_now hX dX6_draw_8 ?_
  refine gz_iconst (v := 1) hX dX6_draw_11 gk_c_1 ?_
  refine gz_iald (L := 121) hX tw_S1 (gz_inb_o (by decide)) dX6_draw_12 ?_
  refine gz_imul hX dX6_draw_13 ?_
  refine gz_ldc (v := 1013904223) hX q1969 dX6_draw_14 ?_
  refine gz_iadd hX dX6_draw_16 ?_
  obtain ⟨V1, e2, h⟩ := gz_let_o h
  refine gz_iast (L := 121) hX tw_S1 (by decide) (gz_inb_o (by decide)) dX6_draw_17 e2 ?_
  refine gz_aload_n (q := 0) hX dX6_draw_18 rfl rfl ?_
  refine tg_now hX dX6_draw_19 ?_
  refine gz_iconst (v := 1) hX dX6_draw_22 gk_c_1 ?_
  refine gz_iald (L := 121) hX tw_S1 (gz_inb_o (by decide)) dX6_draw_23 ?_
  refine gz_bipush (v := 8) hX dX6_draw_24 gk_b_8 ?_
  refine gz_iushr hX dX6_draw_26 ?_
  refine gz_iload_n (q := 1) hX dX6_draw_27 rfl rfl ?_
  obtain ⟨b3, h⟩ := gz_gd_o h
  refine gz_irem hX dX6_draw_28 b3 ?_
  obtain ⟨e1, e2⟩ := gz_in2 h
  exact gt_iret hX hZ hF e1 e2 dX6_draw_29
theorem lw_draw_ {i : Nat} (hl : Cond.methodLink RX6 i yX6_draw ∈ lw_all) : GoodIn lw_all (wsV RX6 i RX6 yX6_draw (ws_ yX6_draw cX6_draw 2 (some .int))) := lw_V hl q1966 qs114 q153 q1967
theorem nn_draw : yX6_draw.cls = RX6 ∧ yX6_draw.cls ≠ "java/lang/invoke/MethodHandle" ∧ yX6_draw.cls ≠ "java/lang/invoke/VarHandle" ∧ (parseMethodDescriptor yX6_draw.desc).map (fun d => d.parameters.length) = some 1 := by decide +kernel
def rm_doesHold : Room := { frames := 5, cells := 0, slots := 0, locals := 116 }
noncomputable def m_doesHold (N : Nat) (V : gz_V) (a1 : Int32) (a2 : Int32) : Option (gz_V × Int32) := gz_b2 (m_holdsOf N V a2 a1) (fun V3 r1 => (if (V3 (1, 0, 0) 5) = 0 then (if r1 ≤ 0 then some (V3, 0) else gz_b2 (m_draw V3 1000) (fun V8 r6 => (if r1 ≤ r6 then some (V8, 0) else some (V8, 1)))) else (if (2 * r1) < 1000 then some (V3, 0) else some (V3, 1))))
theorem c_doesHold {l : Launch} {D : va_G} {aC : Nat → ClassId} {ad : gz_A0} {N : Nat} {V : gz_V} {a1 : Int32} {a2 : Int32} {W1 : gz_V} {r : Int32} (h : m_doesHold N V a1 a2 = some (W1, r)) : gz_Met l yX6_doesHold cX6_doesHold 4 (some .boolean) rm_doesHold D aC ad tw_S V tw_R [.ref (ad (1, 0, 0)), .int a1, .int a2] (gz_F1 tw_S tw_R ad W1 (some (.int r))) 0 0 := by
  refine gt_ofW (own := RX6) (mn := "doesHold") (lv := [(0, .ref (ad (1, 0, 0))), (1, .int a1), (2, .int a2)]) (by decide) rfl rfl (Nat.le_of_ble_eq_true rfl) rfl ?_
  intro X hX hZ hF
  rw [m_doesHold] at h
  refine gz_aload_n (q := 0) hX dX6_doesHold_0 rfl rfl ?_
  refine gz_iload_n (q := 2) hX dX6_doesHold_1 rfl rfl ?_
  refine gz_iload_n (q := 1) hX dX6_doesHold_2 rfl rfl ?_
  obtain ⟨V3, r1, e2, h⟩ := gz_b2_o h
  refine tc_V (As := [.int a2, .int a1]) hX (c_holdsOf e2) (lw_holdsOf_ q1960) rfl rfl nn_holdsOf ⟨Nat.le_of_ble_eq_true rfl, Nat.le_of_ble_eq_true rfl⟩ rfl rfl (Nat.le_of_ble_eq_true rfl) dX6_doesHold_3 rfl ?_
  refine gz_istore_n (lv2 := [(3, .int r1), (0, .ref (ad (1, 0, 0))), (1, .int a1), (2, .int a2)]) hX dX6_doesHold_6 rfl (by decide) rfl ?_
  refine gz_aload_n (q := 1) hX dX6_doesHold_7 rfl rfl ?_
  refine tg_isThought hX dX6_doesHold_8 ?_
  refine gz_if_eq (tgt := 31) hX dX6_doesHold_11 (by decide) (fun c4 => ?_) (fun c4 => ?_)
  · have h := gz_ifp c4 h
    refine gz_iload_n (q := 0) hX dX6_doesHold_31 rfl rfl ?_
    refine gz_if_le (tgt := 50) hX dX6_doesHold_32 (by decide) (fun c5 => ?_) (fun c5 => ?_)
    · have h := gz_ifp c5 h
      refine gz_iconst (v := 0) hX dX6_doesHold_50 gk_c_0 ?_
      obtain ⟨e1, e2⟩ := gz_in2 h
      exact gt_zret hX hZ rfl hF e1 e2 dX6_doesHold_51
    · have h := gz_ifn c5 h
      refine gz_aload_n (q := 1) hX dX6_doesHold_35 rfl rfl ?_
      refine gz_sipush (v := 1000) hX dX6_doesHold_36 gk_s_1000 ?_
      obtain ⟨V8, r6, e7, h⟩ := gz_b2_o h
      refine tc_V (As := [.int 1000]) hX (c_draw e7) (lw_draw_ q1964) rfl rfl nn_draw ⟨Nat.le_of_ble_eq_true rfl, Nat.le_of_ble_eq_true rfl⟩ rfl rfl (Nat.le_of_ble_eq_true rfl) dX6_doesHold_39 rfl ?_
      refine gz_iload_n (q := 0) hX dX6_doesHold_42 rfl rfl ?_
      refine gz_icmp_ge (tgt := 50) hX dX6_doesHold_43 (by decide) (fun c9 => ?_) (fun c9 => ?_)
      · have h := gz_ifp c9 h
        refine gz_iconst (v := 0) hX dX6_doesHold_50 gk_c_0 ?_
        obtain ⟨e1, e2⟩ := gz_in2 h
        exact gt_zret hX hZ rfl hF e1 e2 dX6_doesHold_51
      · have h := gz_ifn c9 h
        refine gz_iconst (v := 1) hX dX6_doesHold_46 gk_c_1 ?_
        refine gz_goto (tgt := 51) hX dX6_doesHold_47 (by decide) ?_
        obtain ⟨e1, e2⟩ := gz_in2 h
        exact gt_zret hX hZ rfl hF e1 e2 dX6_doesHold_51
  · have h := gz_ifn c4 h
    refine gz_iconst (v := 2) hX dX6_doesHold_14 gk_c_2 ?_
    refine gz_iload_n (q := 0) hX dX6_doesHold_15 rfl rfl ?_
    refine gz_imul hX dX6_doesHold_16 ?_
    refine gz_sipush (v := 1000) hX dX6_doesHold_17 gk_s_1000 ?_
    refine gz_icmp_lt (tgt := 27) hX dX6_doesHold_20 (by decide) (fun c10 => ?_) (fun c10 => ?_)
    · have h := gz_ifp c10 h
      refine gz_iconst (v := 0) hX dX6_doesHold_27 gk_c_0 ?_
      refine gz_goto (tgt := 51) hX dX6_doesHold_28 (by decide) ?_
      obtain ⟨e1, e2⟩ := gz_in2 h
      exact gt_zret hX hZ rfl hF e1 e2 dX6_doesHold_51
    · have h := gz_ifn c10 h
      refine gz_iconst (v := 1) hX dX6_doesHold_23 gk_c_1 ?_
      refine gz_goto (tgt := 51) hX dX6_doesHold_24 (by decide) ?_
      obtain ⟨e1, e2⟩ := gz_in2 h
      exact gt_zret hX hZ rfl hF e1 e2 dX6_doesHold_51
theorem lw_doesHold_ {i : Nat} (hl : Cond.methodLink RX6 i yX6_doesHold ∈ lw_all) : GoodIn lw_all (wsV RX6 i RX6 yX6_doesHold (ws_ yX6_doesHold cX6_doesHold 4 (some .boolean))) := lw_V hl q1958 qs112 q153 q1959
theorem nn_doesHold : yX6_doesHold.cls = RX6 ∧ yX6_doesHold.cls ≠ "java/lang/invoke/MethodHandle" ∧ yX6_doesHold.cls ≠ "java/lang/invoke/VarHandle" ∧ (parseMethodDescriptor yX6_doesHold.desc).map (fun d => d.parameters.length) = some 2 := by decide +kernel
def rm_putBack : Room := { frames := 2, cells := 0, slots := 0, locals := 46 }
noncomputable def m_putBack_L3 (N : Nat) (v1 : Int32) (v2 : Int32) (v3 : Int32) : Nat → gz_V → Int32 → Option (gz_V)
  | 0, _, _ => none
  | n + 1, V, v4 => (if 5 ≤ v4 then some V else gz_bd (m_traitOf V v1 v4) (fun r2 => gz_gd (gz_inb v4 5 = true) (gz_gd (gz_inb v4 5 = true) (gz_bd (m_hasTrait V v1 v4 ((r2 + (V (2, 45, 0) v4.toNatClampNeg)) - (V (2, 46, 0) v4.toNatClampNeg))) (fun V7 => gz_bd (m_traitOf V7 v2 v4) (fun r8 => gz_gd (gz_inb v4 5 = true) (gz_gd (gz_inb v4 5 = true) (gz_bd (m_hasTrait V7 v2 v4 ((r8 + (V7 (2, 46, 0) v4.toNatClampNeg)) - (V7 (2, 45, 0) v4.toNatClampNeg))) (fun V13 => m_putBack_L3 N v1 v2 v3 n V13 (v4 + 1))))))))))
theorem w_m_putBack_L3 {X : gz_X} {ad : gz_A0} (hX : gz_ok X cX6_putBack RX6 "putBack" 5 rm_putBack none) (hZ : gz_Z X) {N : Nat} {v1 : Int32} {v2 : Int32} {v3 : Int32} {W1 : gz_V} (k : gW X 5 tw_S tw_R ad W1 0 0 75 [(0, .ref (ad (1, 0, 0))), (3, .int v3)] []) : ∀ (n : Nat) {V : gz_V} {v4 : Int32}, m_putBack_L3 N v1 v2 v3 n V v4 = some W1 → gW X 5 tw_S tw_R ad V 0 0 3 [(0, .ref (ad (1, 0, 0))), (1, .int v1), (2, .int v2), (3, .int v3), (4, .int v4)] [] := by
  intro n
  induction n with
  | zero => intro V v4 h; rw [m_putBack_L3] at h; cases h
  | succ n ih =>
    intro V v4 h
    rw [m_putBack_L3] at h
    refine gz_iload (q := 4) hX dX6_putBack_3 rfl ?_
    refine gz_iconst (v := 5) hX dX6_putBack_5 gk_c_5 ?_
    refine gz_icmp_ge (tgt := 75) hX dX6_putBack_6 (by decide) (fun c1 => ?_) (fun c1 => ?_)
    · have h := gz_ifp c1 h
      obtain rfl := gz_in1 h
      exact gz_lv [0, 3] rfl k
    · have h := gz_ifn c1 h
      refine gz_aload_n (q := 0) hX dX6_putBack_9 rfl rfl ?_
      refine gz_iload_n (q := 1) hX dX6_putBack_10 rfl rfl ?_
      refine gz_iload (q := 4) hX dX6_putBack_11 rfl ?_
      refine gz_aload_n (q := 0) hX dX6_putBack_13 rfl rfl ?_
      refine gz_iload_n (q := 1) hX dX6_putBack_14 rfl rfl ?_
      refine gz_iload (q := 4) hX dX6_putBack_15 rfl ?_
      obtain ⟨r2, e3, h⟩ := gz_bd_o h
      refine tc_V (As := [.int v1, .int v4]) hX (c_traitOf e3) (lw_traitOf_ q1896) rfl rfl nn_traitOf ⟨Nat.le_of_ble_eq_true rfl, Nat.le_of_ble_eq_true rfl⟩ rfl rfl (Nat.le_of_ble_eq_true rfl) dX6_putBack_17 rfl ?_
      refine gz_aload_n (q := 0) hX dX6_putBack_20 rfl rfl ?_
      refine tg_wentOver hX dX6_putBack_21 ?_
      refine gz_iload (q := 4) hX dX6_putBack_24 rfl ?_
      obtain ⟨b4, h⟩ := gz_gd_o h
      refine gz_iald (L := 5) hX tw_S45 (gz_inb_o b4) dX6_putBack_26 ?_
      refine gz_iadd hX dX6_putBack_27 ?_
      refine gz_aload_n (q := 0) hX dX6_putBack_28 rfl rfl ?_
      refine tg_wentBack hX dX6_putBack_29 ?_
      refine gz_iload (q := 4) hX dX6_putBack_32 rfl ?_
      obtain ⟨b5, h⟩ := gz_gd_o h
      refine gz_iald (L := 5) hX tw_S46 (gz_inb_o b5) dX6_putBack_34 ?_
      refine gz_isub hX dX6_putBack_35 ?_
      obtain ⟨V7, e6, h⟩ := gz_bd_o h
      refine tc_V (As := [.int v1, .int v4, .int ((r2 + (V (2, 45, 0) v4.toNatClampNeg)) - (V (2, 46, 0) v4.toNatClampNeg))]) hX (c_hasTrait e6) (lw_hasTrait_ q1696) rfl rfl nn_hasTrait ⟨Nat.le_of_ble_eq_true rfl, Nat.le_of_ble_eq_true rfl⟩ rfl rfl (Nat.le_of_ble_eq_true rfl) dX6_putBack_36 rfl ?_
      refine gz_aload_n (q := 0) hX dX6_putBack_39 rfl rfl ?_
      refine gz_iload_n (q := 2) hX dX6_putBack_40 rfl rfl ?_
      refine gz_iload (q := 4) hX dX6_putBack_41 rfl ?_
      refine gz_aload_n (q := 0) hX dX6_putBack_43 rfl rfl ?_
      refine gz_iload_n (q := 2) hX dX6_putBack_44 rfl rfl ?_
      refine gz_iload (q := 4) hX dX6_putBack_45 rfl ?_
      obtain ⟨r8, e9, h⟩ := gz_bd_o h
      refine tc_V (As := [.int v2, .int v4]) hX (c_traitOf e9) (lw_traitOf_ q1896) rfl rfl nn_traitOf ⟨Nat.le_of_ble_eq_true rfl, Nat.le_of_ble_eq_true rfl⟩ rfl rfl (Nat.le_of_ble_eq_true rfl) dX6_putBack_47 rfl ?_
      refine gz_aload_n (q := 0) hX dX6_putBack_50 rfl rfl ?_
      refine tg_wentBack hX dX6_putBack_51 ?_
      refine gz_iload (q := 4) hX dX6_putBack_54 rfl ?_
      obtain ⟨b10, h⟩ := gz_gd_o h
      refine gz_iald (L := 5) hX tw_S46 (gz_inb_o b10) dX6_putBack_56 ?_
      refine gz_iadd hX dX6_putBack_57 ?_
      refine gz_aload_n (q := 0) hX dX6_putBack_58 rfl rfl ?_
      refine tg_wentOver hX dX6_putBack_59 ?_
      refine gz_iload (q := 4) hX dX6_putBack_62 rfl ?_
      obtain ⟨b11, h⟩ := gz_gd_o h
      refine gz_iald (L := 5) hX tw_S45 (gz_inb_o b11) dX6_putBack_64 ?_
      refine gz_isub hX dX6_putBack_65 ?_
      obtain ⟨V13, e12, h⟩ := gz_bd_o h
      refine tc_V (As := [.int v2, .int v4, .int ((r8 + (V7 (2, 46, 0) v4.toNatClampNeg)) - (V7 (2, 45, 0) v4.toNatClampNeg))]) hX (c_hasTrait e12) (lw_hasTrait_ q1696) rfl rfl nn_hasTrait ⟨Nat.le_of_ble_eq_true rfl, Nat.le_of_ble_eq_true rfl⟩ rfl rfl (Nat.le_of_ble_eq_true rfl) dX6_putBack_66 rfl ?_
      refine gz_iinc (q := 4) (lv2 := [(4, .int (v4 + 1)), (0, .ref (ad (1, 0, 0))), (1, .int v1), (2, .int v2), (3, .int v3)]) hX dX6_putBack_69 rfl gk_c_1 (by decide) rfl ?_
      refine gz_goto (tgt := 3) hX dX6_putBack_72 (by decide) ?_
      exact gz_lv [1, 2, 3, 4, 0] rfl (ih h)
noncomputable def m_putBack (N : Nat) (V : gz_V) (a1 : Int32) (a2 : Int32) (a3 : Int32) : Option gz_V := gz_bd (m_putBack_L3 N a1 a2 a3 N V 0) (fun V1 => gz_let (gz_up V1 (2, 1, 0) (3 : Int32).toNatClampNeg ((V1 (2, 1, 0) (3 : Int32).toNatClampNeg) - a3)) (fun V3 => some V3))
theorem c_putBack {l : Launch} {D : va_G} {aC : Nat → ClassId} {ad : gz_A0} {N : Nat} {V : gz_V} {a1 : Int32} {a2 : Int32} {a3 : Int32} {W1 : gz_V} (h : m_putBack N V a1 a2 a3 = some W1) : gz_Met l yX6_putBack cX6_putBack 5 none rm_putBack D aC ad tw_S V tw_R [.ref (ad (1, 0, 0)), .int a1, .int a2, .int a3] (gz_F1 tw_S tw_R ad W1 none) 0 0 := by
  refine gt_ofW (own := RX6) (mn := "putBack") (lv := [(0, .ref (ad (1, 0, 0))), (1, .int a1), (2, .int a2), (3, .int a3)]) (by decide) rfl rfl (Nat.le_of_ble_eq_true rfl) rfl ?_
  intro X hX hZ hF
  rw [m_putBack] at h
  refine gz_iconst (v := 0) hX dX6_putBack_0 gk_c_0 ?_
  refine gz_istore (lv2 := [(4, .int 0), (0, .ref (ad (1, 0, 0))), (1, .int a1), (2, .int a2), (3, .int a3)]) hX dX6_putBack_1 (by decide) rfl ?_
  obtain ⟨V1, e2, h⟩ := gz_bd_o h
  refine gz_lv [1, 2, 3, 4, 0] rfl (w_m_putBack_L3 hX hZ ?_ N e2)
  refine gz_aload_n (q := 0) hX dX6_putBack_75 rfl rfl ?_
  refine tg_now hX dX6_putBack_76 ?_
  refine gz_iconst (v := 3) hX dX6_putBack_79 gk_c_3 ?_
  refine gz_aload_n (q := 0) hX dX6_putBack_80 rfl rfl ?_
  refine tg_now hX dX6_putBack_81 ?_
  refine gz_iconst (v := 3) hX dX6_putBack_84 gk_c_3 ?_
  refine gz_iald (L := 121) hX tw_S1 (gz_inb_o (by decide)) dX6_putBack_85 ?_
  refine gz_iload_n (q := 1) hX dX6_putBack_86 rfl rfl ?_
  refine gz_isub hX dX6_putBack_87 ?_
  obtain ⟨V3, e4, h⟩ := gz_let_o h
  refine gz_iast (L := 121) hX tw_S1 (by decide) (gz_inb_o (by decide)) dX6_putBack_88 e4 ?_
  exact gt_vret hX hZ hF (gz_in1 h) dX6_putBack_89
theorem lw_putBack_ {i : Nat} (hl : Cond.methodLink RX6 i yX6_putBack ∈ lw_all) : GoodIn lw_all (wsV RX6 i RX6 yX6_putBack (ws_ yX6_putBack cX6_putBack 5 none)) := lw_V hl q1972 qs115 q153 q1973
theorem nn_putBack : yX6_putBack.cls = RX6 ∧ yX6_putBack.cls ≠ "java/lang/invoke/MethodHandle" ∧ yX6_putBack.cls ≠ "java/lang/invoke/VarHandle" ∧ (parseMethodDescriptor yX6_putBack.desc).map (fun d => d.parameters.length) = some 3 := by decide +kernel
def rm_clasps : Room := { frames := 6, cells := 0, slots := 0, locals := 145 }
noncomputable def m_clasps (N : Nat) (V : gz_V) (a1 : Int32) (a2 : Int32) : Option (gz_V × Int32) := gz_let (gz_up V (1, 0, 0) 47 0) (fun V1 => gz_bd (m_areBare V1 a1 a2) (fun r3 => (if r3 = 0 then some (V1, 0) else gz_b2 (m_passAll N V1 a1 a2) (fun V8 r6 => gz_b2 (m_doesHold N V8 a1 a2) (fun V11 r9 => (if r9 = 0 then some (V11, r6) else gz_let (gz_up V11 (1, 0, 0) 47 1) (fun V13 => gz_bd (m_putBack N V13 a1 a2 r6) (fun V16 => gz_let (gz_up V16 (2, 1, 0) (4 : Int32).toNatClampNeg ((V16 (2, 1, 0) (4 : Int32).toNatClampNeg) + 1)) (fun V17 => gz_bd (m_notes V17 3 a2 a1) (fun V20 => some (V20, 0)))))))))))
theorem c_clasps {l : Launch} {D : va_G} {aC : Nat → ClassId} {ad : gz_A0} {N : Nat} {V : gz_V} {a1 : Int32} {a2 : Int32} {W1 : gz_V} {r : Int32} (h : m_clasps N V a1 a2 = some (W1, r)) : gz_Met l yX6_clasps cX6_clasps 4 (some .int) rm_clasps D aC ad tw_S V tw_R [.ref (ad (1, 0, 0)), .int a1, .int a2] (gz_F1 tw_S tw_R ad W1 (some (.int r))) 0 0 := by
  refine gt_ofW (own := RX6) (mn := "clasps") (lv := [(0, .ref (ad (1, 0, 0))), (1, .int a1), (2, .int a2)]) (by decide) rfl rfl (Nat.le_of_ble_eq_true rfl) rfl ?_
  intro X hX hZ hF
  rw [m_clasps] at h
  refine gz_aload_n (q := 0) hX dX6_clasps_0 rfl rfl ?_
  refine gz_iconst (v := 0) hX dX6_clasps_1 gk_c_0 ?_
  obtain ⟨V1, e2, h⟩ := gz_let_o h
  refine tp_isHeld hX (by decide) dX6_clasps_2 e2 ?_
  refine gz_aload_n (q := 0) hX dX6_clasps_5 rfl rfl ?_
  refine gz_iload_n (q := 1) hX dX6_clasps_6 rfl rfl ?_
  refine gz_iload_n (q := 2) hX dX6_clasps_7 rfl rfl ?_
  obtain ⟨r3, e4, h⟩ := gz_bd_o h
  refine tc_V (As := [.int a1, .int a2]) hX (c_areBare e4) (lw_areBare_ q1944) rfl rfl nn_areBare ⟨Nat.le_of_ble_eq_true rfl, Nat.le_of_ble_eq_true rfl⟩ rfl rfl (Nat.le_of_ble_eq_true rfl) dX6_clasps_8 rfl ?_
  refine gz_if_ne (tgt := 16) hX dX6_clasps_11 (by decide) (fun c5 => ?_) (fun c5 => ?_)
  · have h := gz_ifn c5 h
    refine gz_aload_n (q := 0) hX dX6_clasps_16 rfl rfl ?_
    refine gz_iload_n (q := 1) hX dX6_clasps_17 rfl rfl ?_
    refine gz_iload_n (q := 2) hX dX6_clasps_18 rfl rfl ?_
    obtain ⟨V8, r6, e7, h⟩ := gz_b2_o h
    refine tc_V (As := [.int a1, .int a2]) hX (c_passAll e7) (lw_passAll_ q1948) rfl rfl nn_passAll ⟨Nat.le_of_ble_eq_true rfl, Nat.le_of_ble_eq_true rfl⟩ rfl rfl (Nat.le_of_ble_eq_true rfl) dX6_clasps_19 rfl ?_
    refine gz_istore_n (lv2 := [(3, .int r6), (0, .ref (ad (1, 0, 0))), (1, .int a1), (2, .int a2)]) hX dX6_clasps_22 rfl (by decide) rfl ?_
    refine gz_aload_n (q := 1) hX dX6_clasps_23 rfl rfl ?_
    refine gz_iload_n (q := 2) hX dX6_clasps_24 rfl rfl ?_
    refine gz_iload_n (q := 3) hX dX6_clasps_25 rfl rfl ?_
    obtain ⟨V11, r9, e10, h⟩ := gz_b2_o h
    refine tc_V (As := [.int a1, .int a2]) hX (c_doesHold e10) (lw_doesHold_ q1956) rfl rfl nn_doesHold ⟨Nat.le_of_ble_eq_true rfl, Nat.le_of_ble_eq_true rfl⟩ rfl rfl (Nat.le_of_ble_eq_true rfl) dX6_clasps_26 rfl ?_
    refine gz_if_ne (tgt := 34) hX dX6_clasps_29 (by decide) (fun c12 => ?_) (fun c12 => ?_)
    · have h := gz_ifn c12 h
      refine gz_aload_n (q := 1) hX dX6_clasps_34 rfl rfl ?_
      refine gz_iconst (v := 1) hX dX6_clasps_35 gk_c_1 ?_
      obtain ⟨V13, e14, h⟩ := gz_let_o h
      refine tp_isHeld hX (by decide) dX6_clasps_36 e14 ?_
      refine gz_aload_n (q := 1) hX dX6_clasps_39 rfl rfl ?_
      refine gz_iload_n (q := 2) hX dX6_clasps_40 rfl rfl ?_
      refine gz_iload_n (q := 3) hX dX6_clasps_41 rfl rfl ?_
      refine gz_iload_n (q := 0) hX dX6_clasps_42 rfl rfl ?_
      obtain ⟨V16, e15, h⟩ := gz_bd_o h
      refine tc_V (As := [.int a1, .int a2, .int r6]) hX (c_putBack e15) (lw_putBack_ q1970) rfl rfl nn_putBack ⟨Nat.le_of_ble_eq_true rfl, Nat.le_of_ble_eq_true rfl⟩ rfl rfl (Nat.le_of_ble_eq_true rfl) dX6_clasps_43 rfl ?_
      refine gz_aload_n (q := 1) hX dX6_clasps_46 rfl rfl ?_
      refine tg_now hX dX6_clasps_47 ?_
      refine gz_iconst (v := 4) hX dX6_clasps_50 gk_c_4 ?_
      refine gz_aload_n (q := 1) hX dX6_clasps_51 rfl rfl ?_
      refine tg_now hX dX6_clasps_52 ?_
      refine gz_iconst (v := 4) hX dX6_clasps_55 gk_c_4 ?_
      refine gz_iald (L := 121) hX tw_S1 (gz_inb_o (by decide)) dX6_clasps_56 ?_
      refine gz_iconst (v := 1) hX dX6_clasps_57 gk_c_1 ?_
      refine gz_iadd hX dX6_clasps_58 ?_
      obtain ⟨V17, e18, h⟩ := gz_let_o h
      refine gz_iast (L := 121) hX tw_S1 (by decide) (gz_inb_o (by decide)) dX6_clasps_59 e18 ?_
      refine gz_aload_n (q := 1) hX dX6_clasps_60 rfl rfl ?_
      refine gz_iconst (v := 3) hX dX6_clasps_61 gk_c_3 ?_
      refine gz_iload_n (q := 3) hX dX6_clasps_62 rfl rfl ?_
      refine gz_iload_n (q := 2) hX dX6_clasps_63 rfl rfl ?_
      obtain ⟨V20, e19, h⟩ := gz_bd_o h
      refine tc_V (As := [.int 3, .int a2, .int a1]) hX (c_notes e19) (lw_notes_ q1936) rfl rfl nn_notes ⟨Nat.le_of_ble_eq_true rfl, Nat.le_of_ble_eq_true rfl⟩ rfl rfl (Nat.le_of_ble_eq_true rfl) dX6_clasps_64 rfl ?_
      refine gz_iconst (v := 0) hX dX6_clasps_67 gk_c_0 ?_
      obtain ⟨e1, e2⟩ := gz_in2 h
      exact gt_iret hX hZ hF e1 e2 dX6_clasps_68
    · have h := gz_ifp c12 h
      refine gz_iload_n (q := 0) hX dX6_clasps_32 rfl rfl ?_
      obtain ⟨e1, e2⟩ := gz_in2 h
      exact gt_iret hX hZ hF e1 e2 dX6_clasps_33
  · have h := gz_ifp c5 h
    refine gz_iconst (v := 0) hX dX6_clasps_14 gk_c_0 ?_
    obtain ⟨e1, e2⟩ := gz_in2 h
    exact gt_iret hX hZ hF e1 e2 dX6_clasps_15
theorem lw_clasps_ {i : Nat} (hl : Cond.methodLink RX6 i yX6_clasps ∈ lw_all) : GoodIn lw_all (wsV RX6 i RX6 yX6_clasps (ws_ yX6_clasps cX6_clasps 4 (some .int))) := lw_V hl q1942 qs108 q153 q1943
theorem nn_clasps : yX6_clasps.cls = RX6 ∧ yX6_clasps.cls ≠ "java/lang/invoke/MethodHandle" ∧ yX6_clasps.cls ≠ "java/lang/invoke/VarHandle" ∧ (parseMethodDescriptor yX6_clasps.desc).map (fun d => d.parameters.length) = some 2 := by decide +kernel
theorem gk_b_111 : (Int8.ofInt 111).toInt32 = 111 := by decide
def rm_bargains : Room := { frames := 7, cells := 0, slots := 0, locals := 168 }
noncomputable def m_bargains (N : Nat) (V : gz_V) (a1 : Int32) (a2 : Int32) (a3 : Int32) (a4 : Int32) : Option (gz_V × Int32) := gz_gd (gz_inb (101 + a2) 121 = true) (gz_let (V (2, 1, 0) (101 + a2).toNatClampNeg) (fun x2 => gz_bd (m_isBy V a4 a3 a2) (fun V5 => gz_bd (m_shake V5 x2 a1) (fun V7 => gz_gd (gz_inb (65 + x2) 121 = true) (gz_let (m_lesser a3 (9999 - (V7 (2, 1, 0) (65 + x2).toNatClampNeg))) (fun x9 => gz_gd (gz_inb (65 + a1) 121 = true) (gz_gd (gz_inb (65 + a1) 121 = true) (gz_let (gz_up V7 (2, 1, 0) (65 + a1).toNatClampNeg ((V7 (2, 1, 0) (65 + a1).toNatClampNeg) - a3)) (fun V13 => gz_gd (gz_inb (65 + x2) 121 = true) (gz_gd (gz_inb (65 + x2) 121 = true) (gz_let (gz_up V13 (2, 1, 0) (65 + x2).toNatClampNeg ((V13 (2, 1, 0) (65 + x2).toNatClampNeg) + x9)) (fun V17 => gz_gd (gz_inb (101 + a2) 121 = true) (gz_let (gz_up V17 (2, 1, 0) (101 + a2).toNatClampNeg a1) (fun V20 => gz_gd (gz_inb (111 + a2) 121 = true) (gz_gd (gz_inb (111 + a2) 121 = true) (gz_let (gz_up V20 (2, 1, 0) (111 + a2).toNatClampNeg ((V20 (2, 1, 0) (111 + a2).toNatClampNeg) + 1)) (fun V24 => gz_bd (m_notes V24 0 a1 a3) (fun V27 => gz_b2 (m_clasps N V27 x2 a1) (fun V30 r28 => (if (V30 (1, 0, 0) 47) = 0 then some (V30, r28) else gz_gd (gz_inb (65 + a1) 121 = true) (gz_gd (gz_inb (65 + a1) 121 = true) (gz_let (gz_up V30 (2, 1, 0) (65 + a1).toNatClampNeg ((V30 (2, 1, 0) (65 + a1).toNatClampNeg) + x9)) (fun V34 => gz_gd (gz_inb (65 + x2) 121 = true) (gz_gd (gz_inb (65 + x2) 121 = true) (gz_let (gz_up V34 (2, 1, 0) (65 + x2).toNatClampNeg ((V34 (2, 1, 0) (65 + x2).toNatClampNeg) - x9)) (fun V38 => some (V38, 0)))))))))))))))))))))))))))
theorem c_bargains {l : Launch} {D : va_G} {aC : Nat → ClassId} {ad : gz_A0} {N : Nat} {V : gz_V} {a1 : Int32} {a2 : Int32} {a3 : Int32} {a4 : Int32} {W1 : gz_V} {r : Int32} (h : m_bargains N V a1 a2 a3 a4 = some (W1, r)) : gz_Met l yX6_bargains cX6_bargains 8 (some .int) rm_bargains D aC ad tw_S V tw_R [.ref (ad (1, 0, 0)), .int a1, .int a2, .int a3, .int a4] (gz_F1 tw_S tw_R ad W1 (some (.int r))) 0 0 := by
  refine gt_ofW (own := RX6) (mn := "bargains") (lv := [(0, .ref (ad (1, 0, 0))), (1, .int a1), (2, .int a2), (3, .int a3), (4, .int a4)]) (by decide) rfl rfl (Nat.le_of_ble_eq_true rfl) rfl ?_
  intro X hX hZ hF
  rw [m_bargains] at h
  refine gz_aload_n (q := 0) hX dX6_bargains_0 rfl rfl ?_
  refine tg_now hX dX6_bargains_1 ?_
  refine gz_bipush (v := 101) hX dX6_bargains_4 gk_b_101 ?_
  refine gz_iload_n (q := 2) hX dX6_bargains_6 rfl rfl ?_
  refine gz_iadd hX dX6_bargains_7 ?_
  obtain ⟨b1, h⟩ := gz_gd_o h
  refine gz_iald (L := 121) hX tw_S1 (gz_inb_o b1) dX6_bargains_8 ?_
  obtain ⟨x2, e3, h⟩ := gz_let_o h
  refine gz_nm e3 ?_
  refine gz_istore (lv2 := [(5, .int x2), (0, .ref (ad (1, 0, 0))), (1, .int a1), (2, .int a2), (3, .int a3), (4, .int a4)]) hX dX6_bargains_9 (by decide) rfl ?_
  refine gz_aload_n (q := 1) hX dX6_bargains_11 rfl rfl ?_
  refine gz_iload (q := 5) hX dX6_bargains_12 rfl ?_
  refine gz_iload_n (q := 4) hX dX6_bargains_14 rfl rfl ?_
  refine gz_iload_n (q := 3) hX dX6_bargains_15 rfl rfl ?_
  obtain ⟨V5, e4, h⟩ := gz_bd_o h
  refine tc_V (As := [.int a4, .int a3, .int a2]) hX (c_isBy e4) (lw_isBy_ q1884) rfl rfl nn_isBy ⟨Nat.le_of_ble_eq_true rfl, Nat.le_of_ble_eq_true rfl⟩ rfl rfl (Nat.le_of_ble_eq_true rfl) dX6_bargains_16 rfl ?_
  refine gz_aload_n (q := 1) hX dX6_bargains_19 rfl rfl ?_
  refine gz_iload (q := 0) hX dX6_bargains_20 rfl ?_
  refine gz_iload_n (q := 2) hX dX6_bargains_22 rfl rfl ?_
  obtain ⟨V7, e6, h⟩ := gz_bd_o h
  refine tc_V (As := [.int x2, .int a1]) hX (c_shake e6) (lw_shake_ q1928) rfl rfl nn_shake ⟨Nat.le_of_ble_eq_true rfl, Nat.le_of_ble_eq_true rfl⟩ rfl rfl (Nat.le_of_ble_eq_true rfl) dX6_bargains_23 rfl ?_
  refine gz_aload_n (q := 1) hX dX6_bargains_26 rfl rfl ?_
  refine gz_iload_n (q := 4) hX dX6_bargains_27 rfl rfl ?_
  refine gz_sipush (v := 9999) hX dX6_bargains_28 gk_s_9999 ?_
  refine gz_aload_n (q := 1) hX dX6_bargains_31 rfl rfl ?_
  refine tg_now hX dX6_bargains_32 ?_
  refine gz_bipush (v := 65) hX dX6_bargains_35 gk_b_65 ?_
  refine gz_iload (q := 0) hX dX6_bargains_37 rfl ?_
  refine gz_iadd hX dX6_bargains_39 ?_
  obtain ⟨b8, h⟩ := gz_gd_o h
  refine gz_iald (L := 121) hX tw_S1 (gz_inb_o b8) dX6_bargains_40 ?_
  refine gz_isub hX dX6_bargains_41 ?_
  refine tc_V (As := [.int a3, .int (9999 - (V7 (2, 1, 0) (65 + x2).toNatClampNeg))]) hX (c_lesser rfl) (lw_lesser_ q1932) rfl rfl nn_lesser ⟨Nat.le_of_ble_eq_true rfl, Nat.le_of_ble_eq_true rfl⟩ rfl rfl (Nat.le_of_ble_eq_true rfl) dX6_bargains_42 rfl ?_
  obtain ⟨x9, e10, h⟩ := gz_let_o h
  refine gz_nm e10 ?_
  refine gz_istore (lv2 := [(6, .int x9), (5, .int x2), (0, .ref (ad (1, 0, 0))), (1, .int a1), (2, .int a2), (3, .int a3), (4, .int a4)]) hX dX6_bargains_45 (by decide) rfl ?_
  refine gz_aload_n (q := 2) hX dX6_bargains_47 rfl rfl ?_
  refine tg_now hX dX6_bargains_48 ?_
  refine gz_bipush (v := 65) hX dX6_bargains_51 gk_b_65 ?_
  refine gz_iload_n (q := 3) hX dX6_bargains_53 rfl rfl ?_
  refine gz_iadd hX dX6_bargains_54 ?_
  refine gz_aload_n (q := 2) hX dX6_bargains_55 rfl rfl ?_
  refine tg_now hX dX6_bargains_56 ?_
  refine gz_bipush (v := 65) hX dX6_bargains_59 gk_b_65 ?_
  refine gz_iload_n (q := 3) hX dX6_bargains_61 rfl rfl ?_
  refine gz_iadd hX dX6_bargains_62 ?_
  obtain ⟨b11, h⟩ := gz_gd_o h
  refine gz_iald (L := 121) hX tw_S1 (gz_inb_o b11) dX6_bargains_63 ?_
  refine gz_iload_n (q := 5) hX dX6_bargains_64 rfl rfl ?_
  refine gz_isub hX dX6_bargains_65 ?_
  obtain ⟨b12, h⟩ := gz_gd_o h
  obtain ⟨V13, e14, h⟩ := gz_let_o h
  refine gz_iast (L := 121) hX tw_S1 (by decide) (gz_inb_o b12) dX6_bargains_66 e14 ?_
  refine gz_aload_n (q := 2) hX dX6_bargains_67 rfl rfl ?_
  refine tg_now hX dX6_bargains_68 ?_
  refine gz_bipush (v := 65) hX dX6_bargains_71 gk_b_65 ?_
  refine gz_iload (q := 1) hX dX6_bargains_73 rfl ?_
  refine gz_iadd hX dX6_bargains_75 ?_
  refine gz_aload_n (q := 2) hX dX6_bargains_76 rfl rfl ?_
  refine tg_now hX dX6_bargains_77 ?_
  refine gz_bipush (v := 65) hX dX6_bargains_80 gk_b_65 ?_
  refine gz_iload (q := 1) hX dX6_bargains_82 rfl ?_
  refine gz_iadd hX dX6_bargains_84 ?_
  obtain ⟨b15, h⟩ := gz_gd_o h
  refine gz_iald (L := 121) hX tw_S1 (gz_inb_o b15) dX6_bargains_85 ?_
  refine gz_iload (q := 0) hX dX6_bargains_86 rfl ?_
  refine gz_iadd hX dX6_bargains_88 ?_
  obtain ⟨b16, h⟩ := gz_gd_o h
  obtain ⟨V17, e18, h⟩ := gz_let_o h
  refine gz_iast (L := 121) hX tw_S1 (by decide) (gz_inb_o b16) dX6_bargains_89 e18 ?_
  refine gz_aload_n (q := 2) hX dX6_bargains_90 rfl rfl ?_
  refine tg_now hX dX6_bargains_91 ?_
  refine gz_bipush (v := 101) hX dX6_bargains_94 gk_b_101 ?_
  refine gz_iload_n (q := 4) hX dX6_bargains_96 rfl rfl ?_
  refine gz_iadd hX dX6_bargains_97 ?_
  refine gz_iload_n (q := 3) hX dX6_bargains_98 rfl rfl ?_
  obtain ⟨b19, h⟩ := gz_gd_o h
  obtain ⟨V20, e21, h⟩ := gz_let_o h
  refine gz_iast (L := 121) hX tw_S1 (by decide) (gz_inb_o b19) dX6_bargains_99 e21 ?_
  refine gz_aload_n (q := 2) hX dX6_bargains_100 rfl rfl ?_
  refine tg_now hX dX6_bargains_101 ?_
  refine gz_bipush (v := 111) hX dX6_bargains_104 gk_b_111 ?_
  refine gz_iload_n (q := 4) hX dX6_bargains_106 rfl rfl ?_
  refine gz_iadd hX dX6_bargains_107 ?_
  refine gz_aload_n (q := 2) hX dX6_bargains_108 rfl rfl ?_
  refine tg_now hX dX6_bargains_109 ?_
  refine gz_bipush (v := 111) hX dX6_bargains_112 gk_b_111 ?_
  refine gz_iload_n (q := 4) hX dX6_bargains_114 rfl rfl ?_
  refine gz_iadd hX dX6_bargains_115 ?_
  obtain ⟨b22, h⟩ := gz_gd_o h
  refine gz_iald (L := 121) hX tw_S1 (gz_inb_o b22) dX6_bargains_116 ?_
  refine gz_iconst (v := 1) hX dX6_bargains_117 gk_c_1 ?_
  refine gz_iadd hX dX6_bargains_118 ?_
  obtain ⟨b23, h⟩ := gz_gd_o h
  obtain ⟨V24, e25, h⟩ := gz_let_o h
  refine gz_iast (L := 121) hX tw_S1 (by decide) (gz_inb_o b23) dX6_bargains_119 e25 ?_
  refine gz_aload_n (q := 2) hX dX6_bargains_120 rfl rfl ?_
  refine gz_iconst (v := 0) hX dX6_bargains_121 gk_c_0 ?_
  refine gz_iload_n (q := 3) hX dX6_bargains_122 rfl rfl ?_
  refine gz_iload_n (q := 5) hX dX6_bargains_123 rfl rfl ?_
  obtain ⟨V27, e26, h⟩ := gz_bd_o h
  refine tc_V (As := [.int 0, .int a1, .int a3]) hX (c_notes e26) (lw_notes_ q1936) rfl rfl nn_notes ⟨Nat.le_of_ble_eq_true rfl, Nat.le_of_ble_eq_true rfl⟩ rfl rfl (Nat.le_of_ble_eq_true rfl) dX6_bargains_124 rfl ?_
  refine gz_aload_n (q := 2) hX dX6_bargains_127 rfl rfl ?_
  refine gz_iload (q := 1) hX dX6_bargains_128 rfl ?_
  refine gz_iload_n (q := 3) hX dX6_bargains_130 rfl rfl ?_
  obtain ⟨V30, r28, e29, h⟩ := gz_b2_o h
  refine tc_V (As := [.int x2, .int a1]) hX (c_clasps e29) (lw_clasps_ q1940) rfl rfl nn_clasps ⟨Nat.le_of_ble_eq_true rfl, Nat.le_of_ble_eq_true rfl⟩ rfl rfl (Nat.le_of_ble_eq_true rfl) dX6_bargains_131 rfl ?_
  refine gz_istore (lv2 := [(7, .int r28), (6, .int x9), (5, .int x2), (0, .ref (ad (1, 0, 0))), (1, .int a1), (2, .int a2), (3, .int a3), (4, .int a4)]) hX dX6_bargains_134 (by decide) rfl ?_
  refine gz_aload_n (q := 3) hX dX6_bargains_136 rfl rfl ?_
  refine tg_isHeld hX dX6_bargains_137 ?_
  refine gz_if_ne (tgt := 146) hX dX6_bargains_140 (by decide) (fun c31 => ?_) (fun c31 => ?_)
  · have h := gz_ifn c31 h
    refine gz_aload_n (q := 3) hX dX6_bargains_146 rfl rfl ?_
    refine tg_now hX dX6_bargains_147 ?_
    refine gz_bipush (v := 65) hX dX6_bargains_150 gk_b_65 ?_
    refine gz_iload_n (q := 4) hX dX6_bargains_152 rfl rfl ?_
    refine gz_iadd hX dX6_bargains_153 ?_
    refine gz_aload_n (q := 3) hX dX6_bargains_154 rfl rfl ?_
    refine tg_now hX dX6_bargains_155 ?_
    refine gz_bipush (v := 65) hX dX6_bargains_158 gk_b_65 ?_
    refine gz_iload_n (q := 4) hX dX6_bargains_160 rfl rfl ?_
    refine gz_iadd hX dX6_bargains_161 ?_
    obtain ⟨b32, h⟩ := gz_gd_o h
    refine gz_iald (L := 121) hX tw_S1 (gz_inb_o b32) dX6_bargains_162 ?_
    refine gz_iload (q := 1) hX dX6_bargains_163 rfl ?_
    refine gz_iadd hX dX6_bargains_165 ?_
    obtain ⟨b33, h⟩ := gz_gd_o h
    obtain ⟨V34, e35, h⟩ := gz_let_o h
    refine gz_iast (L := 121) hX tw_S1 (by decide) (gz_inb_o b33) dX6_bargains_166 e35 ?_
    refine gz_aload_n (q := 3) hX dX6_bargains_167 rfl rfl ?_
    refine tg_now hX dX6_bargains_168 ?_
    refine gz_bipush (v := 65) hX dX6_bargains_171 gk_b_65 ?_
    refine gz_iload (q := 2) hX dX6_bargains_173 rfl ?_
    refine gz_iadd hX dX6_bargains_175 ?_
    refine gz_aload_n (q := 3) hX dX6_bargains_176 rfl rfl ?_
    refine tg_now hX dX6_bargains_177 ?_
    refine gz_bipush (v := 65) hX dX6_bargains_180 gk_b_65 ?_
    refine gz_iload (q := 2) hX dX6_bargains_182 rfl ?_
    refine gz_iadd hX dX6_bargains_184 ?_
    obtain ⟨b36, h⟩ := gz_gd_o h
    refine gz_iald (L := 121) hX tw_S1 (gz_inb_o b36) dX6_bargains_185 ?_
    refine gz_iload (q := 1) hX dX6_bargains_186 rfl ?_
    refine gz_isub hX dX6_bargains_188 ?_
    obtain ⟨b37, h⟩ := gz_gd_o h
    obtain ⟨V38, e39, h⟩ := gz_let_o h
    refine gz_iast (L := 121) hX tw_S1 (by decide) (gz_inb_o b37) dX6_bargains_189 e39 ?_
    refine gz_iconst (v := 0) hX dX6_bargains_190 gk_c_0 ?_
    obtain ⟨e1, e2⟩ := gz_in2 h
    exact gt_iret hX hZ hF e1 e2 dX6_bargains_191
  · have h := gz_ifp c31 h
    refine gz_iload (q := 0) hX dX6_bargains_143 rfl ?_
    obtain ⟨e1, e2⟩ := gz_in2 h
    exact gt_iret hX hZ hF e1 e2 dX6_bargains_145
theorem lw_bargains_ {i : Nat} (hl : Cond.methodLink RX6 i yX6_bargains ∈ lw_all) : GoodIn lw_all (wsV RX6 i RX6 yX6_bargains (ws_ yX6_bargains cX6_bargains 8 (some .int))) := lw_V hl q1926 qs104 q153 q1927
theorem nn_bargains : yX6_bargains.cls = RX6 ∧ yX6_bargains.cls ≠ "java/lang/invoke/MethodHandle" ∧ yX6_bargains.cls ≠ "java/lang/invoke/VarHandle" ∧ (parseMethodDescriptor yX6_bargains.desc).map (fun d => d.parameters.length) = some 4 := by decide +kernel
def rm_book : Room := { frames := 1, cells := 0, slots := 0, locals := 23 }
noncomputable def m_book (V : gz_V) (a1 : Int32) (a2 : Int32) : Option (gz_V × Int32) := gz_let (gz_up V (1, 0, 0) 0 0) (fun V1 => (if (m_isIn a1 0 ((V1 (2, 1, 0) (2 : Int32).toNatClampNeg) - 1)) = 0 then some (V1, (-1)) else (if (m_isIn a2 0 3) = 0 then some (V1, (-1)) else gz_gd (gz_inb ((4 * a1) + a2) 600 = true) (some (V1, (V1 (2, 10, 0) ((4 * a1) + a2).toNatClampNeg))))))
theorem c_book {l : Launch} {D : va_G} {aC : Nat → ClassId} {ad : gz_A0} {V : gz_V} {a1 : Int32} {a2 : Int32} {W1 : gz_V} {r : Int32} (h : m_book V a1 a2 = some (W1, r)) : gz_Met l yX6_book cX6_book 3 (some .int) rm_book D aC ad tw_S V tw_R [.ref (ad (1, 0, 0)), .int a1, .int a2] (gz_F1 tw_S tw_R ad W1 (some (.int r))) 0 0 := by
  refine gt_ofW (own := RX6) (mn := "book") (lv := [(0, .ref (ad (1, 0, 0))), (1, .int a1), (2, .int a2)]) (by decide) rfl rfl (Nat.le_of_ble_eq_true rfl) rfl ?_
  intro X hX hZ hF
  rw [m_book] at h
  refine gz_aload_n (q := 0) hX dX6_book_0 rfl rfl ?_
  refine gz_iconst (v := 0) hX dX6_book_1 gk_c_0 ?_
  obtain ⟨V1, e2, h⟩ := gz_let_o h
  refine tp_told hX dX6_book_2 e2 ?_
  refine gz_aload_n (q := 0) hX dX6_book_5 rfl rfl ?_
  refine gz_iload_n (q := 1) hX dX6_book_6 rfl rfl ?_
  refine gz_iconst (v := 0) hX dX6_book_7 gk_c_0 ?_
  refine gz_aload_n (q := 0) hX dX6_book_8 rfl rfl ?_
  refine tg_now hX dX6_book_9 ?_
  refine gz_iconst (v := 2) hX dX6_book_12 gk_c_2 ?_
  refine gz_iald (L := 121) hX tw_S1 (gz_inb_o (by decide)) dX6_book_13 ?_
  refine gz_iconst (v := 1) hX dX6_book_14 gk_c_1 ?_
  refine gz_isub hX dX6_book_15 ?_
  refine tc_V (As := [.int a1, .int 0, .int ((V1 (2, 1, 0) (2 : Int32).toNatClampNeg) - 1)]) hX (c_isIn rfl) (lw_isIn_ q1692) rfl rfl nn_isIn ⟨Nat.le_of_ble_eq_true rfl, Nat.le_of_ble_eq_true rfl⟩ rfl rfl (Nat.le_of_ble_eq_true rfl) dX6_book_16 rfl ?_
  refine gz_if_eq (tgt := 45) hX dX6_book_19 (by decide) (fun c3 => ?_) (fun c3 => ?_)
  · have h := gz_ifp c3 h
    refine gz_iconst (v := (-1)) hX dX6_book_45 gk_c_m1 ?_
    obtain ⟨e1, e2⟩ := gz_in2 h
    exact gt_iret hX hZ hF e1 e2 dX6_book_46
  · have h := gz_ifn c3 h
    refine gz_aload_n (q := 0) hX dX6_book_22 rfl rfl ?_
    refine gz_iload_n (q := 2) hX dX6_book_23 rfl rfl ?_
    refine gz_iconst (v := 0) hX dX6_book_24 gk_c_0 ?_
    refine gz_iconst (v := 3) hX dX6_book_25 gk_c_3 ?_
    refine tc_V (As := [.int a2, .int 0, .int 3]) hX (c_isIn rfl) (lw_isIn_ q1692) rfl rfl nn_isIn ⟨Nat.le_of_ble_eq_true rfl, Nat.le_of_ble_eq_true rfl⟩ rfl rfl (Nat.le_of_ble_eq_true rfl) dX6_book_26 rfl ?_
    refine gz_if_eq (tgt := 45) hX dX6_book_29 (by decide) (fun c4 => ?_) (fun c4 => ?_)
    · have h := gz_ifp c4 h
      refine gz_iconst (v := (-1)) hX dX6_book_45 gk_c_m1 ?_
      obtain ⟨e1, e2⟩ := gz_in2 h
      exact gt_iret hX hZ hF e1 e2 dX6_book_46
    · have h := gz_ifn c4 h
      refine gz_aload_n (q := 0) hX dX6_book_32 rfl rfl ?_
      refine tg_book hX dX6_book_33 ?_
      refine gz_iconst (v := 4) hX dX6_book_36 gk_c_4 ?_
      refine gz_iload_n (q := 1) hX dX6_book_37 rfl rfl ?_
      refine gz_imul hX dX6_book_38 ?_
      refine gz_iload_n (q := 2) hX dX6_book_39 rfl rfl ?_
      refine gz_iadd hX dX6_book_40 ?_
      obtain ⟨b5, h⟩ := gz_gd_o h
      refine gz_iald (L := 600) hX tw_S10 (gz_inb_o b5) dX6_book_41 ?_
      refine gz_goto (tgt := 46) hX dX6_book_42 (by decide) ?_
      obtain ⟨e1, e2⟩ := gz_in2 h
      exact gt_iret hX hZ hF e1 e2 dX6_book_46
theorem lw_book_ {i : Nat} (hl : Cond.methodLink RX6 i yX6_book ∈ lw_all) : GoodIn lw_all (wsV RX6 i RX6 yX6_book (ws_ yX6_book cX6_book 3 (some .int))) := lw_V hl q2019 q2020 q153 q2021
theorem nn_book : yX6_book.cls = RX6 ∧ yX6_book.cls ≠ "java/lang/invoke/MethodHandle" ∧ yX6_book.cls ≠ "java/lang/invoke/VarHandle" ∧ (parseMethodDescriptor yX6_book.desc).map (fun d => d.parameters.length) = some 2 := by decide +kernel
def rm_canShake : Room := { frames := 1, cells := 0, slots := 0, locals := 21 }
noncomputable def m_canShake (V : gz_V) (a1 : Int32) (a2 : Int32) : Option Int32 := (if (m_isPerson V a1) = 0 then some 0 else (if (m_isPerson V a2) = 0 then some 0 else (if a1 = a2 then some 0 else gz_gd (gz_inb (77 + a1) 121 = true) ((if (V (2, 1, 0) (77 + a1).toNatClampNeg) = 2 then some 0 else gz_gd (gz_inb (77 + a2) 121 = true) ((if (V (2, 1, 0) (77 + a2).toNatClampNeg) = 2 then some 0 else some 1)))))))
theorem c_canShake {l : Launch} {D : va_G} {aC : Nat → ClassId} {ad : gz_A0} {V : gz_V} {a1 : Int32} {a2 : Int32} {r : Int32} (h : m_canShake V a1 a2 = some r) : gz_Met l yX6_canShake cX6_canShake 3 (some .boolean) rm_canShake D aC ad tw_S V tw_R [.ref (ad (1, 0, 0)), .int a1, .int a2] (gz_F1 tw_S tw_R ad V (some (.int r))) 0 0 := by
  refine gt_ofW (own := RX6) (mn := "canShake") (lv := [(0, .ref (ad (1, 0, 0))), (1, .int a1), (2, .int a2)]) (by decide) rfl rfl (Nat.le_of_ble_eq_true rfl) rfl ?_
  intro X hX hZ hF
  rw [m_canShake] at h
  refine gz_aload_n (q := 0) hX dX6_canShake_0 rfl rfl ?_
  refine gz_iload_n (q := 1) hX dX6_canShake_1 rfl rfl ?_
  refine tc_V (As := [.int a1]) hX (c_isPerson rfl) (lw_isPerson_ q1708) rfl rfl nn_isPerson ⟨Nat.le_of_ble_eq_true rfl, Nat.le_of_ble_eq_true rfl⟩ rfl rfl (Nat.le_of_ble_eq_true rfl) dX6_canShake_2 rfl ?_
  refine gz_if_eq (tgt := 51) hX dX6_canShake_5 (by decide) (fun c1 => ?_) (fun c1 => ?_)
  · have h := gz_ifp c1 h
    refine gz_iconst (v := 0) hX dX6_canShake_51 gk_c_0 ?_
    exact gt_zret hX hZ rfl hF rfl (gz_in1 h) dX6_canShake_52
  · have h := gz_ifn c1 h
    refine gz_aload_n (q := 0) hX dX6_canShake_8 rfl rfl ?_
    refine gz_iload_n (q := 2) hX dX6_canShake_9 rfl rfl ?_
    refine tc_V (As := [.int a2]) hX (c_isPerson rfl) (lw_isPerson_ q1708) rfl rfl nn_isPerson ⟨Nat.le_of_ble_eq_true rfl, Nat.le_of_ble_eq_true rfl⟩ rfl rfl (Nat.le_of_ble_eq_true rfl) dX6_canShake_10 rfl ?_
    refine gz_if_eq (tgt := 51) hX dX6_canShake_13 (by decide) (fun c2 => ?_) (fun c2 => ?_)
    · have h := gz_ifp c2 h
      refine gz_iconst (v := 0) hX dX6_canShake_51 gk_c_0 ?_
      exact gt_zret hX hZ rfl hF rfl (gz_in1 h) dX6_canShake_52
    · have h := gz_ifn c2 h
      refine gz_iload_n (q := 1) hX dX6_canShake_16 rfl rfl ?_
      refine gz_iload_n (q := 2) hX dX6_canShake_17 rfl rfl ?_
      refine gz_icmp_eq (tgt := 51) hX dX6_canShake_18 (by decide) (fun c3 => ?_) (fun c3 => ?_)
      · have h := gz_ifp c3 h
        refine gz_iconst (v := 0) hX dX6_canShake_51 gk_c_0 ?_
        exact gt_zret hX hZ rfl hF rfl (gz_in1 h) dX6_canShake_52
      · have h := gz_ifn c3 h
        refine gz_aload_n (q := 0) hX dX6_canShake_21 rfl rfl ?_
        refine tg_now hX dX6_canShake_22 ?_
        refine gz_bipush (v := 77) hX dX6_canShake_25 gk_b_77 ?_
        refine gz_iload_n (q := 1) hX dX6_canShake_27 rfl rfl ?_
        refine gz_iadd hX dX6_canShake_28 ?_
        obtain ⟨b4, h⟩ := gz_gd_o h
        refine gz_iald (L := 121) hX tw_S1 (gz_inb_o b4) dX6_canShake_29 ?_
        refine gz_iconst (v := 2) hX dX6_canShake_30 gk_c_2 ?_
        refine gz_icmp_eq (tgt := 51) hX dX6_canShake_31 (by decide) (fun c5 => ?_) (fun c5 => ?_)
        · have h := gz_ifp c5 h
          refine gz_iconst (v := 0) hX dX6_canShake_51 gk_c_0 ?_
          exact gt_zret hX hZ rfl hF rfl (gz_in1 h) dX6_canShake_52
        · have h := gz_ifn c5 h
          refine gz_aload_n (q := 0) hX dX6_canShake_34 rfl rfl ?_
          refine tg_now hX dX6_canShake_35 ?_
          refine gz_bipush (v := 77) hX dX6_canShake_38 gk_b_77 ?_
          refine gz_iload_n (q := 2) hX dX6_canShake_40 rfl rfl ?_
          refine gz_iadd hX dX6_canShake_41 ?_
          obtain ⟨b6, h⟩ := gz_gd_o h
          refine gz_iald (L := 121) hX tw_S1 (gz_inb_o b6) dX6_canShake_42 ?_
          refine gz_iconst (v := 2) hX dX6_canShake_43 gk_c_2 ?_
          refine gz_icmp_eq (tgt := 51) hX dX6_canShake_44 (by decide) (fun c7 => ?_) (fun c7 => ?_)
          · have h := gz_ifp c7 h
            refine gz_iconst (v := 0) hX dX6_canShake_51 gk_c_0 ?_
            exact gt_zret hX hZ rfl hF rfl (gz_in1 h) dX6_canShake_52
          · have h := gz_ifn c7 h
            refine gz_iconst (v := 1) hX dX6_canShake_47 gk_c_1 ?_
            refine gz_goto (tgt := 52) hX dX6_canShake_48 (by decide) ?_
            exact gt_zret hX hZ rfl hF rfl (gz_in1 h) dX6_canShake_52
theorem lw_canShake_ {i : Nat} (hl : Cond.methodLink RX6 i yX6_canShake ∈ lw_all) : GoodIn lw_all (wsV RX6 i RX6 yX6_canShake (ws_ yX6_canShake cX6_canShake 3 (some .boolean))) := lw_V hl q1882 qs93 q153 q1883
theorem nn_canShake : yX6_canShake.cls = RX6 ∧ yX6_canShake.cls ≠ "java/lang/invoke/MethodHandle" ∧ yX6_canShake.cls ≠ "java/lang/invoke/VarHandle" ∧ (parseMethodDescriptor yX6_canShake.desc).map (fun d => d.parameters.length) = some 2 := by decide +kernel
def rm_canBuy : Room := { frames := 5, cells := 0, slots := 0, locals := 116 }
noncomputable def m_canBuy (N : Nat) (V : gz_V) (a1 : Int32) (a2 : Int32) (a3 : Int32) (a4 : Int32) : Option (gz_V × Int32) := (if (m_isHorse V a2) = 0 then some (V, 0) else (if (m_isIn a3 0 9999) = 0 then some (V, 0) else (if (m_isIn a4 1 9) = 0 then some (V, 0) else gz_gd (gz_inb (101 + a2) 121 = true) (gz_let (V (2, 1, 0) (101 + a2).toNatClampNeg) (fun x5 => gz_bd (m_canShake V x5 a1) (fun r7 => (if r7 = 0 then some (V, 0) else gz_gd (gz_inb (65 + a1) 121 = true) ((if a3 ≤ (V (2, 1, 0) (65 + a1).toNatClampNeg) then gz_bd (m_isBy V a4 a3 a2) (fun V13 => gz_b2 (m_asksOf N V13 x5 a1) (fun V16 r14 => (if a3 < r14 then some (V16, 0) else some (V16, 1)))) else some (V, 0))))))))))
theorem c_canBuy {l : Launch} {D : va_G} {aC : Nat → ClassId} {ad : gz_A0} {N : Nat} {V : gz_V} {a1 : Int32} {a2 : Int32} {a3 : Int32} {a4 : Int32} {W1 : gz_V} {r : Int32} (h : m_canBuy N V a1 a2 a3 a4 = some (W1, r)) : gz_Met l yX6_canBuy cX6_canBuy 6 (some .boolean) rm_canBuy D aC ad tw_S V tw_R [.ref (ad (1, 0, 0)), .int a1, .int a2, .int a3, .int a4] (gz_F1 tw_S tw_R ad W1 (some (.int r))) 0 0 := by
  refine gt_ofW (own := RX6) (mn := "canBuy") (lv := [(0, .ref (ad (1, 0, 0))), (1, .int a1), (2, .int a2), (3, .int a3), (4, .int a4)]) (by decide) rfl rfl (Nat.le_of_ble_eq_true rfl) rfl ?_
  intro X hX hZ hF
  rw [m_canBuy] at h
  refine gz_aload_n (q := 0) hX dX6_canBuy_0 rfl rfl ?_
  refine gz_iload_n (q := 2) hX dX6_canBuy_1 rfl rfl ?_
  refine tc_V (As := [.int a2]) hX (c_isHorse rfl) (lw_isHorse_ q1720) rfl rfl nn_isHorse ⟨Nat.le_of_ble_eq_true rfl, Nat.le_of_ble_eq_true rfl⟩ rfl rfl (Nat.le_of_ble_eq_true rfl) dX6_canBuy_2 rfl ?_
  refine gz_if_eq (tgt := 32) hX dX6_canBuy_5 (by decide) (fun c1 => ?_) (fun c1 => ?_)
  · have h := gz_ifp c1 h
    refine gz_iconst (v := 0) hX dX6_canBuy_32 gk_c_0 ?_
    obtain ⟨e1, e2⟩ := gz_in2 h
    exact gt_zret hX hZ rfl hF e1 e2 dX6_canBuy_33
  · have h := gz_ifn c1 h
    refine gz_aload_n (q := 0) hX dX6_canBuy_8 rfl rfl ?_
    refine gz_iload_n (q := 3) hX dX6_canBuy_9 rfl rfl ?_
    refine gz_iconst (v := 0) hX dX6_canBuy_10 gk_c_0 ?_
    refine gz_sipush (v := 9999) hX dX6_canBuy_11 gk_s_9999 ?_
    refine tc_V (As := [.int a3, .int 0, .int 9999]) hX (c_isIn rfl) (lw_isIn_ q1692) rfl rfl nn_isIn ⟨Nat.le_of_ble_eq_true rfl, Nat.le_of_ble_eq_true rfl⟩ rfl rfl (Nat.le_of_ble_eq_true rfl) dX6_canBuy_14 rfl ?_
    refine gz_if_eq (tgt := 32) hX dX6_canBuy_17 (by decide) (fun c2 => ?_) (fun c2 => ?_)
    · have h := gz_ifp c2 h
      refine gz_iconst (v := 0) hX dX6_canBuy_32 gk_c_0 ?_
      obtain ⟨e1, e2⟩ := gz_in2 h
      exact gt_zret hX hZ rfl hF e1 e2 dX6_canBuy_33
    · have h := gz_ifn c2 h
      refine gz_aload_n (q := 0) hX dX6_canBuy_20 rfl rfl ?_
      refine gz_iload (q := 4) hX dX6_canBuy_21 rfl ?_
      refine gz_iconst (v := 1) hX dX6_canBuy_23 gk_c_1 ?_
      refine gz_bipush (v := 9) hX dX6_canBuy_24 gk_b_9 ?_
      refine tc_V (As := [.int a4, .int 1, .int 9]) hX (c_isIn rfl) (lw_isIn_ q1692) rfl rfl nn_isIn ⟨Nat.le_of_ble_eq_true rfl, Nat.le_of_ble_eq_true rfl⟩ rfl rfl (Nat.le_of_ble_eq_true rfl) dX6_canBuy_26 rfl ?_
      refine gz_if_ne (tgt := 34) hX dX6_canBuy_29 (by decide) (fun c3 => ?_) (fun c3 => ?_)
      · have h := gz_ifn c3 h
        refine gz_aload_n (q := 0) hX dX6_canBuy_34 rfl rfl ?_
        refine tg_now hX dX6_canBuy_35 ?_
        refine gz_bipush (v := 101) hX dX6_canBuy_38 gk_b_101 ?_
        refine gz_iload_n (q := 2) hX dX6_canBuy_40 rfl rfl ?_
        refine gz_iadd hX dX6_canBuy_41 ?_
        obtain ⟨b4, h⟩ := gz_gd_o h
        refine gz_iald (L := 121) hX tw_S1 (gz_inb_o b4) dX6_canBuy_42 ?_
        obtain ⟨x5, e6, h⟩ := gz_let_o h
        refine gz_nm e6 ?_
        refine gz_istore (lv2 := [(5, .int x5), (0, .ref (ad (1, 0, 0))), (1, .int a1), (2, .int a2), (3, .int a3), (4, .int a4)]) hX dX6_canBuy_43 (by decide) rfl ?_
        refine gz_aload_n (q := 1) hX dX6_canBuy_45 rfl rfl ?_
        refine gz_iload (q := 0) hX dX6_canBuy_46 rfl ?_
        refine gz_iload_n (q := 2) hX dX6_canBuy_48 rfl rfl ?_
        obtain ⟨r7, e8, h⟩ := gz_bd_o h
        refine tc_V (As := [.int x5, .int a1]) hX (c_canShake e8) (lw_canShake_ q1880) rfl rfl nn_canShake ⟨Nat.le_of_ble_eq_true rfl, Nat.le_of_ble_eq_true rfl⟩ rfl rfl (Nat.le_of_ble_eq_true rfl) dX6_canBuy_49 rfl ?_
        refine gz_if_eq (tgt := 68) hX dX6_canBuy_52 (by decide) (fun c9 => ?_) (fun c9 => ?_)
        · have h := gz_ifp c9 h
          refine gz_iconst (v := 0) hX dX6_canBuy_68 gk_c_0 ?_
          obtain ⟨e1, e2⟩ := gz_in2 h
          exact gt_zret hX hZ rfl hF e1 e2 dX6_canBuy_69
        · have h := gz_ifn c9 h
          refine gz_iload_n (q := 4) hX dX6_canBuy_55 rfl rfl ?_
          refine gz_aload_n (q := 1) hX dX6_canBuy_56 rfl rfl ?_
          refine tg_now hX dX6_canBuy_57 ?_
          refine gz_bipush (v := 65) hX dX6_canBuy_60 gk_b_65 ?_
          refine gz_iload_n (q := 2) hX dX6_canBuy_62 rfl rfl ?_
          refine gz_iadd hX dX6_canBuy_63 ?_
          obtain ⟨b10, h⟩ := gz_gd_o h
          refine gz_iald (L := 121) hX tw_S1 (gz_inb_o b10) dX6_canBuy_64 ?_
          refine gz_icmp_le (tgt := 70) hX dX6_canBuy_65 (by decide) (fun c11 => ?_) (fun c11 => ?_)
          · have h := gz_ifp c11 h
            refine gz_aload_n (q := 1) hX dX6_canBuy_70 rfl rfl ?_
            refine gz_iload (q := 5) hX dX6_canBuy_71 rfl ?_
            refine gz_iload_n (q := 4) hX dX6_canBuy_73 rfl rfl ?_
            refine gz_iload_n (q := 3) hX dX6_canBuy_74 rfl rfl ?_
            obtain ⟨V13, e12, h⟩ := gz_bd_o h
            refine tc_V (As := [.int a4, .int a3, .int a2]) hX (c_isBy e12) (lw_isBy_ q1884) rfl rfl nn_isBy ⟨Nat.le_of_ble_eq_true rfl, Nat.le_of_ble_eq_true rfl⟩ rfl rfl (Nat.le_of_ble_eq_true rfl) dX6_canBuy_75 rfl ?_
            refine gz_iload_n (q := 4) hX dX6_canBuy_78 rfl rfl ?_
            refine gz_aload_n (q := 1) hX dX6_canBuy_79 rfl rfl ?_
            refine gz_iload (q := 0) hX dX6_canBuy_80 rfl ?_
            refine gz_iload_n (q := 2) hX dX6_canBuy_82 rfl rfl ?_
            obtain ⟨V16, r14, e15, h⟩ := gz_b2_o h
            refine tc_V (As := [.int x5, .int a1]) hX (c_asksOf e15) (lw_asksOf_ q1888) rfl rfl nn_asksOf ⟨Nat.le_of_ble_eq_true rfl, Nat.le_of_ble_eq_true rfl⟩ rfl rfl (Nat.le_of_ble_eq_true rfl) dX6_canBuy_83 rfl ?_
            refine gz_icmp_lt (tgt := 93) hX dX6_canBuy_86 (by decide) (fun c17 => ?_) (fun c17 => ?_)
            · have h := gz_ifp c17 h
              refine gz_iconst (v := 0) hX dX6_canBuy_93 gk_c_0 ?_
              obtain ⟨e1, e2⟩ := gz_in2 h
              exact gt_zret hX hZ rfl hF e1 e2 dX6_canBuy_94
            · have h := gz_ifn c17 h
              refine gz_iconst (v := 1) hX dX6_canBuy_89 gk_c_1 ?_
              refine gz_goto (tgt := 94) hX dX6_canBuy_90 (by decide) ?_
              obtain ⟨e1, e2⟩ := gz_in2 h
              exact gt_zret hX hZ rfl hF e1 e2 dX6_canBuy_94
          · have h := gz_ifn c11 h
            refine gz_iconst (v := 0) hX dX6_canBuy_68 gk_c_0 ?_
            obtain ⟨e1, e2⟩ := gz_in2 h
            exact gt_zret hX hZ rfl hF e1 e2 dX6_canBuy_69
      · have h := gz_ifp c3 h
        refine gz_iconst (v := 0) hX dX6_canBuy_32 gk_c_0 ?_
        obtain ⟨e1, e2⟩ := gz_in2 h
        exact gt_zret hX hZ rfl hF e1 e2 dX6_canBuy_33
theorem lw_canBuy_ {i : Nat} (hl : Cond.methodLink RX6 i yX6_canBuy ∈ lw_all) : GoodIn lw_all (wsV RX6 i RX6 yX6_canBuy (ws_ yX6_canBuy cX6_canBuy 6 (some .boolean))) := lw_V hl q1878 qs92 q153 q1879
theorem nn_canBuy : yX6_canBuy.cls = RX6 ∧ yX6_canBuy.cls ≠ "java/lang/invoke/MethodHandle" ∧ yX6_canBuy.cls ≠ "java/lang/invoke/VarHandle" ∧ (parseMethodDescriptor yX6_canBuy.desc).map (fun d => d.parameters.length) = some 4 := by decide +kernel
