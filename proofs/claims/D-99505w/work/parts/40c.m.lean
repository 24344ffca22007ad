/-! THE TWIN, walked. Printed by wip/D-99505w/gen/mkx6.py -/
set_option maxRecDepth 100000
theorem gk_b_121 : (Int8.ofInt 121).toInt32 = 121 := by decide
def rm_keepsAhead : Room := { frames := 0, cells := 0, slots := 0, locals := 0 }
noncomputable def m_keepsAhead_L21 (N : Nat) : Nat → gz_V → Int32 → Option (gz_V)
  | 0, _, _ => none
  | n + 1, V, v1 => (if (121 * (V (1, 0, 0) 3)) ≤ v1 then some V else gz_gd (gz_inb (v1 + 121) 726 = true) (gz_gd (gz_inb v1 726 = true) (gz_let (gz_up V (2, 2, 0) v1.toNatClampNeg (V (2, 2, 0) (v1 + 121).toNatClampNeg)) (fun V7 => m_keepsAhead_L21 N n V7 (v1 + 1)))))
theorem w_m_keepsAhead_L21 {X : gz_X} {ad : gz_A0} (hX : gz_ok X cX6_keepsAhead RX6 "keepsAhead" 2 rm_keepsAhead none) (hZ : gz_Z X) {N : Nat} {W1 : gz_V} (k : gW X 2 tw_S tw_R ad W1 0 0 53 [(0, .ref (ad (1, 0, 0)))] []) : ∀ (n : Nat) {V : gz_V} {v1 : Int32}, m_keepsAhead_L21 N n V v1 = some W1 → gW X 2 tw_S tw_R ad V 0 0 21 [(0, .ref (ad (1, 0, 0))), (1, .int v1)] [] := by
  intro n
  induction n with
  | zero => intro V v1 h; rw [m_keepsAhead_L21] at h; cases h
  | succ n ih =>
    intro V v1 h
    rw [m_keepsAhead_L21] at h
    refine gz_iload_n (q := 1) hX dX6_keepsAhead_21 rfl rfl ?_
    refine gz_bipush (v := 121) hX dX6_keepsAhead_22 gk_b_121 ?_
    refine gz_aload_n (q := 0) hX dX6_keepsAhead_24 rfl rfl ?_
    refine tg_undoable hX dX6_keepsAhead_25 ?_
    refine gz_imul hX dX6_keepsAhead_28 ?_
    refine gz_icmp_ge (tgt := 53) hX dX6_keepsAhead_29 (by decide) (fun c4 => ?_) (fun c4 => ?_)
    · have h := gz_ifp c4 h
      obtain rfl := gz_in1 h
      exact gz_lv [0] rfl k
    · have h := gz_ifn c4 h
      refine gz_aload_n (q := 0) hX dX6_keepsAhead_32 rfl rfl ?_
      refine tg_rows hX dX6_keepsAhead_33 ?_
      refine gz_iload_n (q := 1) hX dX6_keepsAhead_36 rfl rfl ?_
      refine gz_aload_n (q := 0) hX dX6_keepsAhead_37 rfl rfl ?_
      refine tg_rows hX dX6_keepsAhead_38 ?_
      refine gz_iload_n (q := 1) hX dX6_keepsAhead_41 rfl rfl ?_
      refine gz_bipush (v := 121) hX dX6_keepsAhead_42 gk_b_121 ?_
      refine gz_iadd hX dX6_keepsAhead_44 ?_
      obtain ⟨b5, h⟩ := gz_gd_o h
      refine gz_iald (L := 726) hX tw_S2 (gz_inb_o b5) dX6_keepsAhead_45 ?_
      obtain ⟨b6, h⟩ := gz_gd_o h
      obtain ⟨V7, e8, h⟩ := gz_let_o h
      refine gz_iast (L := 726) hX tw_S2 (by decide) (gz_inb_o b6) dX6_keepsAhead_46 e8 ?_
      refine gz_iinc (q := 1) (lv2 := [(1, .int (v1 + 1)), (0, .ref (ad (1, 0, 0)))]) hX dX6_keepsAhead_47 rfl gk_c_1 (by decide) rfl ?_
      refine gz_goto (tgt := 21) hX dX6_keepsAhead_50 (by decide) ?_
      exact gz_lv [1, 0] rfl (ih h)
noncomputable def m_keepsAhead_L55 (N : Nat) : Nat → gz_V → Int32 → Option (gz_V)
  | 0, _, _ => none
  | n + 1, V, v1 => (if 121 ≤ v1 then some V else gz_gd (gz_inb v1 121 = true) (gz_gd (gz_inb ((121 * (V (1, 0, 0) 3)) + v1) 726 = true) (gz_let (gz_up V (2, 2, 0) ((121 * (V (1, 0, 0) 3)) + v1).toNatClampNeg (V (2, 1, 0) v1.toNatClampNeg)) (fun V12 => m_keepsAhead_L55 N n V12 (v1 + 1)))))
theorem w_m_keepsAhead_L55 {X : gz_X} {ad : gz_A0} (hX : gz_ok X cX6_keepsAhead RX6 "keepsAhead" 2 rm_keepsAhead none) (hZ : gz_Z X) {N : Nat} {W1 : gz_V} (k : gW X 2 tw_S tw_R ad W1 0 0 87 [(0, .ref (ad (1, 0, 0)))] []) : ∀ (n : Nat) {V : gz_V} {v1 : Int32}, m_keepsAhead_L55 N n V v1 = some W1 → gW X 2 tw_S tw_R ad V 0 0 55 [(0, .ref (ad (1, 0, 0))), (1, .int v1)] [] := by
  intro n
  induction n with
  | zero => intro V v1 h; rw [m_keepsAhead_L55] at h; cases h
  | succ n ih =>
    intro V v1 h
    rw [m_keepsAhead_L55] at h
    refine gz_iload_n (q := 1) hX dX6_keepsAhead_55 rfl rfl ?_
    refine gz_bipush (v := 121) hX dX6_keepsAhead_56 gk_b_121 ?_
    refine gz_icmp_ge (tgt := 87) hX dX6_keepsAhead_58 (by decide) (fun c9 => ?_) (fun c9 => ?_)
    · have h := gz_ifp c9 h
      obtain rfl := gz_in1 h
      exact gz_lv [0] rfl k
    · have h := gz_ifn c9 h
      refine gz_aload_n (q := 0) hX dX6_keepsAhead_61 rfl rfl ?_
      refine tg_rows hX dX6_keepsAhead_62 ?_
      refine gz_bipush (v := 121) hX dX6_keepsAhead_65 gk_b_121 ?_
      refine gz_aload_n (q := 0) hX dX6_keepsAhead_67 rfl rfl ?_
      refine tg_undoable hX dX6_keepsAhead_68 ?_
      refine gz_imul hX dX6_keepsAhead_71 ?_
      refine gz_iload_n (q := 1) hX dX6_keepsAhead_72 rfl rfl ?_
      refine gz_iadd hX dX6_keepsAhead_73 ?_
      refine gz_aload_n (q := 0) hX dX6_keepsAhead_74 rfl rfl ?_
      refine tg_now hX dX6_keepsAhead_75 ?_
      refine gz_iload_n (q := 1) hX dX6_keepsAhead_78 rfl rfl ?_
      obtain ⟨b10, h⟩ := gz_gd_o h
      refine gz_iald (L := 121) hX tw_S1 (gz_inb_o b10) dX6_keepsAhead_79 ?_
      obtain ⟨b11, h⟩ := gz_gd_o h
      obtain ⟨V12, e13, h⟩ := gz_let_o h
      refine gz_iast (L := 726) hX tw_S2 (by decide) (gz_inb_o b11) dX6_keepsAhead_80 e13 ?_
      refine gz_iinc (q := 1) (lv2 := [(1, .int (v1 + 1)), (0, .ref (ad (1, 0, 0)))]) hX dX6_keepsAhead_81 rfl gk_c_1 (by decide) rfl ?_
      refine gz_goto (tgt := 55) hX dX6_keepsAhead_84 (by decide) ?_
      exact gz_lv [1, 0] rfl (ih h)
noncomputable def m_keepsAhead (N : Nat) (V : gz_V) : Option gz_V := gz_bd (if (V (1, 0, 0) 3) = 6 then gz_let (gz_up V (1, 0, 0) 3 ((V (1, 0, 0) 3) - 1)) (fun V5 => gz_bd (m_keepsAhead_L21 N N V5 0) (fun V7 => some V7)) else some V) (fun V1 => gz_bd (m_keepsAhead_L55 N N V1 0) (fun V9 => gz_let (gz_up V9 (1, 0, 0) 3 ((V9 (1, 0, 0) 3) + 1)) (fun V11 => some V11)))
theorem c_keepsAhead {l : Launch} {D : va_G} {aC : Nat → ClassId} {ad : gz_A0} {N : Nat} {V : gz_V} {W1 : gz_V} (h : m_keepsAhead N V = some W1) : gz_Met l yX6_keepsAhead cX6_keepsAhead 2 none rm_keepsAhead D aC ad tw_S V tw_R [.ref (ad (1, 0, 0))] (gz_F1 tw_S tw_R ad W1 none) 0 0 := by
  refine gt_ofW (own := RX6) (mn := "keepsAhead") (lv := [(0, .ref (ad (1, 0, 0)))]) (by decide) rfl rfl (Nat.le_of_ble_eq_true rfl) rfl ?_
  intro X hX hZ hF
  rw [m_keepsAhead] at h
  refine gz_aload_n (q := 0) hX dX6_keepsAhead_0 rfl rfl ?_
  refine tg_undoable hX dX6_keepsAhead_1 ?_
  refine gz_bipush (v := 6) hX dX6_keepsAhead_4 gk_b_6 ?_
  obtain ⟨V1, g2, h⟩ := gz_bd_o h
  have J3 : gW X 2 tw_S tw_R ad V1 0 0 53 [(0, .ref (ad (1, 0, 0)))] [] := by
    refine gz_iconst (v := 0) hX dX6_keepsAhead_53 gk_c_0 ?_
    refine gz_istore_n (lv2 := [(1, .int 0), (0, .ref (ad (1, 0, 0)))]) hX dX6_keepsAhead_54 rfl (by decide) rfl ?_
    obtain ⟨V9, e10, h⟩ := gz_bd_o h
    refine gz_lv [1, 0] rfl (w_m_keepsAhead_L55 hX hZ ?_ N e10)
    refine gz_aload_n (q := 0) hX dX6_keepsAhead_87 rfl rfl ?_
    refine gz_aload_n (q := 0) hX dX6_keepsAhead_88 rfl rfl ?_
    refine tg_undoable hX dX6_keepsAhead_89 ?_
    refine gz_iconst (v := 1) hX dX6_keepsAhead_92 gk_c_1 ?_
    refine gz_iadd hX dX6_keepsAhead_93 ?_
    obtain ⟨V11, e12, h⟩ := gz_let_o h
    refine tp_undoable hX dX6_keepsAhead_94 e12 ?_
    exact gt_vret hX hZ hF (gz_in1 h) dX6_keepsAhead_97
  refine gz_icmp_ne (tgt := 53) hX dX6_keepsAhead_6 (by decide) (fun c4 => ?_) (fun c4 => ?_)
  · have g2 := gz_ifn c4 g2
    obtain rfl := gz_in1 g2
    exact gz_lv [0] rfl J3
  · have g2 := gz_ifp c4 g2
    refine gz_aload_n (q := 0) hX dX6_keepsAhead_9 rfl rfl ?_
    refine gz_aload_n (q := 0) hX dX6_keepsAhead_10 rfl rfl ?_
    refine tg_undoable hX dX6_keepsAhead_11 ?_
    refine gz_iconst (v := 1) hX dX6_keepsAhead_14 gk_c_1 ?_
    refine gz_isub hX dX6_keepsAhead_15 ?_
    obtain ⟨V5, e6, g2⟩ := gz_let_o g2
    refine tp_undoable hX dX6_keepsAhead_16 e6 ?_
    refine gz_iconst (v := 0) hX dX6_keepsAhead_19 gk_c_0 ?_
    refine gz_istore_n (lv2 := [(1, .int 0), (0, .ref (ad (1, 0, 0)))]) hX dX6_keepsAhead_20 rfl (by decide) rfl ?_
    obtain ⟨V7, e8, g2⟩ := gz_bd_o g2
    refine gz_lv [1, 0] rfl (w_m_keepsAhead_L21 hX hZ ?_ N e8)
    obtain rfl := gz_in1 g2
    exact gz_lv [0] rfl J3
theorem lw_keepsAhead_ {i : Nat} (hl : Cond.methodLink RX6 i yX6_keepsAhead ∈ lw_all) : GoodIn lw_all (wsV RX6 i RX6 yX6_keepsAhead (ws_ yX6_keepsAhead cX6_keepsAhead 2 none)) := lw_V hl q1922 qs103 q153 q1923
theorem nn_keepsAhead : yX6_keepsAhead.cls = RX6 ∧ yX6_keepsAhead.cls ≠ "java/lang/invoke/MethodHandle" ∧ yX6_keepsAhead.cls ≠ "java/lang/invoke/VarHandle" ∧ (parseMethodDescriptor yX6_keepsAhead.desc).map (fun d => d.parameters.length) = some 0 := by decide +kernel
def rm_buys : Room := { frames := 8, cells := 0, slots := 0, locals := 195 }
noncomputable def m_buys (N : Nat) (V : gz_V) (a1 : Int32) (a2 : Int32) (a3 : Int32) (a4 : Int32) : Option (gz_V × Int32) := gz_let (gz_up V (1, 0, 0) 0 0) (fun V1 => gz_b2 (m_canBuy N V1 a1 a2 a3 a4) (fun V5 r3 => (if r3 = 0 then some (V5, (-1)) else gz_bd (m_keepsAhead N V5) (fun V8 => gz_b2 (m_bargains N V8 a1 a2 a3 a4) (fun V11 r9 => some (V11, r9))))))
theorem c_buys {l : Launch} {D : va_G} {aC : Nat → ClassId} {ad : gz_A0} {N : Nat} {V : gz_V} {a1 : Int32} {a2 : Int32} {a3 : Int32} {a4 : Int32} {W1 : gz_V} {r : Int32} (h : m_buys N V a1 a2 a3 a4 = some (W1, r)) : gz_Met l yX6_buys cX6_buys 5 (some .int) rm_buys D aC ad tw_S V tw_R [.ref (ad (1, 0, 0)), .int a1, .int a2, .int a3, .int a4] (gz_F1 tw_S tw_R ad W1 (some (.int r))) 0 0 := by
  refine gt_ofW (own := RX6) (mn := "buys") (lv := [(0, .ref (ad (1, 0, 0))), (1, .int a1), (2, .int a2), (3, .int a3), (4, .int a4)]) (by decide) rfl rfl (Nat.le_of_ble_eq_true rfl) rfl ?_
  intro X hX hZ hF
  rw [m_buys] at h
  refine gz_aload_n (q := 0) hX dX6_buys_0 rfl rfl ?_
  refine gz_iconst (v := 0) hX dX6_buys_1 gk_c_0 ?_
  obtain ⟨V1, e2, h⟩ := gz_let_o h
  refine tp_told hX dX6_buys_2 e2 ?_
  refine gz_aload_n (q := 0) hX dX6_buys_5 rfl rfl ?_
  refine gz_iload_n (q := 1) hX dX6_buys_6 rfl rfl ?_
  refine gz_iload_n (q := 2) hX dX6_buys_7 rfl rfl ?_
  refine gz_iload_n (q := 3) hX dX6_buys_8 rfl rfl ?_
  refine gz_iload (q := 4) hX dX6_buys_9 rfl ?_
  obtain ⟨V5, r3, e4, h⟩ := gz_b2_o h
  refine tc_V (As := [.int a1, .int a2, .int a3, .int a4]) hX (c_canBuy e4) (lw_canBuy_ q1876) rfl rfl nn_canBuy ⟨Nat.le_of_ble_eq_true rfl, Nat.le_of_ble_eq_true rfl⟩ rfl rfl (Nat.le_of_ble_eq_true rfl) dX6_buys_11 rfl ?_
  refine gz_if_ne (tgt := 19) hX dX6_buys_14 (by decide) (fun c6 => ?_) (fun c6 => ?_)
  · have h := gz_ifn c6 h
    refine gz_aload_n (q := 0) hX dX6_buys_19 rfl rfl ?_
    obtain ⟨V8, e7, h⟩ := gz_bd_o h
    refine tc_V (As := []) hX (c_keepsAhead e7) (lw_keepsAhead_ q1920) rfl rfl nn_keepsAhead ⟨Nat.le_of_ble_eq_true rfl, Nat.le_of_ble_eq_true rfl⟩ rfl rfl (Nat.le_of_ble_eq_true rfl) dX6_buys_20 rfl ?_
    refine gz_aload_n (q := 0) hX dX6_buys_23 rfl rfl ?_
    refine gz_iload_n (q := 1) hX dX6_buys_24 rfl rfl ?_
    refine gz_iload_n (q := 2) hX dX6_buys_25 rfl rfl ?_
    refine gz_iload_n (q := 3) hX dX6_buys_26 rfl rfl ?_
    refine gz_iload (q := 4) hX dX6_buys_27 rfl ?_
    obtain ⟨V11, r9, e10, h⟩ := gz_b2_o h
    refine tc_V (As := [.int a1, .int a2, .int a3, .int a4]) hX (c_bargains e10) (lw_bargains_ q1924) rfl rfl nn_bargains ⟨Nat.le_of_ble_eq_true rfl, Nat.le_of_ble_eq_true rfl⟩ rfl rfl (Nat.le_of_ble_eq_true rfl) dX6_buys_29 rfl ?_
    obtain ⟨e1, e2⟩ := gz_in2 h
    exact gt_iret hX hZ hF e1 e2 dX6_buys_32
  · have h := gz_ifp c6 h
    refine gz_iconst (v := (-1)) hX dX6_buys_17 gk_c_m1 ?_
    obtain ⟨e1, e2⟩ := gz_in2 h
    exact gt_iret hX hZ hF e1 e2 dX6_buys_18
theorem lw_buys_ {i : Nat} (hl : Cond.methodLink RX6 i yX6_buys ∈ lw_all) : GoodIn lw_all (wsV RX6 i RX6 yX6_buys (ws_ yX6_buys cX6_buys 5 (some .int))) := lw_V hl q1873 q1874 q153 q1875
theorem nn_buys : yX6_buys.cls = RX6 ∧ yX6_buys.cls ≠ "java/lang/invoke/MethodHandle" ∧ yX6_buys.cls ≠ "java/lang/invoke/VarHandle" ∧ (parseMethodDescriptor yX6_buys.desc).map (fun d => d.parameters.length) = some 4 := by decide +kernel
def rm_oddSet : Room := { frames := 0, cells := 0, slots := 0, locals := 0 }
noncomputable def m_oddSet_L4 (N : Nat) (V : gz_V) : Nat → Int32 → Int32 → Option (Int32)
  | 0, _, _ => none
  | n + 1, v1, v2 => (if (V (1, 0, 0) 48) ≤ v2 then some v1 else gz_gd (gz_inb v2 16 = true) (gz_gd (gz_inb v2 16 = true) (gz_let ((v1 ^^^ ((1 : Int32) <<< ((V (2, 49, 0) v2.toNatClampNeg) &&& 31))) ^^^ ((1 : Int32) <<< ((V (2, 50, 0) v2.toNatClampNeg) &&& 31))) (fun x4 => m_oddSet_L4 N V n x4 (v2 + 1)))))
theorem w_m_oddSet_L4 {X : gz_X} {ad : gz_A0} (hX : gz_ok X cX6_oddSet RX6 "oddSet" 3 rm_oddSet (some .int)) (hZ : gz_Z X) {N : Nat} {V : gz_V} {o1 : Int32} (k : gW X 3 tw_S tw_R ad V 0 0 38 [(1, .int o1)] []) : ∀ (n : Nat) {v1 : Int32} {v2 : Int32}, m_oddSet_L4 N V n v1 v2 = some o1 → gW X 3 tw_S tw_R ad V 0 0 4 [(0, .ref (ad (1, 0, 0))), (1, .int v1), (2, .int v2)] [] := by
  intro n
  induction n with
  | zero => intro v1 v2 h; rw [m_oddSet_L4] at h; cases h
  | succ n ih =>
    intro v1 v2 h
    rw [m_oddSet_L4] at h
    refine gz_iload_n (q := 2) hX dX6_oddSet_4 rfl rfl ?_
    refine gz_aload_n (q := 0) hX dX6_oddSet_5 rfl rfl ?_
    refine tg_claspMany hX dX6_oddSet_6 ?_
    refine gz_icmp_ge (tgt := 38) hX dX6_oddSet_9 (by decide) (fun c1 => ?_) (fun c1 => ?_)
    · have h := gz_ifp c1 h
      obtain rfl := gz_in1 h
      exact gz_lv [1] rfl k
    · have h := gz_ifn c1 h
      refine gz_iload_n (q := 1) hX dX6_oddSet_12 rfl rfl ?_
      refine gz_iconst (v := 1) hX dX6_oddSet_13 gk_c_1 ?_
      refine gz_aload_n (q := 0) hX dX6_oddSet_14 rfl rfl ?_
      refine tg_claspOne hX dX6_oddSet_15 ?_
      refine gz_iload_n (q := 2) hX dX6_oddSet_18 rfl rfl ?_
      obtain ⟨b2, h⟩ := gz_gd_o h
      refine gz_iald (L := 16) hX tw_S49 (gz_inb_o b2) dX6_oddSet_19 ?_
      refine gz_ishl hX dX6_oddSet_20 ?_
      refine gz_ixor hX dX6_oddSet_21 ?_
      refine gz_iconst (v := 1) hX dX6_oddSet_22 gk_c_1 ?_
      refine gz_aload_n (q := 0) hX dX6_oddSet_23 rfl rfl ?_
      refine tg_claspOther hX dX6_oddSet_24 ?_
      refine gz_iload_n (q := 2) hX dX6_oddSet_27 rfl rfl ?_
      obtain ⟨b3, h⟩ := gz_gd_o h
      refine gz_iald (L := 16) hX tw_S50 (gz_inb_o b3) dX6_oddSet_28 ?_
      refine gz_ishl hX dX6_oddSet_29 ?_
      refine gz_ixor hX dX6_oddSet_30 ?_
      obtain ⟨x4, e5, h⟩ := gz_let_o h
      refine gz_nm e5 ?_
      refine gz_istore_n (lv2 := [(1, .int x4), (0, .ref (ad (1, 0, 0))), (2, .int v2)]) hX dX6_oddSet_31 rfl (by decide) rfl ?_
      refine gz_iinc (q := 2) (lv2 := [(2, .int (v2 + 1)), (1, .int x4), (0, .ref (ad (1, 0, 0)))]) hX dX6_oddSet_32 rfl gk_c_1 (by decide) rfl ?_
      refine gz_goto (tgt := 4) hX dX6_oddSet_35 (by decide) ?_
      exact gz_lv [2, 1, 0] rfl (ih h)
noncomputable def m_oddSet (N : Nat) (V : gz_V) : Option Int32 := gz_bd (m_oddSet_L4 N V N 0 0) (fun x1 => some x1)
theorem c_oddSet {l : Launch} {D : va_G} {aC : Nat → ClassId} {ad : gz_A0} {N : Nat} {V : gz_V} {r : Int32} (h : m_oddSet N V = some r) : gz_Met l yX6_oddSet cX6_oddSet 3 (some .int) rm_oddSet D aC ad tw_S V tw_R [.ref (ad (1, 0, 0))] (gz_F1 tw_S tw_R ad V (some (.int r))) 0 0 := by
  refine gt_ofW (own := RX6) (mn := "oddSet") (lv := [(0, .ref (ad (1, 0, 0)))]) (by decide) rfl rfl (Nat.le_of_ble_eq_true rfl) rfl ?_
  intro X hX hZ hF
  rw [m_oddSet] at h
  refine gz_iconst (v := 0) hX dX6_oddSet_0 gk_c_0 ?_
  refine gz_istore_n (lv2 := [(1, .int 0), (0, .ref (ad (1, 0, 0)))]) hX dX6_oddSet_1 rfl (by decide) rfl ?_
  refine gz_iconst (v := 0) hX dX6_oddSet_2 gk_c_0 ?_
  refine gz_istore_n (lv2 := [(2, .int 0), (1, .int 0), (0, .ref (ad (1, 0, 0)))]) hX dX6_oddSet_3 rfl (by decide) rfl ?_
  obtain ⟨x1, e2, h⟩ := gz_bd_o h
  refine gz_lv [2, 1, 0] rfl (w_m_oddSet_L4 hX hZ ?_ N e2)
  refine gz_iload_n (q := 0) hX dX6_oddSet_38 rfl rfl ?_
  exact gt_iret hX hZ hF rfl (gz_in1 h) dX6_oddSet_39
theorem lw_oddSet_ {i : Nat} (hl : Cond.methodLink RX6 i yX6_oddSet ∈ lw_all) : GoodIn lw_all (wsV RX6 i RX6 yX6_oddSet (ws_ yX6_oddSet cX6_oddSet 3 (some .int))) := lw_V hl q2052 qs122 q153 q2053
theorem nn_oddSet : yX6_oddSet.cls = RX6 ∧ yX6_oddSet.cls ≠ "java/lang/invoke/MethodHandle" ∧ yX6_oddSet.cls ≠ "java/lang/invoke/VarHandle" ∧ (parseMethodDescriptor yX6_oddSet.desc).map (fun d => d.parameters.length) = some 0 := by decide +kernel
def rm_reachedBy : Room := { frames := 1, cells := 0, slots := 0, locals := 22 }
noncomputable def m_reachedBy_L7 (N : Nat) (V : gz_V) (v2 : Int32) : Nat → Int32 → Int32 → Option (Int32)
  | 0, _, _ => none
  | n + 1, v3, v4 => (if v2 ≤ v4 then some v3 else gz_gd (gz_inb v4 16 = true) (gz_bd (if (m_has v3 (V (2, 49, 0) v4.toNatClampNeg)) = 0 then gz_gd (gz_inb v4 16 = true) ((if (m_has v3 (V (2, 50, 0) v4.toNatClampNeg)) = 0 then some v3 else gz_gd (gz_inb v4 16 = true) (gz_gd (gz_inb v4 16 = true) (gz_let ((v3 ||| ((1 : Int32) <<< ((V (2, 49, 0) v4.toNatClampNeg) &&& 31))) ||| ((1 : Int32) <<< ((V (2, 50, 0) v4.toNatClampNeg) &&& 31))) (fun x17 => some x17))))) else gz_gd (gz_inb v4 16 = true) (gz_gd (gz_inb v4 16 = true) (gz_let ((v3 ||| ((1 : Int32) <<< ((V (2, 49, 0) v4.toNatClampNeg) &&& 31))) ||| ((1 : Int32) <<< ((V (2, 50, 0) v4.toNatClampNeg) &&& 31))) (fun x11 => some x11)))) (fun y5 => m_reachedBy_L7 N V v2 n y5 (v4 + 1))))
theorem w_m_reachedBy_L7 {X : gz_X} {ad : gz_A0} (hX : gz_ok X cX6_reachedBy RX6 "reachedBy" 5 rm_reachedBy (some .int)) (hZ : gz_Z X) {N : Nat} {V : gz_V} {v2 : Int32} {o3 : Int32} (k : gW X 5 tw_S tw_R ad V 0 0 71 [(3, .int o3)] []) : ∀ (n : Nat) {v3 : Int32} {v4 : Int32}, m_reachedBy_L7 N V v2 n v3 v4 = some o3 → gW X 5 tw_S tw_R ad V 0 0 7 [(0, .ref (ad (1, 0, 0))), (2, .int v2), (3, .int v3), (4, .int v4)] [] := by
  intro n
  induction n with
  | zero => intro v3 v4 h; rw [m_reachedBy_L7] at h; cases h
  | succ n ih =>
    intro v3 v4 h
    rw [m_reachedBy_L7] at h
    refine gz_iload (q := 3) hX dX6_reachedBy_7 rfl ?_
    refine gz_iload_n (q := 1) hX dX6_reachedBy_9 rfl rfl ?_
    refine gz_icmp_ge (tgt := 71) hX dX6_reachedBy_10 (by decide) (fun c3 => ?_) (fun c3 => ?_)
    · have h := gz_ifp c3 h
      obtain rfl := gz_in1 h
      exact gz_lv [2] rfl k
    · have h := gz_ifn c3 h
      refine gz_aload_n (q := 0) hX dX6_reachedBy_13 rfl rfl ?_
      refine gz_iload_n (q := 2) hX dX6_reachedBy_14 rfl rfl ?_
      refine gz_aload_n (q := 0) hX dX6_reachedBy_15 rfl rfl ?_
      refine tg_claspOne hX dX6_reachedBy_16 ?_
      refine gz_iload (q := 3) hX dX6_reachedBy_19 rfl ?_
      obtain ⟨b4, h⟩ := gz_gd_o h
      refine gz_iald (L := 16) hX tw_S49 (gz_inb_o b4) dX6_reachedBy_21 ?_
      refine tc_V (As := [.int v3, .int (V (2, 49, 0) v4.toNatClampNeg)]) hX (c_has rfl) (lw_has_ q1900) rfl rfl nn_has ⟨Nat.le_of_ble_eq_true rfl, Nat.le_of_ble_eq_true rfl⟩ rfl rfl (Nat.le_of_ble_eq_true rfl) dX6_reachedBy_22 rfl ?_
      obtain ⟨y5, g6, h⟩ := gz_bd_o h
      have J7 : gW X 5 tw_S tw_R ad V 0 0 65 [(0, .ref (ad (1, 0, 0))), (2, .int v2), (3, .int y5), (4, .int v4)] [] := by
        refine gz_iinc (q := 3) (lv2 := [(4, .int (v4 + 1)), (0, .ref (ad (1, 0, 0))), (2, .int v2), (3, .int y5)]) hX dX6_reachedBy_65 rfl gk_c_1 (by decide) rfl ?_
        refine gz_goto (tgt := 7) hX dX6_reachedBy_68 (by decide) ?_
        exact gz_lv [1, 2, 3, 0] rfl (ih h)
      refine gz_if_ne (tgt := 43) hX dX6_reachedBy_25 (by decide) (fun c8 => ?_) (fun c8 => ?_)
      · have g6 := gz_ifn c8 g6
        refine gz_iload_n (q := 2) hX dX6_reachedBy_43 rfl rfl ?_
        refine gz_iconst (v := 1) hX dX6_reachedBy_44 gk_c_1 ?_
        refine gz_aload_n (q := 0) hX dX6_reachedBy_45 rfl rfl ?_
        refine tg_claspOne hX dX6_reachedBy_46 ?_
        refine gz_iload (q := 3) hX dX6_reachedBy_49 rfl ?_
        obtain ⟨b9, g6⟩ := gz_gd_o g6
        refine gz_iald (L := 16) hX tw_S49 (gz_inb_o b9) dX6_reachedBy_51 ?_
        refine gz_ishl hX dX6_reachedBy_52 ?_
        refine gz_ior hX dX6_reachedBy_53 ?_
        refine gz_iconst (v := 1) hX dX6_reachedBy_54 gk_c_1 ?_
        refine gz_aload_n (q := 0) hX dX6_reachedBy_55 rfl rfl ?_
        refine tg_claspOther hX dX6_reachedBy_56 ?_
        refine gz_iload (q := 3) hX dX6_reachedBy_59 rfl ?_
        obtain ⟨b10, g6⟩ := gz_gd_o g6
        refine gz_iald (L := 16) hX tw_S50 (gz_inb_o b10) dX6_reachedBy_61 ?_
        refine gz_ishl hX dX6_reachedBy_62 ?_
        refine gz_ior hX dX6_reachedBy_63 ?_
        obtain ⟨x11, e12, g6⟩ := gz_let_o g6
        refine gz_nm e12 ?_
        refine gz_istore_n (lv2 := [(3, .int x11), (0, .ref (ad (1, 0, 0))), (2, .int v2), (4, .int v4)]) hX dX6_reachedBy_64 rfl (by decide) rfl ?_
        obtain rfl := gz_in1 g6
        exact gz_lv [1, 2, 0, 3] rfl J7
      · have g6 := gz_ifp c8 g6
        refine gz_aload_n (q := 0) hX dX6_reachedBy_28 rfl rfl ?_
        refine gz_iload_n (q := 2) hX dX6_reachedBy_29 rfl rfl ?_
        refine gz_aload_n (q := 0) hX dX6_reachedBy_30 rfl rfl ?_
        refine tg_claspOther hX dX6_reachedBy_31 ?_
        refine gz_iload (q := 3) hX dX6_reachedBy_34 rfl ?_
        obtain ⟨b13, g6⟩ := gz_gd_o g6
        refine gz_iald (L := 16) hX tw_S50 (gz_inb_o b13) dX6_reachedBy_36 ?_
        refine tc_V (As := [.int v3, .int (V (2, 50, 0) v4.toNatClampNeg)]) hX (c_has rfl) (lw_has_ q1900) rfl rfl nn_has ⟨Nat.le_of_ble_eq_true rfl, Nat.le_of_ble_eq_true rfl⟩ rfl rfl (Nat.le_of_ble_eq_true rfl) dX6_reachedBy_37 rfl ?_
        refine gz_if_eq (tgt := 65) hX dX6_reachedBy_40 (by decide) (fun c14 => ?_) (fun c14 => ?_)
        · have g6 := gz_ifp c14 g6
          obtain rfl := gz_in1 g6
          exact gz_lv [0, 1, 2, 3] rfl J7
        · have g6 := gz_ifn c14 g6
          refine gz_iload_n (q := 2) hX dX6_reachedBy_43 rfl rfl ?_
          refine gz_iconst (v := 1) hX dX6_reachedBy_44 gk_c_1 ?_
          refine gz_aload_n (q := 0) hX dX6_reachedBy_45 rfl rfl ?_
          refine tg_claspOne hX dX6_reachedBy_46 ?_
          refine gz_iload (q := 3) hX dX6_reachedBy_49 rfl ?_
          obtain ⟨b15, g6⟩ := gz_gd_o g6
          refine gz_iald (L := 16) hX tw_S49 (gz_inb_o b15) dX6_reachedBy_51 ?_
          refine gz_ishl hX dX6_reachedBy_52 ?_
          refine gz_ior hX dX6_reachedBy_53 ?_
          refine gz_iconst (v := 1) hX dX6_reachedBy_54 gk_c_1 ?_
          refine gz_aload_n (q := 0) hX dX6_reachedBy_55 rfl rfl ?_
          refine tg_claspOther hX dX6_reachedBy_56 ?_
          refine gz_iload (q := 3) hX dX6_reachedBy_59 rfl ?_
          obtain ⟨b16, g6⟩ := gz_gd_o g6
          refine gz_iald (L := 16) hX tw_S50 (gz_inb_o b16) dX6_reachedBy_61 ?_
          refine gz_ishl hX dX6_reachedBy_62 ?_
          refine gz_ior hX dX6_reachedBy_63 ?_
          obtain ⟨x17, e18, g6⟩ := gz_let_o g6
          refine gz_nm e18 ?_
          refine gz_istore_n (lv2 := [(3, .int x17), (0, .ref (ad (1, 0, 0))), (2, .int v2), (4, .int v4)]) hX dX6_reachedBy_64 rfl (by decide) rfl ?_
          obtain rfl := gz_in1 g6
          exact gz_lv [1, 2, 0, 3] rfl J7
noncomputable def m_reachedBy (N : Nat) (V : gz_V) (a1 : Int32) (a2 : Int32) : Option Int32 := gz_let ((1 : Int32) <<< (a1 &&& 31)) (fun x1 => gz_bd (m_reachedBy_L7 N V a2 N x1 0) (fun x3 => some x3))
theorem c_reachedBy {l : Launch} {D : va_G} {aC : Nat → ClassId} {ad : gz_A0} {N : Nat} {V : gz_V} {a1 : Int32} {a2 : Int32} {r : Int32} (h : m_reachedBy N V a1 a2 = some r) : gz_Met l yX6_reachedBy cX6_reachedBy 5 (some .int) rm_reachedBy D aC ad tw_S V tw_R [.ref (ad (1, 0, 0)), .int a1, .int a2] (gz_F1 tw_S tw_R ad V (some (.int r))) 0 0 := by
  refine gt_ofW (own := RX6) (mn := "reachedBy") (lv := [(0, .ref (ad (1, 0, 0))), (1, .int a1), (2, .int a2)]) (by decide) rfl rfl (Nat.le_of_ble_eq_true rfl) rfl ?_
  intro X hX hZ hF
  rw [m_reachedBy] at h
  refine gz_iconst (v := 1) hX dX6_reachedBy_0 gk_c_1 ?_
  refine gz_iload_n (q := 1) hX dX6_reachedBy_1 rfl rfl ?_
  refine gz_ishl hX dX6_reachedBy_2 ?_
  obtain ⟨x1, e2, h⟩ := gz_let_o h
  refine gz_nm e2 ?_
  refine gz_istore_n (lv2 := [(3, .int x1), (0, .ref (ad (1, 0, 0))), (1, .int a1), (2, .int a2)]) hX dX6_reachedBy_3 rfl (by decide) rfl ?_
  refine gz_iconst (v := 0) hX dX6_reachedBy_4 gk_c_0 ?_
  refine gz_istore (lv2 := [(4, .int 0), (3, .int x1), (0, .ref (ad (1, 0, 0))), (1, .int a1), (2, .int a2)]) hX dX6_reachedBy_5 (by decide) rfl ?_
  obtain ⟨x3, e4, h⟩ := gz_bd_o h
  refine gz_lv [2, 4, 1, 0] rfl (w_m_reachedBy_L7 hX hZ ?_ N e4)
  refine gz_iload_n (q := 0) hX dX6_reachedBy_71 rfl rfl ?_
  exact gt_iret hX hZ hF rfl (gz_in1 h) dX6_reachedBy_72
theorem lw_reachedBy_ {i : Nat} (hl : Cond.methodLink RX6 i yX6_reachedBy ∈ lw_all) : GoodIn lw_all (wsV RX6 i RX6 yX6_reachedBy (ws_ yX6_reachedBy cX6_reachedBy 5 (some .int))) := lw_V hl q2056 qs123 q153 q2057
theorem nn_reachedBy : yX6_reachedBy.cls = RX6 ∧ yX6_reachedBy.cls ≠ "java/lang/invoke/MethodHandle" ∧ yX6_reachedBy.cls ≠ "java/lang/invoke/VarHandle" ∧ (parseMethodDescriptor yX6_reachedBy.desc).map (fun d => d.parameters.length) = some 2 := by decide +kernel
theorem gk_b_11 : (Int8.ofInt 11).toInt32 = 11 := by decide
def rm_came : Room := { frames := 2, cells := 0, slots := 0, locals := 46 }
noncomputable def m_came_L56 (N : Nat) (V : gz_V) (v1 : Int32) (v2 : Int32) : Nat → Int32 → Option ((gz_V × Int32) ⊕ (Unit))
  | 0, _ => none
  | n + 1, v3 => (if (V (1, 0, 0) 48) ≤ v3 then some (.inr ()) else (if v1 = v2 then m_came_L56 N V v1 v2 n (v3 + 1) else gz_bd (m_reachedBy N V v1 (v3 + 1)) (fun r9 => (if (m_has r9 v2) = 0 then m_came_L56 N V v1 v2 n (v3 + 1) else some (.inl (V, v3))))))
theorem w_m_came_L56 {X : gz_X} {ad : gz_A0} (hX : gz_ok X cX6_came RX6 "came" 4 rm_came (some .int)) (hZ : gz_Z X) {N : Nat} {V : gz_V} {v1 : Int32} {v2 : Int32} {out : (gz_V × Int32) ⊕ (Unit)} (hout : (∃ (W2 : gz_V) (r : Int32), out = .inl (W2, r) ∧ gx_F X tw_S W2 tw_R ad (some (.int r))) ∨ (out = .inr () ∧ gW X 4 tw_S tw_R ad V 0 0 93 [] [])) : ∀ (n : Nat) {v3 : Int32}, m_came_L56 N V v1 v2 n v3 = some out → gW X 4 tw_S tw_R ad V 0 0 56 [(0, .ref (ad (1, 0, 0))), (1, .int v1), (2, .int v2), (3, .int v3)] [] := by
  intro n
  induction n with
  | zero => intro v3 h; rw [m_came_L56] at h; cases h
  | succ n ih =>
    intro v3 h
    rw [m_came_L56] at h
    refine gz_iload_n (q := 3) hX dX6_came_56 rfl rfl ?_
    refine gz_aload_n (q := 0) hX dX6_came_57 rfl rfl ?_
    refine tg_claspMany hX dX6_came_58 ?_
    refine gz_icmp_ge (tgt := 93) hX dX6_came_61 (by decide) (fun c7 => ?_) (fun c7 => ?_)
    · have h := gz_ifp c7 h
      obtain rfl := gz_in1 h
      obtain ⟨_, _, e0, _⟩ | ⟨e0, k⟩ := hout
      · cases e0
      · cases e0
        exact gz_lv [] rfl k
    · have h := gz_ifn c7 h
      refine gz_iload_n (q := 1) hX dX6_came_64 rfl rfl ?_
      refine gz_iload_n (q := 2) hX dX6_came_65 rfl rfl ?_
      refine gz_icmp_eq (tgt := 87) hX dX6_came_66 (by decide) (fun c8 => ?_) (fun c8 => ?_)
      · have h := gz_ifp c8 h
        refine gz_iinc (q := 3) (lv2 := [(3, .int (v3 + 1)), (0, .ref (ad (1, 0, 0))), (1, .int v1), (2, .int v2)]) hX dX6_came_87 rfl gk_c_1 (by decide) rfl ?_
        refine gz_goto (tgt := 56) hX dX6_came_90 (by decide) ?_
        exact gz_lv [1, 2, 3, 0] rfl (ih h)
      · have h := gz_ifn c8 h
        refine gz_aload_n (q := 0) hX dX6_came_69 rfl rfl ?_
        refine gz_aload_n (q := 0) hX dX6_came_70 rfl rfl ?_
        refine gz_iload_n (q := 1) hX dX6_came_71 rfl rfl ?_
        refine gz_iload_n (q := 3) hX dX6_came_72 rfl rfl ?_
        refine gz_iconst (v := 1) hX dX6_came_73 gk_c_1 ?_
        refine gz_iadd hX dX6_came_74 ?_
        obtain ⟨r9, e10, h⟩ := gz_bd_o h
        refine tc_V (As := [.int v1, .int (v3 + 1)]) hX (c_reachedBy e10) (lw_reachedBy_ q2054) rfl rfl nn_reachedBy ⟨Nat.le_of_ble_eq_true rfl, Nat.le_of_ble_eq_true rfl⟩ rfl rfl (Nat.le_of_ble_eq_true rfl) dX6_came_75 rfl ?_
        refine gz_iload_n (q := 2) hX dX6_came_78 rfl rfl ?_
        refine tc_V (As := [.int r9, .int v2]) hX (c_has rfl) (lw_has_ q1900) rfl rfl nn_has ⟨Nat.le_of_ble_eq_true rfl, Nat.le_of_ble_eq_true rfl⟩ rfl rfl (Nat.le_of_ble_eq_true rfl) dX6_came_79 rfl ?_
        refine gz_if_eq (tgt := 87) hX dX6_came_82 (by decide) (fun c11 => ?_) (fun c11 => ?_)
        · have h := gz_ifp c11 h
          refine gz_iinc (q := 3) (lv2 := [(3, .int (v3 + 1)), (0, .ref (ad (1, 0, 0))), (1, .int v1), (2, .int v2)]) hX dX6_came_87 rfl gk_c_1 (by decide) rfl ?_
          refine gz_goto (tgt := 56) hX dX6_came_90 (by decide) ?_
          exact gz_lv [1, 2, 3, 0] rfl (ih h)
        · have h := gz_ifn c11 h
          refine gz_iload_n (q := 3) hX dX6_came_85 rfl rfl ?_
          obtain rfl := gz_in1 h
          obtain ⟨_, _, e0, hF⟩ | ⟨e0, _⟩ := hout
          · cases e0
            exact gt_iret hX hZ hF rfl rfl dX6_came_86
          · cases e0
noncomputable def m_came (N : Nat) (V : gz_V) (a1 : Int32) (a2 : Int32) : Option (gz_V × Int32) := gz_let (gz_up V (1, 0, 0) 0 0) (fun V1 => (if a1 = (-1) then gz_bd (m_oddSet N V1) (fun r11 => some (V1, r11)) else (if (m_isIn a1 0 11) = 0 then some (V1, (-1)) else (if (m_isIn a2 (-1) 11) = 0 then some (V1, (-1)) else (if a2 = (-1) then gz_bd (m_reachedBy N V1 a1 (V1 (1, 0, 0) 48)) (fun r9 => some (V1, r9)) else gz_lp (m_came_L56 N V1 a1 a2 N 0) some (fun _ => some (V1, (-1))))))))
theorem c_came {l : Launch} {D : va_G} {aC : Nat → ClassId} {ad : gz_A0} {N : Nat} {V : gz_V} {a1 : Int32} {a2 : Int32} {W1 : gz_V} {r : Int32} (h : m_came N V a1 a2 = some (W1, r)) : gz_Met l yX6_came cX6_came 4 (some .int) rm_came D aC ad tw_S V tw_R [.ref (ad (1, 0, 0)), .int a1, .int a2] (gz_F1 tw_S tw_R ad W1 (some (.int r))) 0 0 := by
  refine gt_ofW (own := RX6) (mn := "came") (lv := [(0, .ref (ad (1, 0, 0))), (1, .int a1), (2, .int a2)]) (by decide) rfl rfl (Nat.le_of_ble_eq_true rfl) rfl ?_
  intro X hX hZ hF
  rw [m_came] at h
  refine gz_aload_n (q := 0) hX dX6_came_0 rfl rfl ?_
  refine gz_iconst (v := 0) hX dX6_came_1 gk_c_0 ?_
  obtain ⟨V1, e2, h⟩ := gz_let_o h
  refine tp_told hX dX6_came_2 e2 ?_
  refine gz_iload_n (q := 1) hX dX6_came_5 rfl rfl ?_
  refine gz_iconst (v := (-1)) hX dX6_came_6 gk_c_m1 ?_
  refine gz_icmp_ne (tgt := 15) hX dX6_came_7 (by decide) (fun c3 => ?_) (fun c3 => ?_)
  · have h := gz_ifn c3 h
    refine gz_aload_n (q := 0) hX dX6_came_15 rfl rfl ?_
    refine gz_iload_n (q := 1) hX dX6_came_16 rfl rfl ?_
    refine gz_iconst (v := 0) hX dX6_came_17 gk_c_0 ?_
    refine gz_bipush (v := 11) hX dX6_came_18 gk_b_11 ?_
    refine tc_V (As := [.int a1, .int 0, .int 11]) hX (c_isIn rfl) (lw_isIn_ q1692) rfl rfl nn_isIn ⟨Nat.le_of_ble_eq_true rfl, Nat.le_of_ble_eq_true rfl⟩ rfl rfl (Nat.le_of_ble_eq_true rfl) dX6_came_20 rfl ?_
    refine gz_if_eq (tgt := 37) hX dX6_came_23 (by decide) (fun c4 => ?_) (fun c4 => ?_)
    · have h := gz_ifp c4 h
      refine gz_iconst (v := (-1)) hX dX6_came_37 gk_c_m1 ?_
      obtain ⟨e1, e2⟩ := gz_in2 h
      exact gt_iret hX hZ hF e1 e2 dX6_came_38
    · have h := gz_ifn c4 h
      refine gz_aload_n (q := 0) hX dX6_came_26 rfl rfl ?_
      refine gz_iload_n (q := 2) hX dX6_came_27 rfl rfl ?_
      refine gz_iconst (v := (-1)) hX dX6_came_28 gk_c_m1 ?_
      refine gz_bipush (v := 11) hX dX6_came_29 gk_b_11 ?_
      refine tc_V (As := [.int a2, .int (-1), .int 11]) hX (c_isIn rfl) (lw_isIn_ q1692) rfl rfl nn_isIn ⟨Nat.le_of_ble_eq_true rfl, Nat.le_of_ble_eq_true rfl⟩ rfl rfl (Nat.le_of_ble_eq_true rfl) dX6_came_31 rfl ?_
      refine gz_if_ne (tgt := 39) hX dX6_came_34 (by decide) (fun c5 => ?_) (fun c5 => ?_)
      · have h := gz_ifn c5 h
        refine gz_iload_n (q := 2) hX dX6_came_39 rfl rfl ?_
        refine gz_iconst (v := (-1)) hX dX6_came_40 gk_c_m1 ?_
        refine gz_icmp_ne (tgt := 54) hX dX6_came_41 (by decide) (fun c6 => ?_) (fun c6 => ?_)
        · have h := gz_ifn c6 h
          refine gz_iconst (v := 0) hX dX6_came_54 gk_c_0 ?_
          refine gz_istore_n (lv2 := [(3, .int 0), (0, .ref (ad (1, 0, 0))), (1, .int a1), (2, .int a2)]) hX dX6_came_55 rfl (by decide) rfl ?_
          rcases gz_lp_o h with ⟨p8, e7, h⟩ | ⟨_, e7, h⟩
          · obtain rfl := gz_in1 h
            exact gz_lv [1, 2, 3, 0] rfl (w_m_came_L56 hX hZ (Or.inl ⟨_, _, rfl, hF⟩) N e7)
          · refine gz_lv [1, 2, 3, 0] rfl (w_m_came_L56 hX hZ (Or.inr ⟨rfl, ?_⟩) N e7)
            refine gz_iconst (v := (-1)) hX dX6_came_93 gk_c_m1 ?_
            obtain ⟨e1, e2⟩ := gz_in2 h
            exact gt_iret hX hZ hF e1 e2 dX6_came_94
        · have h := gz_ifp c6 h
          refine gz_aload_n (q := 0) hX dX6_came_44 rfl rfl ?_
          refine gz_iload_n (q := 1) hX dX6_came_45 rfl rfl ?_
          refine gz_aload_n (q := 0) hX dX6_came_46 rfl rfl ?_
          refine tg_claspMany hX dX6_came_47 ?_
          obtain ⟨r9, e10, h⟩ := gz_bd_o h
          refine tc_V (As := [.int a1, .int (V1 (1, 0, 0) 48)]) hX (c_reachedBy e10) (lw_reachedBy_ q2054) rfl rfl nn_reachedBy ⟨Nat.le_of_ble_eq_true rfl, Nat.le_of_ble_eq_true rfl⟩ rfl rfl (Nat.le_of_ble_eq_true rfl) dX6_came_50 rfl ?_
          obtain ⟨e1, e2⟩ := gz_in2 h
          exact gt_iret hX hZ hF e1 e2 dX6_came_53
      · have h := gz_ifp c5 h
        refine gz_iconst (v := (-1)) hX dX6_came_37 gk_c_m1 ?_
        obtain ⟨e1, e2⟩ := gz_in2 h
        exact gt_iret hX hZ hF e1 e2 dX6_came_38
  · have h := gz_ifp c3 h
    refine gz_aload_n (q := 0) hX dX6_came_10 rfl rfl ?_
    obtain ⟨r11, e12, h⟩ := gz_bd_o h
    refine tc_V (As := []) hX (c_oddSet e12) (lw_oddSet_ q2050) rfl rfl nn_oddSet ⟨Nat.le_of_ble_eq_true rfl, Nat.le_of_ble_eq_true rfl⟩ rfl rfl (Nat.le_of_ble_eq_true rfl) dX6_came_11 rfl ?_
    obtain ⟨e1, e2⟩ := gz_in2 h
    exact gt_iret hX hZ hF e1 e2 dX6_came_14
theorem lw_came_ {i : Nat} (hl : Cond.methodLink RX6 i yX6_came ∈ lw_all) : GoodIn lw_all (wsV RX6 i RX6 yX6_came (ws_ yX6_came cX6_came 4 (some .int))) := lw_V hl q2047 q2048 q153 q2049
theorem nn_came : yX6_came.cls = RX6 ∧ yX6_came.cls ≠ "java/lang/invoke/MethodHandle" ∧ yX6_came.cls ≠ "java/lang/invoke/VarHandle" ∧ (parseMethodDescriptor yX6_came.desc).map (fun d => d.parameters.length) = some 2 := by decide +kernel
theorem gk_b_17 : (Int8.ofInt 17).toInt32 = 17 := by decide
def rm_canAsk : Room := { frames := 1, cells := 0, slots := 0, locals := 23 }
noncomputable def m_canAsk (a1 : Int32) : Int32 := (m_isIn a1 7 17)
theorem c_canAsk {l : Launch} {D : va_G} {aC : Nat → ClassId} {ad : gz_A0} {V : gz_V} {a1 : Int32} {r : Int32} (h : m_canAsk a1 = r) : gz_Met l yX6_canAsk cX6_canAsk 2 (some .boolean) rm_canAsk D aC ad tw_S V tw_R [.ref (ad (1, 0, 0)), .int a1] (gz_F1 tw_S tw_R ad V (some (.int r))) 0 0 := by
  refine gt_ofW (own := RX6) (mn := "canAsk") (lv := [(0, .ref (ad (1, 0, 0))), (1, .int a1)]) (by decide) rfl rfl (Nat.le_of_ble_eq_true rfl) rfl ?_
  intro X hX hZ hF
  rw [m_canAsk] at h
  refine gz_aload_n (q := 0) hX dX6_canAsk_0 rfl rfl ?_
  refine gz_iload_n (q := 1) hX dX6_canAsk_1 rfl rfl ?_
  refine gz_bipush (v := 7) hX dX6_canAsk_2 gk_b_7 ?_
  refine gz_bipush (v := 17) hX dX6_canAsk_4 gk_b_17 ?_
  refine tc_V (As := [.int a1, .int 7, .int 17]) hX (c_isIn rfl) (lw_isIn_ q1692) rfl rfl nn_isIn ⟨Nat.le_of_ble_eq_true rfl, Nat.le_of_ble_eq_true rfl⟩ rfl rfl (Nat.le_of_ble_eq_true rfl) dX6_canAsk_6 rfl ?_
  exact gt_zret hX hZ (gz_nb b_isIn) hF rfl h dX6_canAsk_9
theorem lw_canAsk_ {i : Nat} (hl : Cond.methodLink RX6 i yX6_canAsk ∈ lw_all) : GoodIn lw_all (wsV RX6 i RX6 yX6_canAsk (ws_ yX6_canAsk cX6_canAsk 2 (some .boolean))) := lw_V hl q1838 qs84 q153 q1839
theorem nn_canAsk : yX6_canAsk.cls = RX6 ∧ yX6_canAsk.cls ≠ "java/lang/invoke/MethodHandle" ∧ yX6_canAsk.cls ≠ "java/lang/invoke/VarHandle" ∧ (parseMethodDescriptor yX6_canAsk.desc).map (fun d => d.parameters.length) = some 1 := by decide +kernel
theorem b_canAsk {a1 : Int32} : m_canAsk a1 = 0 ∨ m_canAsk a1 = 1 := by
  unfold m_canAsk
  try simp only [gz_let]
  repeat' split
  all_goals first | exact Or.inl rfl | exact Or.inr rfl | exact b_isIn
def rm_canSet : Room := { frames := 1, cells := 0, slots := 0, locals := 23 }
noncomputable def m_canSet (V : gz_V) (a1 : Int32) (a2 : Int32) (a3 : Int32) : Int32 := (if (m_isIn a1 0 5) = 0 then (if (m_isIn a1 6 7) = 0 then 0 else (if (m_isHorse V a2) = 0 then 0 else gz_let (if a1 = 6 then (999 : Int32) else (9 : Int32)) (fun y4 => (if (m_isIn a3 0 y4) = 0 then 0 else 1)))) else (if (m_isPerson V a2) = 0 then 0 else gz_let (if a1 = 5 then (9999 : Int32) else (999 : Int32)) (fun y10 => (if (m_isIn a3 0 y10) = 0 then 0 else 1))))
theorem c_canSet {l : Launch} {D : va_G} {aC : Nat → ClassId} {ad : gz_A0} {V : gz_V} {a1 : Int32} {a2 : Int32} {a3 : Int32} {r : Int32} (h : m_canSet V a1 a2 a3 = r) : gz_Met l yX6_canSet cX6_canSet 4 (some .boolean) rm_canSet D aC ad tw_S V tw_R [.ref (ad (1, 0, 0)), .int a1, .int a2, .int a3] (gz_F1 tw_S tw_R ad V (some (.int r))) 0 0 := by
  refine gt_ofW (own := RX6) (mn := "canSet") (lv := [(0, .ref (ad (1, 0, 0))), (1, .int a1), (2, .int a2), (3, .int a3)]) (by decide) rfl rfl (Nat.le_of_ble_eq_true rfl) rfl ?_
  intro X hX hZ hF
  rw [m_canSet] at h
  refine gz_aload_n (q := 0) hX dX6_canSet_0 rfl rfl ?_
  refine gz_iload_n (q := 1) hX dX6_canSet_1 rfl rfl ?_
  refine gz_iconst (v := 0) hX dX6_canSet_2 gk_c_0 ?_
  refine gz_iconst (v := 5) hX dX6_canSet_3 gk_c_5 ?_
  refine tc_V (As := [.int a1, .int 0, .int 5]) hX (c_isIn rfl) (lw_isIn_ q1692) rfl rfl nn_isIn ⟨Nat.le_of_ble_eq_true rfl, Nat.le_of_ble_eq_true rfl⟩ rfl rfl (Nat.le_of_ble_eq_true rfl) dX6_canSet_4 rfl ?_
  refine gz_if_eq (tgt := 47) hX dX6_canSet_7 (by decide) (fun c1 => ?_) (fun c1 => ?_)
  · have h := gz_ifp c1 h
    refine gz_aload_n (q := 0) hX dX6_canSet_47 rfl rfl ?_
    refine gz_iload_n (q := 1) hX dX6_canSet_48 rfl rfl ?_
    refine gz_bipush (v := 6) hX dX6_canSet_49 gk_b_6 ?_
    refine gz_bipush (v := 7) hX dX6_canSet_51 gk_b_7 ?_
    refine tc_V (As := [.int a1, .int 6, .int 7]) hX (c_isIn rfl) (lw_isIn_ q1692) rfl rfl nn_isIn ⟨Nat.le_of_ble_eq_true rfl, Nat.le_of_ble_eq_true rfl⟩ rfl rfl (Nat.le_of_ble_eq_true rfl) dX6_canSet_53 rfl ?_
    refine gz_if_eq (tgt := 94) hX dX6_canSet_56 (by decide) (fun c2 => ?_) (fun c2 => ?_)
    · have h := gz_ifp c2 h
      refine gz_iconst (v := 0) hX dX6_canSet_94 gk_c_0 ?_
      exact gt_zret hX hZ rfl hF rfl h dX6_canSet_95
    · have h := gz_ifn c2 h
      refine gz_aload_n (q := 0) hX dX6_canSet_59 rfl rfl ?_
      refine gz_iload_n (q := 2) hX dX6_canSet_60 rfl rfl ?_
      refine tc_V (As := [.int a2]) hX (c_isHorse rfl) (lw_isHorse_ q1720) rfl rfl nn_isHorse ⟨Nat.le_of_ble_eq_true rfl, Nat.le_of_ble_eq_true rfl⟩ rfl rfl (Nat.le_of_ble_eq_true rfl) dX6_canSet_61 rfl ?_
      refine gz_if_eq (tgt := 94) hX dX6_canSet_64 (by decide) (fun c3 => ?_) (fun c3 => ?_)
      · have h := gz_ifp c3 h
        refine gz_iconst (v := 0) hX dX6_canSet_94 gk_c_0 ?_
        exact gt_zret hX hZ rfl hF rfl h dX6_canSet_95
      · have h := gz_ifn c3 h
        refine gz_aload_n (q := 0) hX dX6_canSet_67 rfl rfl ?_
        refine gz_iload_n (q := 3) hX dX6_canSet_68 rfl rfl ?_
        refine gz_iconst (v := 0) hX dX6_canSet_69 gk_c_0 ?_
        refine gz_iload_n (q := 1) hX dX6_canSet_70 rfl rfl ?_
        refine gz_bipush (v := 6) hX dX6_canSet_71 gk_b_6 ?_
        obtain ⟨y4, g5, h⟩ := gz_let_o h
        have J6 : gW X 4 tw_S tw_R ad V 0 0 84 [] [.int y4, .int 0, .int a3, .ref (ad (1, 0, 0))] := by
          refine tc_V (As := [.int a3, .int 0, .int y4]) hX (c_isIn rfl) (lw_isIn_ q1692) rfl rfl nn_isIn ⟨Nat.le_of_ble_eq_true rfl, Nat.le_of_ble_eq_true rfl⟩ rfl rfl (Nat.le_of_ble_eq_true rfl) dX6_canSet_84 rfl ?_
          refine gz_if_eq (tgt := 94) hX dX6_canSet_87 (by decide) (fun c8 => ?_) (fun c8 => ?_)
          · have h := gz_ifp c8 h
            refine gz_iconst (v := 0) hX dX6_canSet_94 gk_c_0 ?_
            exact gt_zret hX hZ rfl hF rfl h dX6_canSet_95
          · have h := gz_ifn c8 h
            refine gz_iconst (v := 1) hX dX6_canSet_90 gk_c_1 ?_
            refine gz_goto (tgt := 95) hX dX6_canSet_91 (by decide) ?_
            exact gt_zret hX hZ rfl hF rfl h dX6_canSet_95
        refine gz_icmp_ne (tgt := 82) hX dX6_canSet_73 (by decide) (fun c7 => ?_) (fun c7 => ?_)
        · have g5 := gz_ifn c7 g5
          refine gz_bipush (v := 9) hX dX6_canSet_82 gk_b_9 ?_
          obtain rfl := g5
          exact gz_lv [] rfl J6
        · have g5 := gz_ifp c7 g5
          refine gz_sipush (v := 999) hX dX6_canSet_76 gk_s_999 ?_
          refine gz_goto (tgt := 84) hX dX6_canSet_79 (by decide) ?_
          obtain rfl := g5
          exact gz_lv [] rfl J6
  · have h := gz_ifn c1 h
    refine gz_aload_n (q := 0) hX dX6_canSet_10 rfl rfl ?_
    refine gz_iload_n (q := 2) hX dX6_canSet_11 rfl rfl ?_
    refine tc_V (As := [.int a2]) hX (c_isPerson rfl) (lw_isPerson_ q1708) rfl rfl nn_isPerson ⟨Nat.le_of_ble_eq_true rfl, Nat.le_of_ble_eq_true rfl⟩ rfl rfl (Nat.le_of_ble_eq_true rfl) dX6_canSet_12 rfl ?_
    refine gz_if_eq (tgt := 45) hX dX6_canSet_15 (by decide) (fun c9 => ?_) (fun c9 => ?_)
    · have h := gz_ifp c9 h
      refine gz_iconst (v := 0) hX dX6_canSet_45 gk_c_0 ?_
      exact gt_zret hX hZ rfl hF rfl h dX6_canSet_46
    · have h := gz_ifn c9 h
      refine gz_aload_n (q := 0) hX dX6_canSet_18 rfl rfl ?_
      refine gz_iload_n (q := 3) hX dX6_canSet_19 rfl rfl ?_
      refine gz_iconst (v := 0) hX dX6_canSet_20 gk_c_0 ?_
      refine gz_iload_n (q := 1) hX dX6_canSet_21 rfl rfl ?_
      refine gz_iconst (v := 5) hX dX6_canSet_22 gk_c_5 ?_
      obtain ⟨y10, g11, h⟩ := gz_let_o h
      have J12 : gW X 4 tw_S tw_R ad V 0 0 35 [] [.int y10, .int 0, .int a3, .ref (ad (1, 0, 0))] := by
        refine tc_V (As := [.int a3, .int 0, .int y10]) hX (c_isIn rfl) (lw_isIn_ q1692) rfl rfl nn_isIn ⟨Nat.le_of_ble_eq_true rfl, Nat.le_of_ble_eq_true rfl⟩ rfl rfl (Nat.le_of_ble_eq_true rfl) dX6_canSet_35 rfl ?_
        refine gz_if_eq (tgt := 45) hX dX6_canSet_38 (by decide) (fun c14 => ?_) (fun c14 => ?_)
        · have h := gz_ifp c14 h
          refine gz_iconst (v := 0) hX dX6_canSet_45 gk_c_0 ?_
          exact gt_zret hX hZ rfl hF rfl h dX6_canSet_46
        · have h := gz_ifn c14 h
          refine gz_iconst (v := 1) hX dX6_canSet_41 gk_c_1 ?_
          refine gz_goto (tgt := 46) hX dX6_canSet_42 (by decide) ?_
          exact gt_zret hX hZ rfl hF rfl h dX6_canSet_46
      refine gz_icmp_ne (tgt := 32) hX dX6_canSet_23 (by decide) (fun c13 => ?_) (fun c13 => ?_)
      · have g11 := gz_ifn c13 g11
        refine gz_sipush (v := 999) hX dX6_canSet_32 gk_s_999 ?_
        obtain rfl := g11
        exact gz_lv [] rfl J12
      · have g11 := gz_ifp c13 g11
        refine gz_sipush (v := 9999) hX dX6_canSet_26 gk_s_9999 ?_
        refine gz_goto (tgt := 35) hX dX6_canSet_29 (by decide) ?_
        obtain rfl := g11
        exact gz_lv [] rfl J12
theorem lw_canSet_ {i : Nat} (hl : Cond.methodLink RX6 i yX6_canSet ∈ lw_all) : GoodIn lw_all (wsV RX6 i RX6 yX6_canSet (ws_ yX6_canSet cX6_canSet 4 (some .boolean))) := lw_V hl q1718 qs57 q153 q1719
theorem nn_canSet : yX6_canSet.cls = RX6 ∧ yX6_canSet.cls ≠ "java/lang/invoke/MethodHandle" ∧ yX6_canSet.cls ≠ "java/lang/invoke/VarHandle" ∧ (parseMethodDescriptor yX6_canSet.desc).map (fun d => d.parameters.length) = some 3 := by decide +kernel
theorem b_canSet {V : gz_V} {a1 : Int32} {a2 : Int32} {a3 : Int32} : m_canSet V a1 a2 a3 = 0 ∨ m_canSet V a1 a2 a3 = 1 := by
  unfold m_canSet
  try simp only [gz_let]
  repeat' split
  all_goals first | exact Or.inl rfl | exact Or.inr rfl | exact b_isIn | exact b_isPerson | exact b_isIn | exact b_isIn | exact b_isHorse | exact b_isIn
def rm_caughtFrom : Room := { frames := 1, cells := 0, slots := 0, locals := 22 }
noncomputable def m_caughtFrom_L4 (N : Nat) (V : gz_V) (v1 : Int32) : Nat → Int32 → Int32 → Option (Int32)
  | 0, _, _ => none
  | n + 1, v2, v3 => (if (V (1, 0, 0) 6) ≤ v3 then some v2 else gz_bd (if (m_has v1 v3) = 0 then some v2 else gz_gd (gz_inb v3 24 = true) (gz_let (v2 ||| (V (2, 39, 0) v3.toNatClampNeg)) (fun x7 => some x7))) (fun y2 => m_caughtFrom_L4 N V v1 n y2 (v3 + 1)))
theorem w_m_caughtFrom_L4 {X : gz_X} {ad : gz_A0} (hX : gz_ok X cX6_caughtFrom RX6 "caughtFrom" 4 rm_caughtFrom (some .int)) (hZ : gz_Z X) {N : Nat} {V : gz_V} {v1 : Int32} {o2 : Int32} (k : gW X 4 tw_S tw_R ad V 0 0 36 [(2, .int o2)] []) : ∀ (n : Nat) {v2 : Int32} {v3 : Int32}, m_caughtFrom_L4 N V v1 n v2 v3 = some o2 → gW X 4 tw_S tw_R ad V 0 0 4 [(0, .ref (ad (1, 0, 0))), (1, .int v1), (2, .int v2), (3, .int v3)] [] := by
  intro n
  induction n with
  | zero => intro v2 v3 h; rw [m_caughtFrom_L4] at h; cases h
  | succ n ih =>
    intro v2 v3 h
    rw [m_caughtFrom_L4] at h
    refine gz_iload_n (q := 3) hX dX6_caughtFrom_4 rfl rfl ?_
    refine gz_aload_n (q := 0) hX dX6_caughtFrom_5 rfl rfl ?_
    refine tg_people hX dX6_caughtFrom_6 ?_
    refine gz_icmp_ge (tgt := 36) hX dX6_caughtFrom_9 (by decide) (fun c1 => ?_) (fun c1 => ?_)
    · have h := gz_ifp c1 h
      obtain rfl := gz_in1 h
      exact gz_lv [2] rfl k
    · have h := gz_ifn c1 h
      refine gz_aload_n (q := 0) hX dX6_caughtFrom_12 rfl rfl ?_
      refine gz_iload_n (q := 1) hX dX6_caughtFrom_13 rfl rfl ?_
      refine gz_iload_n (q := 3) hX dX6_caughtFrom_14 rfl rfl ?_
      refine tc_V (As := [.int v1, .int v3]) hX (c_has rfl) (lw_has_ q1900) rfl rfl nn_has ⟨Nat.le_of_ble_eq_true rfl, Nat.le_of_ble_eq_true rfl⟩ rfl rfl (Nat.le_of_ble_eq_true rfl) dX6_caughtFrom_15 rfl ?_
      obtain ⟨y2, g3, h⟩ := gz_bd_o h
      have J4 : gW X 4 tw_S tw_R ad V 0 0 30 [(0, .ref (ad (1, 0, 0))), (1, .int v1), (2, .int y2), (3, .int v3)] [] := by
        refine gz_iinc (q := 3) (lv2 := [(3, .int (v3 + 1)), (0, .ref (ad (1, 0, 0))), (1, .int v1), (2, .int y2)]) hX dX6_caughtFrom_30 rfl gk_c_1 (by decide) rfl ?_
        refine gz_goto (tgt := 4) hX dX6_caughtFrom_33 (by decide) ?_
        exact gz_lv [1, 2, 3, 0] rfl (ih h)
      refine gz_if_eq (tgt := 30) hX dX6_caughtFrom_18 (by decide) (fun c5 => ?_) (fun c5 => ?_)
      · have g3 := gz_ifp c5 g3
        obtain rfl := gz_in1 g3
        exact gz_lv [0, 1, 2, 3] rfl J4
      · have g3 := gz_ifn c5 g3
        refine gz_iload_n (q := 2) hX dX6_caughtFrom_21 rfl rfl ?_
        refine gz_aload_n (q := 0) hX dX6_caughtFrom_22 rfl rfl ?_
        refine tg_kinOf hX dX6_caughtFrom_23 ?_
        refine gz_iload_n (q := 3) hX dX6_caughtFrom_26 rfl rfl ?_
        obtain ⟨b6, g3⟩ := gz_gd_o g3
        refine gz_iald (L := 24) hX tw_S39 (gz_inb_o b6) dX6_caughtFrom_27 ?_
        refine gz_ior hX dX6_caughtFrom_28 ?_
        obtain ⟨x7, e8, g3⟩ := gz_let_o g3
        refine gz_nm e8 ?_
        refine gz_istore_n (lv2 := [(2, .int x7), (0, .ref (ad (1, 0, 0))), (1, .int v1), (3, .int v3)]) hX dX6_caughtFrom_29 rfl (by decide) rfl ?_
        obtain rfl := gz_in1 g3
        exact gz_lv [1, 2, 0, 3] rfl J4
noncomputable def m_caughtFrom (N : Nat) (V : gz_V) (a1 : Int32) : Option Int32 := gz_bd (m_caughtFrom_L4 N V a1 N a1 0) (fun x1 => some x1)
theorem c_caughtFrom {l : Launch} {D : va_G} {aC : Nat → ClassId} {ad : gz_A0} {N : Nat} {V : gz_V} {a1 : Int32} {r : Int32} (h : m_caughtFrom N V a1 = some r) : gz_Met l yX6_caughtFrom cX6_caughtFrom 4 (some .int) rm_caughtFrom D aC ad tw_S V tw_R [.ref (ad (1, 0, 0)), .int a1] (gz_F1 tw_S tw_R ad V (some (.int r))) 0 0 := by
  refine gt_ofW (own := RX6) (mn := "caughtFrom") (lv := [(0, .ref (ad (1, 0, 0))), (1, .int a1)]) (by decide) rfl rfl (Nat.le_of_ble_eq_true rfl) rfl ?_
  intro X hX hZ hF
  rw [m_caughtFrom] at h
  refine gz_iload_n (q := 1) hX dX6_caughtFrom_0 rfl rfl ?_
  refine gz_istore_n (lv2 := [(2, .int a1), (0, .ref (ad (1, 0, 0))), (1, .int a1)]) hX dX6_caughtFrom_1 rfl (by decide) rfl ?_
  refine gz_iconst (v := 0) hX dX6_caughtFrom_2 gk_c_0 ?_
  refine gz_istore_n (lv2 := [(3, .int 0), (2, .int a1), (0, .ref (ad (1, 0, 0))), (1, .int a1)]) hX dX6_caughtFrom_3 rfl (by decide) rfl ?_
  obtain ⟨x1, e2, h⟩ := gz_bd_o h
  refine gz_lv [2, 3, 1, 0] rfl (w_m_caughtFrom_L4 hX hZ ?_ N e2)
  refine gz_iload_n (q := 0) hX dX6_caughtFrom_36 rfl rfl ?_
  exact gt_iret hX hZ hF rfl (gz_in1 h) dX6_caughtFrom_37
theorem lw_caughtFrom_ {i : Nat} (hl : Cond.methodLink RX6 i yX6_caughtFrom ∈ lw_all) : GoodIn lw_all (wsV RX6 i RX6 yX6_caughtFrom (ws_ yX6_caughtFrom cX6_caughtFrom 4 (some .int))) := lw_V hl q2134 qs133 q153 q2135
theorem nn_caughtFrom : yX6_caughtFrom.cls = RX6 ∧ yX6_caughtFrom.cls ≠ "java/lang/invoke/MethodHandle" ∧ yX6_caughtFrom.cls ≠ "java/lang/invoke/VarHandle" ∧ (parseMethodDescriptor yX6_caughtFrom.desc).map (fun d => d.parameters.length) = some 1 := by decide +kernel
def rm_clasp : Room := { frames := 7, cells := 0, slots := 0, locals := 168 }
noncomputable def m_clasp (N : Nat) (V : gz_V) (a1 : Int32) (a2 : Int32) (a3 : Int32) : Option (gz_V × Int32) := gz_let (gz_up V (1, 0, 0) 0 0) (fun V1 => (if (m_isIn a3 1 9) = 0 then some (V1, (-1)) else gz_bd (m_canShake V1 a1 a2) (fun r4 => (if r4 = 0 then some (V1, (-1)) else gz_bd (m_keepsAhead N V1) (fun V8 => gz_bd (m_isBy V8 a3 0 (-1)) (fun V10 => gz_bd (m_shake V10 a1 a2) (fun V12 => gz_bd (m_notes V12 1 a1 a2) (fun V14 => gz_b2 (m_clasps N V14 a1 a2) (fun V17 r15 => some (V17, r15))))))))))
theorem c_clasp {l : Launch} {D : va_G} {aC : Nat → ClassId} {ad : gz_A0} {N : Nat} {V : gz_V} {a1 : Int32} {a2 : Int32} {a3 : Int32} {W1 : gz_V} {r : Int32} (h : m_clasp N V a1 a2 a3 = some (W1, r)) : gz_Met l yX6_clasp cX6_clasp 4 (some .int) rm_clasp D aC ad tw_S V tw_R [.ref (ad (1, 0, 0)), .int a1, .int a2, .int a3] (gz_F1 tw_S tw_R ad W1 (some (.int r))) 0 0 := by
  refine gt_ofW (own := RX6) (mn := "clasp") (lv := [(0, .ref (ad (1, 0, 0))), (1, .int a1), (2, .int a2), (3, .int a3)]) (by decide) rfl rfl (Nat.le_of_ble_eq_true rfl) rfl ?_
  intro X hX hZ hF
  rw [m_clasp] at h
  refine gz_aload_n (q := 0) hX dX6_clasp_0 rfl rfl ?_
  refine gz_iconst (v := 0) hX dX6_clasp_1 gk_c_0 ?_
  obtain ⟨V1, e2, h⟩ := gz_let_o h
  refine tp_told hX dX6_clasp_2 e2 ?_
  refine gz_aload_n (q := 0) hX dX6_clasp_5 rfl rfl ?_
  refine gz_iload_n (q := 3) hX dX6_clasp_6 rfl rfl ?_
  refine gz_iconst (v := 1) hX dX6_clasp_7 gk_c_1 ?_
  refine gz_bipush (v := 9) hX dX6_clasp_8 gk_b_9 ?_
  refine tc_V (As := [.int a3, .int 1, .int 9]) hX (c_isIn rfl) (lw_isIn_ q1692) rfl rfl nn_isIn ⟨Nat.le_of_ble_eq_true rfl, Nat.le_of_ble_eq_true rfl⟩ rfl rfl (Nat.le_of_ble_eq_true rfl) dX6_clasp_10 rfl ?_
  refine gz_if_eq (tgt := 25) hX dX6_clasp_13 (by decide) (fun c3 => ?_) (fun c3 => ?_)
  · have h := gz_ifp c3 h
    refine gz_iconst (v := (-1)) hX dX6_clasp_25 gk_c_m1 ?_
    obtain ⟨e1, e2⟩ := gz_in2 h
    exact gt_iret hX hZ hF e1 e2 dX6_clasp_26
  · have h := gz_ifn c3 h
    refine gz_aload_n (q := 0) hX dX6_clasp_16 rfl rfl ?_
    refine gz_iload_n (q := 1) hX dX6_clasp_17 rfl rfl ?_
    refine gz_iload_n (q := 2) hX dX6_clasp_18 rfl rfl ?_
    obtain ⟨r4, e5, h⟩ := gz_bd_o h
    refine tc_V (As := [.int a1, .int a2]) hX (c_canShake e5) (lw_canShake_ q1880) rfl rfl nn_canShake ⟨Nat.le_of_ble_eq_true rfl, Nat.le_of_ble_eq_true rfl⟩ rfl rfl (Nat.le_of_ble_eq_true rfl) dX6_clasp_19 rfl ?_
    refine gz_if_ne (tgt := 27) hX dX6_clasp_22 (by decide) (fun c6 => ?_) (fun c6 => ?_)
    · have h := gz_ifn c6 h
      refine gz_aload_n (q := 0) hX dX6_clasp_27 rfl rfl ?_
      obtain ⟨V8, e7, h⟩ := gz_bd_o h
      refine tc_V (As := []) hX (c_keepsAhead e7) (lw_keepsAhead_ q1920) rfl rfl nn_keepsAhead ⟨Nat.le_of_ble_eq_true rfl, Nat.le_of_ble_eq_true rfl⟩ rfl rfl (Nat.le_of_ble_eq_true rfl) dX6_clasp_28 rfl ?_
      refine gz_aload_n (q := 0) hX dX6_clasp_31 rfl rfl ?_
      refine gz_iload_n (q := 3) hX dX6_clasp_32 rfl rfl ?_
      refine gz_iconst (v := 0) hX dX6_clasp_33 gk_c_0 ?_
      refine gz_iconst (v := (-1)) hX dX6_clasp_34 gk_c_m1 ?_
      obtain ⟨V10, e9, h⟩ := gz_bd_o h
      refine tc_V (As := [.int a3, .int 0, .int (-1)]) hX (c_isBy e9) (lw_isBy_ q1884) rfl rfl nn_isBy ⟨Nat.le_of_ble_eq_true rfl, Nat.le_of_ble_eq_true rfl⟩ rfl rfl (Nat.le_of_ble_eq_true rfl) dX6_clasp_35 rfl ?_
      refine gz_aload_n (q := 0) hX dX6_clasp_38 rfl rfl ?_
      refine gz_iload_n (q := 1) hX dX6_clasp_39 rfl rfl ?_
      refine gz_iload_n (q := 2) hX dX6_clasp_40 rfl rfl ?_
      obtain ⟨V12, e11, h⟩ := gz_bd_o h
      refine tc_V (As := [.int a1, .int a2]) hX (c_shake e11) (lw_shake_ q1928) rfl rfl nn_shake ⟨Nat.le_of_ble_eq_true rfl, Nat.le_of_ble_eq_true rfl⟩ rfl rfl (Nat.le_of_ble_eq_true rfl) dX6_clasp_41 rfl ?_
      refine gz_aload_n (q := 0) hX dX6_clasp_44 rfl rfl ?_
      refine gz_iconst (v := 1) hX dX6_clasp_45 gk_c_1 ?_
      refine gz_iload_n (q := 1) hX dX6_clasp_46 rfl rfl ?_
      refine gz_iload_n (q := 2) hX dX6_clasp_47 rfl rfl ?_
      obtain ⟨V14, e13, h⟩ := gz_bd_o h
      refine tc_V (As := [.int 1, .int a1, .int a2]) hX (c_notes e13) (lw_notes_ q1936) rfl rfl nn_notes ⟨Nat.le_of_ble_eq_true rfl, Nat.le_of_ble_eq_true rfl⟩ rfl rfl (Nat.le_of_ble_eq_true rfl) dX6_clasp_48 rfl ?_
      refine gz_aload_n (q := 0) hX dX6_clasp_51 rfl rfl ?_
      refine gz_iload_n (q := 1) hX dX6_clasp_52 rfl rfl ?_
      refine gz_iload_n (q := 2) hX dX6_clasp_53 rfl rfl ?_
      obtain ⟨V17, r15, e16, h⟩ := gz_b2_o h
      refine tc_V (As := [.int a1, .int a2]) hX (c_clasps e16) (lw_clasps_ q1940) rfl rfl nn_clasps ⟨Nat.le_of_ble_eq_true rfl, Nat.le_of_ble_eq_true rfl⟩ rfl rfl (Nat.le_of_ble_eq_true rfl) dX6_clasp_54 rfl ?_
      obtain ⟨e1, e2⟩ := gz_in2 h
      exact gt_iret hX hZ hF e1 e2 dX6_clasp_57
    · have h := gz_ifp c6 h
      refine gz_iconst (v := (-1)) hX dX6_clasp_25 gk_c_m1 ?_
      obtain ⟨e1, e2⟩ := gz_in2 h
      exact gt_iret hX hZ hF e1 e2 dX6_clasp_26
theorem lw_clasp_ {i : Nat} (hl : Cond.methodLink RX6 i yX6_clasp ∈ lw_all) : GoodIn lw_all (wsV RX6 i RX6 yX6_clasp (ws_ yX6_clasp cX6_clasp 4 (some .int))) := lw_V hl q1975 q1976 q153 q1977
theorem nn_clasp : yX6_clasp.cls = RX6 ∧ yX6_clasp.cls ≠ "java/lang/invoke/MethodHandle" ∧ yX6_clasp.cls ≠ "java/lang/invoke/VarHandle" ∧ (parseMethodDescriptor yX6_clasp.desc).map (fun d => d.parameters.length) = some 3 := by decide +kernel
def rm_onesOf : Room := { frames := 0, cells := 0, slots := 0, locals := 0 }
noncomputable def m_onesOf_L4 (N : Nat) : Nat → Int32 → Int32 → Option (Int32)
  | 0, _, _ => none
  | n + 1, v2, v3 => (if v3 = 0 then some v2 else gz_let (v2 + 1) (fun x2 => gz_let (v3 &&& (v3 - 1)) (fun x4 => m_onesOf_L4 N n x2 x4)))
theorem w_m_onesOf_L4 {X : gz_X} {ad : gz_A0} (hX : gz_ok X cX6_onesOf RX6 "onesOf" 4 rm_onesOf (some .int)) (hZ : gz_Z X) {N : Nat} {V : gz_V} {o2 : Int32} (k : gW X 4 tw_S tw_R ad V 0 0 21 [(2, .int o2)] []) : ∀ (n : Nat) {v2 : Int32} {v3 : Int32}, m_onesOf_L4 N n v2 v3 = some o2 → gW X 4 tw_S tw_R ad V 0 0 4 [(2, .int v2), (3, .int v3)] [] := by
  intro n
  induction n with
  | zero => intro v2 v3 h; rw [m_onesOf_L4] at h; cases h
  | succ n ih =>
    intro v2 v3 h
    rw [m_onesOf_L4] at h
    refine gz_iload_n (q := 1) hX dX6_onesOf_4 rfl rfl ?_
    refine gz_if_eq (tgt := 21) hX dX6_onesOf_5 (by decide) (fun c1 => ?_) (fun c1 => ?_)
    · have h := gz_ifp c1 h
      obtain rfl := gz_in1 h
      exact gz_lv [0] rfl k
    · have h := gz_ifn c1 h
      refine gz_iload_n (q := 0) hX dX6_onesOf_8 rfl rfl ?_
      refine gz_iconst (v := 1) hX dX6_onesOf_9 gk_c_1 ?_
      refine gz_iadd hX dX6_onesOf_10 ?_
      obtain ⟨x2, e3, h⟩ := gz_let_o h
      refine gz_nm e3 ?_
      refine gz_istore_n (lv2 := [(2, .int x2), (3, .int v3)]) hX dX6_onesOf_11 rfl (by decide) rfl ?_
      refine gz_iload_n (q := 1) hX dX6_onesOf_12 rfl rfl ?_
      refine gz_iload_n (q := 1) hX dX6_onesOf_13 rfl rfl ?_
      refine gz_iconst (v := 1) hX dX6_onesOf_14 gk_c_1 ?_
      refine gz_isub hX dX6_onesOf_15 ?_
      refine gz_iand hX dX6_onesOf_16 ?_
      obtain ⟨x4, e5, h⟩ := gz_let_o h
      refine gz_nm e5 ?_
      refine gz_istore_n (lv2 := [(3, .int x4), (2, .int x2)]) hX dX6_onesOf_17 rfl (by decide) rfl ?_
      refine gz_goto (tgt := 4) hX dX6_onesOf_18 (by decide) ?_
      exact gz_lv [1, 0] rfl (ih h)
noncomputable def m_onesOf (N : Nat) (a1 : Int32) : Option Int32 := gz_bd (m_onesOf_L4 N N 0 a1) (fun x1 => some x1)
theorem c_onesOf {l : Launch} {D : va_G} {aC : Nat → ClassId} {ad : gz_A0} {N : Nat} {V : gz_V} {a1 : Int32} {r : Int32} (h : m_onesOf N a1 = some r) : gz_Met l yX6_onesOf cX6_onesOf 4 (some .int) rm_onesOf D aC ad tw_S V tw_R [.ref (ad (1, 0, 0)), .int a1] (gz_F1 tw_S tw_R ad V (some (.int r))) 0 0 := by
  refine gt_ofW (own := RX6) (mn := "onesOf") (lv := [(0, .ref (ad (1, 0, 0))), (1, .int a1)]) (by decide) rfl rfl (Nat.le_of_ble_eq_true rfl) rfl ?_
  intro X hX hZ hF
  rw [m_onesOf] at h
  refine gz_iconst (v := 0) hX dX6_onesOf_0 gk_c_0 ?_
  refine gz_istore_n (lv2 := [(2, .int 0), (0, .ref (ad (1, 0, 0))), (1, .int a1)]) hX dX6_onesOf_1 rfl (by decide) rfl ?_
  refine gz_iload_n (q := 2) hX dX6_onesOf_2 rfl rfl ?_
  refine gz_istore_n (lv2 := [(3, .int a1), (2, .int 0), (0, .ref (ad (1, 0, 0))), (1, .int a1)]) hX dX6_onesOf_3 rfl (by decide) rfl ?_
  obtain ⟨x1, e2, h⟩ := gz_bd_o h
  refine gz_lv [1, 0] rfl (w_m_onesOf_L4 hX hZ ?_ N e2)
  refine gz_iload_n (q := 0) hX dX6_onesOf_21 rfl rfl ?_
  exact gt_iret hX hZ hF rfl (gz_in1 h) dX6_onesOf_22
theorem lw_onesOf_ {i : Nat} (hl : Cond.methodLink RX6 i yX6_onesOf ∈ lw_all) : GoodIn lw_all (wsV RX6 i RX6 yX6_onesOf (ws_ yX6_onesOf cX6_onesOf 4 (some .int))) := lw_V hl q2105 qs130 q153 q2106
theorem nn_onesOf : yX6_onesOf.cls = RX6 ∧ yX6_onesOf.cls ≠ "java/lang/invoke/MethodHandle" ∧ yX6_onesOf.cls ≠ "java/lang/invoke/VarHandle" ∧ (parseMethodDescriptor yX6_onesOf.desc).map (fun d => d.parameters.length) = some 1 := by decide +kernel
def rm_cold : Room := { frames := 2, cells := 0, slots := 0, locals := 45 }
noncomputable def m_cold_L33 (N : Nat) (V : gz_V) (v2 : Int32) : Nat → Int32 → Int32 → Option (Int32 × Int32)
  | 0, _, _ => none
  | n + 1, v3, v4 => (if v4 = v2 then some (v3, v4) else gz_bd (m_caughtFrom N V v3) (fun r8 => (if r8 = v3 then some (v3, v4) else gz_bd (m_caughtFrom N V v3) (fun r11 => gz_let (v4 + 1) (fun x13 => m_cold_L33 N V v2 n r11 x13)))))
theorem w_m_cold_L33 {X : gz_X} {ad : gz_A0} (hX : gz_ok X cX6_cold RX6 "cold" 5 rm_cold (some .int)) (hZ : gz_Z X) {N : Nat} {V : gz_V} {v2 : Int32} {o3 : Int32} {o4 : Int32} (k : gW X 5 tw_S tw_R ad V 0 0 63 [(0, .ref (ad (1, 0, 0))), (2, .int v2), (3, .int o3), (4, .int o4)] []) : ∀ (n : Nat) {v3 : Int32} {v4 : Int32}, m_cold_L33 N V v2 n v3 v4 = some (o3, o4) → gW X 5 tw_S tw_R ad V 0 0 33 [(0, .ref (ad (1, 0, 0))), (2, .int v2), (3, .int v3), (4, .int v4)] [] := by
  intro n
  induction n with
  | zero => intro v3 v4 h; rw [m_cold_L33] at h; cases h
  | succ n ih =>
    intro v3 v4 h
    rw [m_cold_L33] at h
    refine gz_iload (q := 3) hX dX6_cold_33 rfl ?_
    refine gz_iload_n (q := 1) hX dX6_cold_35 rfl rfl ?_
    refine gz_icmp_eq (tgt := 63) hX dX6_cold_36 (by decide) (fun c7 => ?_) (fun c7 => ?_)
    · have h := gz_ifp c7 h
      obtain ⟨rfl, rfl⟩ := gz_in2 h
      exact gz_lv [0, 1, 2, 3] rfl k
    · have h := gz_ifn c7 h
      refine gz_aload_n (q := 0) hX dX6_cold_39 rfl rfl ?_
      refine gz_iload_n (q := 2) hX dX6_cold_40 rfl rfl ?_
      obtain ⟨r8, e9, h⟩ := gz_bd_o h
      refine tc_V (As := [.int v3]) hX (c_caughtFrom e9) (lw_caughtFrom_ q2132) rfl rfl nn_caughtFrom ⟨Nat.le_of_ble_eq_true rfl, Nat.le_of_ble_eq_true rfl⟩ rfl rfl (Nat.le_of_ble_eq_true rfl) dX6_cold_41 rfl ?_
      refine gz_iload_n (q := 2) hX dX6_cold_44 rfl rfl ?_
      refine gz_icmp_eq (tgt := 63) hX dX6_cold_45 (by decide) (fun c10 => ?_) (fun c10 => ?_)
      · have h := gz_ifp c10 h
        obtain ⟨rfl, rfl⟩ := gz_in2 h
        exact gz_lv [0, 1, 2, 3] rfl k
      · have h := gz_ifn c10 h
        refine gz_aload_n (q := 0) hX dX6_cold_48 rfl rfl ?_
        refine gz_iload_n (q := 2) hX dX6_cold_49 rfl rfl ?_
        obtain ⟨r11, e12, h⟩ := gz_bd_o h
        refine tc_V (As := [.int v3]) hX (c_caughtFrom e12) (lw_caughtFrom_ q2132) rfl rfl nn_caughtFrom ⟨Nat.le_of_ble_eq_true rfl, Nat.le_of_ble_eq_true rfl⟩ rfl rfl (Nat.le_of_ble_eq_true rfl) dX6_cold_50 rfl ?_
        refine gz_istore_n (lv2 := [(3, .int r11), (0, .ref (ad (1, 0, 0))), (2, .int v2), (4, .int v4)]) hX dX6_cold_53 rfl (by decide) rfl ?_
        refine gz_iload (q := 3) hX dX6_cold_54 rfl ?_
        refine gz_iconst (v := 1) hX dX6_cold_56 gk_c_1 ?_
        refine gz_iadd hX dX6_cold_57 ?_
        obtain ⟨x13, e14, h⟩ := gz_let_o h
        refine gz_nm e14 ?_
        refine gz_istore (lv2 := [(4, .int x13), (3, .int r11), (0, .ref (ad (1, 0, 0))), (2, .int v2)]) hX dX6_cold_58 (by decide) rfl ?_
        refine gz_goto (tgt := 33) hX dX6_cold_60 (by decide) ?_
        exact gz_lv [2, 3, 1, 0] rfl (ih h)
noncomputable def m_cold (N : Nat) (V : gz_V) (a1 : Int32) (a2 : Int32) : Option (gz_V × Int32) := gz_let (gz_up V (1, 0, 0) 0 0) (fun V1 => (if (m_isPerson V1 a1) = 0 then some (V1, (-1)) else (if (m_isIn a2 (-1) 20) = 0 then some (V1, (-1)) else gz_let ((1 : Int32) <<< (a1 &&& 31)) (fun x5 => gz_b2 (m_cold_L33 N V1 a2 N x5 0) (fun x7 x8 => (if a2 = (-1) then some (V1, x8) else gz_bd (m_onesOf N x7) (fun r11 => some (V1, r11))))))))
theorem c_cold {l : Launch} {D : va_G} {aC : Nat → ClassId} {ad : gz_A0} {N : Nat} {V : gz_V} {a1 : Int32} {a2 : Int32} {W1 : gz_V} {r : Int32} (h : m_cold N V a1 a2 = some (W1, r)) : gz_Met l yX6_cold cX6_cold 5 (some .int) rm_cold D aC ad tw_S V tw_R [.ref (ad (1, 0, 0)), .int a1, .int a2] (gz_F1 tw_S tw_R ad W1 (some (.int r))) 0 0 := by
  refine gt_ofW (own := RX6) (mn := "cold") (lv := [(0, .ref (ad (1, 0, 0))), (1, .int a1), (2, .int a2)]) (by decide) rfl rfl (Nat.le_of_ble_eq_true rfl) rfl ?_
  intro X hX hZ hF
  rw [m_cold] at h
  refine gz_aload_n (q := 0) hX dX6_cold_0 rfl rfl ?_
  refine gz_iconst (v := 0) hX dX6_cold_1 gk_c_0 ?_
  obtain ⟨V1, e2, h⟩ := gz_let_o h
  refine tp_told hX dX6_cold_2 e2 ?_
  refine gz_aload_n (q := 0) hX dX6_cold_5 rfl rfl ?_
  refine gz_iload_n (q := 1) hX dX6_cold_6 rfl rfl ?_
  refine tc_V (As := [.int a1]) hX (c_isPerson rfl) (lw_isPerson_ q1708) rfl rfl nn_isPerson ⟨Nat.le_of_ble_eq_true rfl, Nat.le_of_ble_eq_true rfl⟩ rfl rfl (Nat.le_of_ble_eq_true rfl) dX6_cold_7 rfl ?_
  refine gz_if_eq (tgt := 24) hX dX6_cold_10 (by decide) (fun c3 => ?_) (fun c3 => ?_)
  · have h := gz_ifp c3 h
    refine gz_iconst (v := (-1)) hX dX6_cold_24 gk_c_m1 ?_
    obtain ⟨e1, e2⟩ := gz_in2 h
    exact gt_iret hX hZ hF e1 e2 dX6_cold_25
  · have h := gz_ifn c3 h
    refine gz_aload_n (q := 0) hX dX6_cold_13 rfl rfl ?_
    refine gz_iload_n (q := 2) hX dX6_cold_14 rfl rfl ?_
    refine gz_iconst (v := (-1)) hX dX6_cold_15 gk_c_m1 ?_
    refine gz_bipush (v := 20) hX dX6_cold_16 gk_b_20 ?_
    refine tc_V (As := [.int a2, .int (-1), .int 20]) hX (c_isIn rfl) (lw_isIn_ q1692) rfl rfl nn_isIn ⟨Nat.le_of_ble_eq_true rfl, Nat.le_of_ble_eq_true rfl⟩ rfl rfl (Nat.le_of_ble_eq_true rfl) dX6_cold_18 rfl ?_
    refine gz_if_ne (tgt := 26) hX dX6_cold_21 (by decide) (fun c4 => ?_) (fun c4 => ?_)
    · have h := gz_ifn c4 h
      refine gz_iconst (v := 1) hX dX6_cold_26 gk_c_1 ?_
      refine gz_iload_n (q := 1) hX dX6_cold_27 rfl rfl ?_
      refine gz_ishl hX dX6_cold_28 ?_
      obtain ⟨x5, e6, h⟩ := gz_let_o h
      refine gz_nm e6 ?_
      refine gz_istore_n (lv2 := [(3, .int x5), (0, .ref (ad (1, 0, 0))), (1, .int a1), (2, .int a2)]) hX dX6_cold_29 rfl (by decide) rfl ?_
      refine gz_iconst (v := 0) hX dX6_cold_30 gk_c_0 ?_
      refine gz_istore (lv2 := [(4, .int 0), (3, .int x5), (0, .ref (ad (1, 0, 0))), (1, .int a1), (2, .int a2)]) hX dX6_cold_31 (by decide) rfl ?_
      obtain ⟨x7, x8, e9, h⟩ := gz_b2_o h
      refine gz_lv [2, 4, 1, 0] rfl (w_m_cold_L33 hX hZ ?_ N e9)
      refine gz_iload_n (q := 1) hX dX6_cold_63 rfl rfl ?_
      refine gz_iconst (v := (-1)) hX dX6_cold_64 gk_c_m1 ?_
      refine gz_icmp_ne (tgt := 73) hX dX6_cold_65 (by decide) (fun c10 => ?_) (fun c10 => ?_)
      · have h := gz_ifn c10 h
        refine gz_aload_n (q := 0) hX dX6_cold_73 rfl rfl ?_
        refine gz_iload_n (q := 2) hX dX6_cold_74 rfl rfl ?_
        obtain ⟨r11, e12, h⟩ := gz_bd_o h
        refine tc_V (As := [.int x7]) hX (c_onesOf e12) (lw_onesOf_ q2103) rfl rfl nn_onesOf ⟨Nat.le_of_ble_eq_true rfl, Nat.le_of_ble_eq_true rfl⟩ rfl rfl (Nat.le_of_ble_eq_true rfl) dX6_cold_75 rfl ?_
        obtain ⟨e1, e2⟩ := gz_in2 h
        exact gt_iret hX hZ hF e1 e2 dX6_cold_78
      · have h := gz_ifp c10 h
        refine gz_iload (q := 3) hX dX6_cold_68 rfl ?_
        refine gz_goto (tgt := 78) hX dX6_cold_70 (by decide) ?_
        obtain ⟨e1, e2⟩ := gz_in2 h
        exact gt_iret hX hZ hF e1 e2 dX6_cold_78
    · have h := gz_ifp c4 h
      refine gz_iconst (v := (-1)) hX dX6_cold_24 gk_c_m1 ?_
      obtain ⟨e1, e2⟩ := gz_in2 h
      exact gt_iret hX hZ hF e1 e2 dX6_cold_25
theorem lw_cold_ {i : Nat} (hl : Cond.methodLink RX6 i yX6_cold ∈ lw_all) : GoodIn lw_all (wsV RX6 i RX6 yX6_cold (ws_ yX6_cold cX6_cold 5 (some .int))) := lw_V hl q2129 q2130 q153 q2131
theorem nn_cold : yX6_cold.cls = RX6 ∧ yX6_cold.cls ≠ "java/lang/invoke/MethodHandle" ∧ yX6_cold.cls ≠ "java/lang/invoke/VarHandle" ∧ (parseMethodDescriptor yX6_cold.desc).map (fun d => d.parameters.length) = some 2 := by decide +kernel
def rm_greatestBut : Room := { frames := 1, cells := 0, slots := 0, locals := 22 }
noncomputable def m_greatestBut_L4 (N : Nat) (V : gz_V) (v1 : Int32) : Nat → Int32 → Int32 → Option (Int32)
  | 0, _, _ => none
  | n + 1, v2, v3 => (if (V (1, 0, 0) 51) ≤ v3 then some v2 else gz_bd (if (m_has v1 v3) = 0 then (if v2 = (-1) then some v3 else gz_gd (gz_inb v3 9 = true) (gz_gd (gz_inb v2 9 = true) ((if (V (2, 53, 0) v3.toNatClampNeg) ≤ (V (2, 53, 0) v2.toNatClampNeg) then some v2 else some v3)))) else some v2) (fun y2 => m_greatestBut_L4 N V v1 n y2 (v3 + 1)))
theorem w_m_greatestBut_L4 {X : gz_X} {ad : gz_A0} (hX : gz_ok X cX6_greatestBut RX6 "greatestBut" 4 rm_greatestBut (some .int)) (hZ : gz_Z X) {N : Nat} {V : gz_V} {v1 : Int32} {o2 : Int32} (k : gW X 4 tw_S tw_R ad V 0 0 49 [(2, .int o2)] []) : ∀ (n : Nat) {v2 : Int32} {v3 : Int32}, m_greatestBut_L4 N V v1 n v2 v3 = some o2 → gW X 4 tw_S tw_R ad V 0 0 4 [(0, .ref (ad (1, 0, 0))), (1, .int v1), (2, .int v2), (3, .int v3)] [] := by
  intro n
  induction n with
  | zero => intro v2 v3 h; rw [m_greatestBut_L4] at h; cases h
  | succ n ih =>
    intro v2 v3 h
    rw [m_greatestBut_L4] at h
    refine gz_iload_n (q := 3) hX dX6_greatestBut_4 rfl rfl ?_
    refine gz_aload_n (q := 0) hX dX6_greatestBut_5 rfl rfl ?_
    refine tg_numberMany hX dX6_greatestBut_6 ?_
    refine gz_icmp_ge (tgt := 49) hX dX6_greatestBut_9 (by decide) (fun c1 => ?_) (fun c1 => ?_)
    · have h := gz_ifp c1 h
      obtain rfl := gz_in1 h
      exact gz_lv [2] rfl k
    · have h := gz_ifn c1 h
      refine gz_aload_n (q := 0) hX dX6_greatestBut_12 rfl rfl ?_
      refine gz_iload_n (q := 1) hX dX6_greatestBut_13 rfl rfl ?_
      refine gz_iload_n (q := 3) hX dX6_greatestBut_14 rfl rfl ?_
      refine tc_V (As := [.int v1, .int v3]) hX (c_has rfl) (lw_has_ q1900) rfl rfl nn_has ⟨Nat.le_of_ble_eq_true rfl, Nat.le_of_ble_eq_true rfl⟩ rfl rfl (Nat.le_of_ble_eq_true rfl) dX6_greatestBut_15 rfl ?_
      obtain ⟨y2, g3, h⟩ := gz_bd_o h
      have J4 : gW X 4 tw_S tw_R ad V 0 0 43 [(0, .ref (ad (1, 0, 0))), (1, .int v1), (2, .int y2), (3, .int v3)] [] := by
        refine gz_iinc (q := 3) (lv2 := [(3, .int (v3 + 1)), (0, .ref (ad (1, 0, 0))), (1, .int v1), (2, .int y2)]) hX dX6_greatestBut_43 rfl gk_c_1 (by decide) rfl ?_
        refine gz_goto (tgt := 4) hX dX6_greatestBut_46 (by decide) ?_
        exact gz_lv [1, 2, 3, 0] rfl (ih h)
      refine gz_if_ne (tgt := 43) hX dX6_greatestBut_18 (by decide) (fun c5 => ?_) (fun c5 => ?_)
      · have g3 := gz_ifn c5 g3
        obtain rfl := gz_in1 g3
        exact gz_lv [0, 1, 2, 3] rfl J4
      · have g3 := gz_ifp c5 g3
        refine gz_iload_n (q := 2) hX dX6_greatestBut_21 rfl rfl ?_
        refine gz_iconst (v := (-1)) hX dX6_greatestBut_22 gk_c_m1 ?_
        refine gz_icmp_eq (tgt := 41) hX dX6_greatestBut_23 (by decide) (fun c6 => ?_) (fun c6 => ?_)
        · have g3 := gz_ifp c6 g3
          refine gz_iload_n (q := 3) hX dX6_greatestBut_41 rfl rfl ?_
          refine gz_istore_n (lv2 := [(2, .int v3), (0, .ref (ad (1, 0, 0))), (1, .int v1), (3, .int v3)]) hX dX6_greatestBut_42 rfl (by decide) rfl ?_
          obtain rfl := gz_in1 g3
          exact gz_lv [1, 2, 0, 3] rfl J4
        · have g3 := gz_ifn c6 g3
          refine gz_aload_n (q := 0) hX dX6_greatestBut_26 rfl rfl ?_
          refine tg_toShake hX dX6_greatestBut_27 ?_
          refine gz_iload_n (q := 3) hX dX6_greatestBut_30 rfl rfl ?_
          obtain ⟨b7, g3⟩ := gz_gd_o g3
          refine gz_iald (L := 9) hX tw_S53 (gz_inb_o b7) dX6_greatestBut_31 ?_
          refine gz_aload_n (q := 0) hX dX6_greatestBut_32 rfl rfl ?_
          refine tg_toShake hX dX6_greatestBut_33 ?_
          refine gz_iload_n (q := 2) hX dX6_greatestBut_36 rfl rfl ?_
          obtain ⟨b8, g3⟩ := gz_gd_o g3
          refine gz_iald (L := 9) hX tw_S53 (gz_inb_o b8) dX6_greatestBut_37 ?_
          refine gz_icmp_le (tgt := 43) hX dX6_greatestBut_38 (by decide) (fun c9 => ?_) (fun c9 => ?_)
          · have g3 := gz_ifp c9 g3
            obtain rfl := gz_in1 g3
            exact gz_lv [0, 1, 2, 3] rfl J4
          · have g3 := gz_ifn c9 g3
            refine gz_iload_n (q := 3) hX dX6_greatestBut_41 rfl rfl ?_
            refine gz_istore_n (lv2 := [(2, .int v3), (0, .ref (ad (1, 0, 0))), (1, .int v1), (3, .int v3)]) hX dX6_greatestBut_42 rfl (by decide) rfl ?_
            obtain rfl := gz_in1 g3
            exact gz_lv [1, 2, 0, 3] rfl J4
noncomputable def m_greatestBut (N : Nat) (V : gz_V) (a1 : Int32) : Option Int32 := gz_bd (m_greatestBut_L4 N V a1 N (-1) 0) (fun x1 => some x1)
theorem c_greatestBut {l : Launch} {D : va_G} {aC : Nat → ClassId} {ad : gz_A0} {N : Nat} {V : gz_V} {a1 : Int32} {r : Int32} (h : m_greatestBut N V a1 = some r) : gz_Met l yX6_greatestBut cX6_greatestBut 4 (some .int) rm_greatestBut D aC ad tw_S V tw_R [.ref (ad (1, 0, 0)), .int a1] (gz_F1 tw_S tw_R ad V (some (.int r))) 0 0 := by
  refine gt_ofW (own := RX6) (mn := "greatestBut") (lv := [(0, .ref (ad (1, 0, 0))), (1, .int a1)]) (by decide) rfl rfl (Nat.le_of_ble_eq_true rfl) rfl ?_
  intro X hX hZ hF
  rw [m_greatestBut] at h
  refine gz_iconst (v := (-1)) hX dX6_greatestBut_0 gk_c_m1 ?_
  refine gz_istore_n (lv2 := [(2, .int (-1)), (0, .ref (ad (1, 0, 0))), (1, .int a1)]) hX dX6_greatestBut_1 rfl (by decide) rfl ?_
  refine gz_iconst (v := 0) hX dX6_greatestBut_2 gk_c_0 ?_
  refine gz_istore_n (lv2 := [(3, .int 0), (2, .int (-1)), (0, .ref (ad (1, 0, 0))), (1, .int a1)]) hX dX6_greatestBut_3 rfl (by decide) rfl ?_
  obtain ⟨x1, e2, h⟩ := gz_bd_o h
  refine gz_lv [2, 3, 1, 0] rfl (w_m_greatestBut_L4 hX hZ ?_ N e2)
  refine gz_iload_n (q := 0) hX dX6_greatestBut_49 rfl rfl ?_
  exact gt_iret hX hZ hF rfl (gz_in1 h) dX6_greatestBut_50
theorem lw_greatestBut_ {i : Nat} (hl : Cond.methodLink RX6 i yX6_greatestBut ∈ lw_all) : GoodIn lw_all (wsV RX6 i RX6 yX6_greatestBut (ws_ yX6_greatestBut cX6_greatestBut 4 (some .int))) := lw_V hl q2068 qs124 q153 q2069
theorem nn_greatestBut : yX6_greatestBut.cls = RX6 ∧ yX6_greatestBut.cls ≠ "java/lang/invoke/MethodHandle" ∧ yX6_greatestBut.cls ≠ "java/lang/invoke/VarHandle" ∧ (parseMethodDescriptor yX6_greatestBut.desc).map (fun d => d.parameters.length) = some 1 := by decide +kernel
def rm_could : Room := { frames := 2, cells := 0, slots := 0, locals := 45 }
noncomputable def m_could_L7 (N : Nat) : Nat → gz_V → Int32 → Option (gz_V)
  | 0, _, _ => none
  | n + 1, V, v1 => (if (V (1, 0, 0) 51) ≤ v1 then some V else gz_gd (gz_inb v1 9 = true) (gz_gd (gz_inb v1 9 = true) (gz_let (gz_up V (2, 53, 0) v1.toNatClampNeg (V (2, 52, 0) v1.toNatClampNeg)) (fun V6 => m_could_L7 N n V6 (v1 + 1)))))
theorem w_m_could_L7 {X : gz_X} {ad : gz_A0} (hX : gz_ok X cX6_could RX6 "could" 7 rm_could (some .int)) (hZ : gz_Z X) {N : Nat} {W1 : gz_V} (k : gW X 7 tw_S tw_R ad W1 0 0 33 [(0, .ref (ad (1, 0, 0)))] []) : ∀ (n : Nat) {V : gz_V} {v1 : Int32}, m_could_L7 N n V v1 = some W1 → gW X 7 tw_S tw_R ad V 0 0 7 [(0, .ref (ad (1, 0, 0))), (1, .int v1)] [] := by
  intro n
  induction n with
  | zero => intro V v1 h; rw [m_could_L7] at h; cases h
  | succ n ih =>
    intro V v1 h
    rw [m_could_L7] at h
    refine gz_iload_n (q := 1) hX dX6_could_7 rfl rfl ?_
    refine gz_aload_n (q := 0) hX dX6_could_8 rfl rfl ?_
    refine tg_numberMany hX dX6_could_9 ?_
    refine gz_icmp_ge (tgt := 33) hX dX6_could_12 (by decide) (fun c3 => ?_) (fun c3 => ?_)
    · have h := gz_ifp c3 h
      obtain rfl := gz_in1 h
      exact gz_lv [0] rfl k
    · have h := gz_ifn c3 h
      refine gz_aload_n (q := 0) hX dX6_could_15 rfl rfl ?_
      refine tg_toShake hX dX6_could_16 ?_
      refine gz_iload_n (q := 1) hX dX6_could_19 rfl rfl ?_
      refine gz_aload_n (q := 0) hX dX6_could_20 rfl rfl ?_
      refine tg_numbers hX dX6_could_21 ?_
      refine gz_iload_n (q := 1) hX dX6_could_24 rfl rfl ?_
      obtain ⟨b4, h⟩ := gz_gd_o h
      refine gz_iald (L := 9) hX tw_S52 (gz_inb_o b4) dX6_could_25 ?_
      obtain ⟨b5, h⟩ := gz_gd_o h
      obtain ⟨V6, e7, h⟩ := gz_let_o h
      refine gz_iast (L := 9) hX tw_S53 (by decide) (gz_inb_o b5) dX6_could_26 e7 ?_
      refine gz_iinc (q := 1) (lv2 := [(1, .int (v1 + 1)), (0, .ref (ad (1, 0, 0)))]) hX dX6_could_27 rfl gk_c_1 (by decide) rfl ?_
      refine gz_goto (tgt := 7) hX dX6_could_30 (by decide) ?_
      exact gz_lv [1, 0] rfl (ih h)
noncomputable def m_could_L68 (N : Nat) (v1 : Int32) (v2 : Int32) : Nat → gz_V → Int32 → Int32 → Option ((gz_V × Int32) ⊕ (gz_V))
  | 0, _, _, _ => none
  | n + 1, V, v4, v5 => (if v5 ≤ 0 then some (.inr V) else gz_bd (m_greatestBut N V v4) (fun r14 => (if r14 = (-1) then some (.inl (V, 0)) else gz_gd (gz_inb r14 9 = true) ((if (V (2, 53, 0) r14.toNatClampNeg) = 0 then some (.inl (V, 0)) else gz_gd (gz_inb r14 9 = true) (gz_gd (gz_inb r14 9 = true) (gz_let (gz_up V (2, 53, 0) r14.toNatClampNeg ((V (2, 53, 0) r14.toNatClampNeg) - 1)) (fun V21 => gz_let (v4 ||| ((1 : Int32) <<< (r14 &&& 31))) (fun x23 => m_could_L68 N v1 v2 n V21 x23 (v5 + (-1)))))))))))
theorem w_m_could_L68 {X : gz_X} {ad : gz_A0} (hX : gz_ok X cX6_could RX6 "could" 7 rm_could (some .int)) (hZ : gz_Z X) {N : Nat} {v1 : Int32} {v2 : Int32} {out : (gz_V × Int32) ⊕ (gz_V)} (hout : (∃ (W2 : gz_V) (r : Int32), out = .inl (W2, r) ∧ gx_F X tw_S W2 tw_R ad (some (.int r))) ∨ (∃ (W1 : gz_V), out = .inr W1 ∧ gW X 7 tw_S tw_R ad W1 0 0 130 [(0, .ref (ad (1, 0, 0))), (1, .int v1), (2, .int v2)] [])) : ∀ (n : Nat) {V : gz_V} {v4 : Int32} {v5 : Int32}, m_could_L68 N v1 v2 n V v4 v5 = some out → gW X 7 tw_S tw_R ad V 0 0 68 [(0, .ref (ad (1, 0, 0))), (1, .int v1), (2, .int v2), (4, .int v4), (5, .int v5)] [] := by
  intro n
  induction n with
  | zero => intro V v4 v5 h; rw [m_could_L68] at h; cases h
  | succ n ih =>
    intro V v4 v5 h
    rw [m_could_L68] at h
    refine gz_iload (q := 4) hX dX6_could_68 rfl ?_
    refine gz_if_le (tgt := 130) hX dX6_could_70 (by decide) (fun c13 => ?_) (fun c13 => ?_)
    · have h := gz_ifp c13 h
      obtain rfl := gz_in1 h
      obtain ⟨_, _, e0, _⟩ | ⟨_, e0, k⟩ := hout
      · cases e0
      · cases e0
        exact gz_lv [0, 1, 2] rfl k
    · have h := gz_ifn c13 h
      refine gz_aload_n (q := 0) hX dX6_could_73 rfl rfl ?_
      refine gz_iload (q := 3) hX dX6_could_74 rfl ?_
      obtain ⟨r14, e15, h⟩ := gz_bd_o h
      refine tc_V (As := [.int v4]) hX (c_greatestBut e15) (lw_greatestBut_ q2066) rfl rfl nn_greatestBut ⟨Nat.le_of_ble_eq_true rfl, Nat.le_of_ble_eq_true rfl⟩ rfl rfl (Nat.le_of_ble_eq_true rfl) dX6_could_76 rfl ?_
      refine gz_istore (lv2 := [(6, .int r14), (0, .ref (ad (1, 0, 0))), (1, .int v1), (2, .int v2), (4, .int v4), (5, .int v5)]) hX dX6_could_79 (by decide) rfl ?_
      refine gz_iload (q := 0) hX dX6_could_81 rfl ?_
      refine gz_iconst (v := (-1)) hX dX6_could_83 gk_c_m1 ?_
      refine gz_icmp_eq (tgt := 97) hX dX6_could_84 (by decide) (fun c16 => ?_) (fun c16 => ?_)
      · have h := gz_ifp c16 h
        refine gz_iconst (v := 0) hX dX6_could_97 gk_c_0 ?_
        obtain rfl := gz_in1 h
        obtain ⟨_, _, e0, hF⟩ | ⟨_, e0, _⟩ := hout
        · cases e0
          exact gt_iret hX hZ hF rfl rfl dX6_could_98
        · cases e0
      · have h := gz_ifn c16 h
        refine gz_aload_n (q := 1) hX dX6_could_87 rfl rfl ?_
        refine tg_toShake hX dX6_could_88 ?_
        refine gz_iload (q := 0) hX dX6_could_91 rfl ?_
        obtain ⟨b17, h⟩ := gz_gd_o h
        refine gz_iald (L := 9) hX tw_S53 (gz_inb_o b17) dX6_could_93 ?_
        refine gz_if_ne (tgt := 99) hX dX6_could_94 (by decide) (fun c18 => ?_) (fun c18 => ?_)
        · have h := gz_ifn c18 h
          refine gz_aload_n (q := 1) hX dX6_could_99 rfl rfl ?_
          refine tg_toShake hX dX6_could_100 ?_
          refine gz_iload (q := 0) hX dX6_could_103 rfl ?_
          refine gz_aload_n (q := 1) hX dX6_could_105 rfl rfl ?_
          refine tg_toShake hX dX6_could_106 ?_
          refine gz_iload (q := 0) hX dX6_could_109 rfl ?_
          obtain ⟨b19, h⟩ := gz_gd_o h
          refine gz_iald (L := 9) hX tw_S53 (gz_inb_o b19) dX6_could_111 ?_
          refine gz_iconst (v := 1) hX dX6_could_112 gk_c_1 ?_
          refine gz_isub hX dX6_could_113 ?_
          obtain ⟨b20, h⟩ := gz_gd_o h
          obtain ⟨V21, e22, h⟩ := gz_let_o h
          refine gz_iast (L := 9) hX tw_S53 (by decide) (gz_inb_o b20) dX6_could_114 e22 ?_
          refine gz_iload (q := 4) hX dX6_could_115 rfl ?_
          refine gz_iconst (v := 1) hX dX6_could_117 gk_c_1 ?_
          refine gz_iload (q := 0) hX dX6_could_118 rfl ?_
          refine gz_ishl hX dX6_could_120 ?_
          refine gz_ior hX dX6_could_121 ?_
          obtain ⟨x23, e24, h⟩ := gz_let_o h
          refine gz_nm e24 ?_
          refine gz_istore (lv2 := [(4, .int x23), (6, .int r14), (0, .ref (ad (1, 0, 0))), (1, .int v1), (2, .int v2), (5, .int v5)]) hX dX6_could_122 (by decide) rfl ?_
          refine gz_iinc (q := 5) (lv2 := [(5, .int (v5 + (-1))), (4, .int x23), (6, .int r14), (0, .ref (ad (1, 0, 0))), (1, .int v1), (2, .int v2)]) hX dX6_could_124 rfl gk_c_m1 (by decide) rfl ?_
          refine gz_goto (tgt := 68) hX dX6_could_127 (by decide) ?_
          exact gz_lv [3, 4, 5, 1, 0] rfl (ih h)
        · have h := gz_ifp c18 h
          refine gz_iconst (v := 0) hX dX6_could_97 gk_c_0 ?_
          obtain rfl := gz_in1 h
          obtain ⟨_, _, e0, hF⟩ | ⟨_, e0, _⟩ := hout
          · cases e0
            exact gt_iret hX hZ hF rfl rfl dX6_could_98
          · cases e0
noncomputable def m_could_L37 (N : Nat) : Nat → gz_V → Int32 → Int32 → Option ((gz_V × Int32) ⊕ (gz_V))
  | 0, _, _, _ => none
  | n + 1, V, v1, v2 => (if (V (1, 0, 0) 51) ≤ v2 then some (.inr V) else gz_bd (m_greatestBut N V v1) (fun r6 => gz_let (v1 ||| ((1 : Int32) <<< (r6 &&& 31))) (fun x8 => gz_gd (gz_inb r6 9 = true) (gz_let (V (2, 53, 0) r6.toNatClampNeg) (fun x11 => gz_lp (m_could_L68 N x8 v2 N V x8 x11) (fun p => some (.inl p)) (fun V13 => m_could_L37 N n V13 x8 (v2 + 1)))))))
theorem w_m_could_L37 {X : gz_X} {ad : gz_A0} (hX : gz_ok X cX6_could RX6 "could" 7 rm_could (some .int)) (hZ : gz_Z X) {N : Nat} {out : (gz_V × Int32) ⊕ (gz_V)} (hout : (∃ (W2 : gz_V) (r : Int32), out = .inl (W2, r) ∧ gx_F X tw_S W2 tw_R ad (some (.int r))) ∨ (∃ (W1 : gz_V), out = .inr W1 ∧ gW X 7 tw_S tw_R ad W1 0 0 136 [] [])) : ∀ (n : Nat) {V : gz_V} {v1 : Int32} {v2 : Int32}, m_could_L37 N n V v1 v2 = some out → gW X 7 tw_S tw_R ad V 0 0 37 [(0, .ref (ad (1, 0, 0))), (1, .int v1), (2, .int v2)] [] := by
  intro n
  induction n with
  | zero => intro V v1 v2 h; rw [m_could_L37] at h; cases h
  | succ n ih =>
    intro V v1 v2 h
    rw [m_could_L37] at h
    refine gz_iload_n (q := 2) hX dX6_could_37 rfl rfl ?_
    refine gz_aload_n (q := 0) hX dX6_could_38 rfl rfl ?_
    refine tg_numberMany hX dX6_could_39 ?_
    refine gz_icmp_ge (tgt := 136) hX dX6_could_42 (by decide) (fun c5 => ?_) (fun c5 => ?_)
    · have h := gz_ifp c5 h
      obtain rfl := gz_in1 h
      obtain ⟨_, _, e0, _⟩ | ⟨_, e0, k⟩ := hout
      · cases e0
      · cases e0
        exact gz_lv [] rfl k
    · have h := gz_ifn c5 h
      refine gz_aload_n (q := 0) hX dX6_could_45 rfl rfl ?_
      refine gz_iload_n (q := 1) hX dX6_could_46 rfl rfl ?_
      obtain ⟨r6, e7, h⟩ := gz_bd_o h
      refine tc_V (As := [.int v1]) hX (c_greatestBut e7) (lw_greatestBut_ q2066) rfl rfl nn_greatestBut ⟨Nat.le_of_ble_eq_true rfl, Nat.le_of_ble_eq_true rfl⟩ rfl rfl (Nat.le_of_ble_eq_true rfl) dX6_could_47 rfl ?_
      refine gz_istore_n (lv2 := [(3, .int r6), (0, .ref (ad (1, 0, 0))), (1, .int v1), (2, .int v2)]) hX dX6_could_50 rfl (by decide) rfl ?_
      refine gz_iload_n (q := 2) hX dX6_could_51 rfl rfl ?_
      refine gz_iconst (v := 1) hX dX6_could_52 gk_c_1 ?_
      refine gz_iload_n (q := 0) hX dX6_could_53 rfl rfl ?_
      refine gz_ishl hX dX6_could_54 ?_
      refine gz_ior hX dX6_could_55 ?_
      obtain ⟨x8, e9, h⟩ := gz_let_o h
      refine gz_nm e9 ?_
      refine gz_istore_n (lv2 := [(1, .int x8), (3, .int r6), (0, .ref (ad (1, 0, 0))), (2, .int v2)]) hX dX6_could_56 rfl (by decide) rfl ?_
      refine gz_iload_n (q := 0) hX dX6_could_57 rfl rfl ?_
      refine gz_istore (lv2 := [(4, .int x8), (1, .int x8), (3, .int r6), (0, .ref (ad (1, 0, 0))), (2, .int v2)]) hX dX6_could_58 (by decide) rfl ?_
      refine gz_aload_n (q := 3) hX dX6_could_60 rfl rfl ?_
      refine tg_toShake hX dX6_could_61 ?_
      refine gz_iload_n (q := 2) hX dX6_could_64 rfl rfl ?_
      obtain ⟨b10, h⟩ := gz_gd_o h
      refine gz_iald (L := 9) hX tw_S53 (gz_inb_o b10) dX6_could_65 ?_
      obtain ⟨x11, e12, h⟩ := gz_let_o h
      refine gz_nm e12 ?_
      refine gz_istore (lv2 := [(5, .int x11), (4, .int x8), (1, .int x8), (3, .int r6), (0, .ref (ad (1, 0, 0))), (2, .int v2)]) hX dX6_could_66 (by decide) rfl ?_
      rcases gz_lp_o h with ⟨p15, e14, h⟩ | ⟨V13, e14, h⟩
      · obtain rfl := gz_in1 h
        obtain ⟨_, _, e0, hF⟩ | ⟨_, e0, _⟩ := hout
        · cases e0
          exact gz_lv [4, 2, 5, 1, 0] rfl (w_m_could_L68 hX hZ (Or.inl ⟨_, _, rfl, hF⟩) N e14)
        · cases e0
      · refine gz_lv [4, 2, 5, 1, 0] rfl (w_m_could_L68 hX hZ (Or.inr ⟨V13, rfl, ?_⟩) N e14)
        refine gz_iinc (q := 2) (lv2 := [(2, .int (v2 + 1)), (0, .ref (ad (1, 0, 0))), (1, .int x8)]) hX dX6_could_130 rfl gk_c_1 (by decide) rfl ?_
        refine gz_goto (tgt := 37) hX dX6_could_133 (by decide) ?_
        exact gz_lv [1, 2, 0] rfl (ih h)
noncomputable def m_could (N : Nat) (V : gz_V) : Option (gz_V × Int32) := gz_let (gz_up V (1, 0, 0) 0 0) (fun V1 => gz_bd (m_could_L7 N N V1 0) (fun V3 => gz_lp (m_could_L37 N N V3 0 0) some (fun V5 => some (V5, 1))))
theorem c_could {l : Launch} {D : va_G} {aC : Nat → ClassId} {ad : gz_A0} {N : Nat} {V : gz_V} {W1 : gz_V} {r : Int32} (h : m_could N V = some (W1, r)) : gz_Met l yX6_could cX6_could 7 (some .int) rm_could D aC ad tw_S V tw_R [.ref (ad (1, 0, 0))] (gz_F1 tw_S tw_R ad W1 (some (.int r))) 0 0 := by
  refine gt_ofW (own := RX6) (mn := "could") (lv := [(0, .ref (ad (1, 0, 0)))]) (by decide) rfl rfl (Nat.le_of_ble_eq_true rfl) rfl ?_
  intro X hX hZ hF
  rw [m_could] at h
  refine gz_aload_n (q := 0) hX dX6_could_0 rfl rfl ?_
  refine gz_iconst (v := 0) hX dX6_could_1 gk_c_0 ?_
  obtain ⟨V1, e2, h⟩ := gz_let_o h
  refine tp_told hX dX6_could_2 e2 ?_
  refine gz_iconst (v := 0) hX dX6_could_5 gk_c_0 ?_
  refine gz_istore_n (lv2 := [(1, .int 0), (0, .ref (ad (1, 0, 0)))]) hX dX6_could_6 rfl (by decide) rfl ?_
  obtain ⟨V3, e4, h⟩ := gz_bd_o h
  refine gz_lv [1, 0] rfl (w_m_could_L7 hX hZ ?_ N e4)
  refine gz_iconst (v := 0) hX dX6_could_33 gk_c_0 ?_
  refine gz_istore_n (lv2 := [(1, .int 0), (0, .ref (ad (1, 0, 0)))]) hX dX6_could_34 rfl (by decide) rfl ?_
  refine gz_iconst (v := 0) hX dX6_could_35 gk_c_0 ?_
  refine gz_istore_n (lv2 := [(2, .int 0), (1, .int 0), (0, .ref (ad (1, 0, 0)))]) hX dX6_could_36 rfl (by decide) rfl ?_
  rcases gz_lp_o h with ⟨p7, e6, h⟩ | ⟨V5, e6, h⟩
  · obtain rfl := gz_in1 h
    exact gz_lv [2, 1, 0] rfl (w_m_could_L37 hX hZ (Or.inl ⟨_, _, rfl, hF⟩) N e6)
  · refine gz_lv [2, 1, 0] rfl (w_m_could_L37 hX hZ (Or.inr ⟨V5, rfl, ?_⟩) N e6)
    refine gz_iconst (v := 1) hX dX6_could_136 gk_c_1 ?_
    obtain ⟨e1, e2⟩ := gz_in2 h
    exact gt_iret hX hZ hF e1 e2 dX6_could_137
theorem lw_could_ {i : Nat} (hl : Cond.methodLink RX6 i yX6_could ∈ lw_all) : GoodIn lw_all (wsV RX6 i RX6 yX6_could (ws_ yX6_could cX6_could 7 (some .int))) := lw_V hl q2063 q2064 q153 q2065
theorem nn_could : yX6_could.cls = RX6 ∧ yX6_could.cls ≠ "java/lang/invoke/MethodHandle" ∧ yX6_could.cls ≠ "java/lang/invoke/VarHandle" ∧ (parseMethodDescriptor yX6_could.desc).map (fun d => d.parameters.length) = some 0 := by decide +kernel
def rm_does : Room := { frames := 2, cells := 0, slots := 0, locals := 46 }
noncomputable def m_does (V : gz_V) (a1 : Int32) : Option gz_V := gz_gd (gz_inb (a1 + 1) 160 = true) (gz_let (V (2, 37, 0) (a1 + 1).toNatClampNeg) (fun x2 => gz_gd (gz_inb (a1 + 2) 160 = true) (gz_let (V (2, 37, 0) (a1 + 2).toNatClampNeg) (fun x5 => gz_bd (if x2 = 0 then gz_gd (gz_inb (77 + x5) 121 = true) (gz_let (gz_up V (2, 1, 0) (77 + x5).toNatClampNeg 1) (fun V12 => some V12)) else some V) (fun V7 => gz_bd (if x2 = 1 then gz_gd (gz_inb (77 + x5) 121 = true) (gz_let (gz_up V7 (2, 1, 0) (77 + x5).toNatClampNeg 0) (fun V19 => some V19)) else some V7) (fun V14 => gz_bd (if x2 = 2 then gz_gd (gz_inb (77 + x5) 121 = true) (gz_let (gz_up V14 (2, 1, 0) (77 + x5).toNatClampNeg 2) (fun V26 => some V26)) else some V14) (fun V21 => gz_bd (if x2 = 3 then gz_gd (gz_inb (65 + x5) 121 = true) (gz_gd (gz_inb (a1 + 4) 160 = true) (gz_gd (gz_inb (65 + x5) 121 = true) (gz_let (gz_up V21 (2, 1, 0) (65 + x5).toNatClampNeg (m_lesser 9999 ((V21 (2, 1, 0) (65 + x5).toNatClampNeg) + (V21 (2, 37, 0) (a1 + 4).toNatClampNeg)))) (fun V35 => some V35)))) else some V21) (fun V28 => (if x2 = 4 then gz_gd (gz_inb (a1 + 3) 160 = true) (gz_gd (gz_inb (a1 + 3) 160 = true) (gz_bd (m_traitOf V28 x5 (V28 (2, 37, 0) (a1 + 3).toNatClampNeg)) (fun r40 => gz_gd (gz_inb (a1 + 4) 160 = true) (gz_bd (m_hasTrait V28 x5 (V28 (2, 37, 0) (a1 + 3).toNatClampNeg) (r40 - (V28 (2, 37, 0) (a1 + 4).toNatClampNeg))) (fun V44 => some V44))))) else some V28)))))))))
theorem c_does {l : Launch} {D : va_G} {aC : Nat → ClassId} {ad : gz_A0} {V : gz_V} {a1 : Int32} {W1 : gz_V} (h : m_does V a1 = some W1) : gz_Met l yX6_does cX6_does 4 none rm_does D aC ad tw_S V tw_R [.ref (ad (1, 0, 0)), .int a1] (gz_F1 tw_S tw_R ad W1 none) 0 0 := by
  refine gt_ofW (own := RX6) (mn := "does") (lv := [(0, .ref (ad (1, 0, 0))), (1, .int a1)]) (by decide) rfl rfl (Nat.le_of_ble_eq_true rfl) rfl ?_
  intro X hX hZ hF
  rw [m_does] at h
  refine gz_aload_n (q := 0) hX dX6_does_0 rfl rfl ?_
  refine tg_deeds hX dX6_does_1 ?_
  refine gz_iload_n (q := 1) hX dX6_does_4 rfl rfl ?_
  refine gz_iconst (v := 1) hX dX6_does_5 gk_c_1 ?_
  refine gz_iadd hX dX6_does_6 ?_
  obtain ⟨b1, h⟩ := gz_gd_o h
  refine gz_iald (L := 160) hX tw_S37 (gz_inb_o b1) dX6_does_7 ?_
  obtain ⟨x2, e3, h⟩ := gz_let_o h
  refine gz_nm e3 ?_
  refine gz_istore_n (lv2 := [(2, .int x2), (0, .ref (ad (1, 0, 0))), (1, .int a1)]) hX dX6_does_8 rfl (by decide) rfl ?_
  refine gz_aload_n (q := 1) hX dX6_does_9 rfl rfl ?_
  refine tg_deeds hX dX6_does_10 ?_
  refine gz_iload_n (q := 2) hX dX6_does_13 rfl rfl ?_
  refine gz_iconst (v := 2) hX dX6_does_14 gk_c_2 ?_
  refine gz_iadd hX dX6_does_15 ?_
  obtain ⟨b4, h⟩ := gz_gd_o h
  refine gz_iald (L := 160) hX tw_S37 (gz_inb_o b4) dX6_does_16 ?_
  obtain ⟨x5, e6, h⟩ := gz_let_o h
  refine gz_nm e6 ?_
  refine gz_istore_n (lv2 := [(3, .int x5), (2, .int x2), (0, .ref (ad (1, 0, 0))), (1, .int a1)]) hX dX6_does_17 rfl (by decide) rfl ?_
  refine gz_iload_n (q := 1) hX dX6_does_18 rfl rfl ?_
  obtain ⟨V7, g8, h⟩ := gz_bd_o h
  have J9 : gW X 4 tw_S tw_R ad V7 0 0 32 [(0, .ref (ad (1, 0, 0))), (1, .int a1), (2, .int x2), (3, .int x5)] [] := by
    refine gz_iload_n (q := 2) hX dX6_does_32 rfl rfl ?_
    refine gz_iconst (v := 1) hX dX6_does_33 gk_c_1 ?_
    obtain ⟨V14, g15, h⟩ := gz_bd_o h
    have J16 : gW X 4 tw_S tw_R ad V14 0 0 47 [(0, .ref (ad (1, 0, 0))), (1, .int a1), (2, .int x2), (3, .int x5)] [] := by
      refine gz_iload_n (q := 2) hX dX6_does_47 rfl rfl ?_
      refine gz_iconst (v := 2) hX dX6_does_48 gk_c_2 ?_
      obtain ⟨V21, g22, h⟩ := gz_bd_o h
      have J23 : gW X 4 tw_S tw_R ad V21 0 0 62 [(0, .ref (ad (1, 0, 0))), (1, .int a1), (2, .int x2), (3, .int x5)] [] := by
        refine gz_iload_n (q := 2) hX dX6_does_62 rfl rfl ?_
        refine gz_iconst (v := 3) hX dX6_does_63 gk_c_3 ?_
        obtain ⟨V28, g29, h⟩ := gz_bd_o h
        have J30 : gW X 4 tw_S tw_R ad V28 0 0 101 [(0, .ref (ad (1, 0, 0))), (1, .int a1), (2, .int x2), (3, .int x5)] [] := by
          refine gz_iload_n (q := 2) hX dX6_does_101 rfl rfl ?_
          refine gz_iconst (v := 4) hX dX6_does_102 gk_c_4 ?_
          refine gz_icmp_ne (tgt := 141) hX dX6_does_103 (by decide) (fun c37 => ?_) (fun c37 => ?_)
          · have h := gz_ifn c37 h
            exact gt_vret hX hZ hF (gz_in1 h) dX6_does_141
          · have h := gz_ifp c37 h
            refine gz_aload_n (q := 0) hX dX6_does_106 rfl rfl ?_
            refine gz_iload_n (q := 3) hX dX6_does_107 rfl rfl ?_
            refine gz_aload_n (q := 0) hX dX6_does_108 rfl rfl ?_
            refine tg_deeds hX dX6_does_109 ?_
            refine gz_iload_n (q := 1) hX dX6_does_112 rfl rfl ?_
            refine gz_iconst (v := 3) hX dX6_does_113 gk_c_3 ?_
            refine gz_iadd hX dX6_does_114 ?_
            obtain ⟨b38, h⟩ := gz_gd_o h
            refine gz_iald (L := 160) hX tw_S37 (gz_inb_o b38) dX6_does_115 ?_
            refine gz_aload_n (q := 0) hX dX6_does_116 rfl rfl ?_
            refine gz_iload_n (q := 3) hX dX6_does_117 rfl rfl ?_
            refine gz_aload_n (q := 0) hX dX6_does_118 rfl rfl ?_
            refine tg_deeds hX dX6_does_119 ?_
            refine gz_iload_n (q := 1) hX dX6_does_122 rfl rfl ?_
            refine gz_iconst (v := 3) hX dX6_does_123 gk_c_3 ?_
            refine gz_iadd hX dX6_does_124 ?_
            obtain ⟨b39, h⟩ := gz_gd_o h
            refine gz_iald (L := 160) hX tw_S37 (gz_inb_o b39) dX6_does_125 ?_
            obtain ⟨r40, e41, h⟩ := gz_bd_o h
            refine tc_V (As := [.int x5, .int (V28 (2, 37, 0) (a1 + 3).toNatClampNeg)]) hX (c_traitOf e41) (lw_traitOf_ q1896) rfl rfl nn_traitOf ⟨Nat.le_of_ble_eq_true rfl, Nat.le_of_ble_eq_true rfl⟩ rfl rfl (Nat.le_of_ble_eq_true rfl) dX6_does_126 rfl ?_
            refine gz_aload_n (q := 0) hX dX6_does_129 rfl rfl ?_
            refine tg_deeds hX dX6_does_130 ?_
            refine gz_iload_n (q := 1) hX dX6_does_133 rfl rfl ?_
            refine gz_iconst (v := 4) hX dX6_does_134 gk_c_4 ?_
            refine gz_iadd hX dX6_does_135 ?_
            obtain ⟨b42, h⟩ := gz_gd_o h
            refine gz_iald (L := 160) hX tw_S37 (gz_inb_o b42) dX6_does_136 ?_
            refine gz_isub hX dX6_does_137 ?_
            obtain ⟨V44, e43, h⟩ := gz_bd_o h
            refine tc_V (As := [.int x5, .int (V28 (2, 37, 0) (a1 + 3).toNatClampNeg), .int (r40 - (V28 (2, 37, 0) (a1 + 4).toNatClampNeg))]) hX (c_hasTrait e43) (lw_hasTrait_ q1696) rfl rfl nn_hasTrait ⟨Nat.le_of_ble_eq_true rfl, Nat.le_of_ble_eq_true rfl⟩ rfl rfl (Nat.le_of_ble_eq_true rfl) dX6_does_138 rfl ?_
            exact gt_vret hX hZ hF (gz_in1 h) dX6_does_141
        refine gz_icmp_ne (tgt := 101) hX dX6_does_64 (by decide) (fun c31 => ?_) (fun c31 => ?_)
        · have g29 := gz_ifn c31 g29
          obtain rfl := gz_in1 g29
          exact gz_lv [0, 1, 2, 3] rfl J30
        · have g29 := gz_ifp c31 g29
          refine gz_aload_n (q := 0) hX dX6_does_67 rfl rfl ?_
          refine tg_now hX dX6_does_68 ?_
          refine gz_bipush (v := 65) hX dX6_does_71 gk_b_65 ?_
          refine gz_iload_n (q := 3) hX dX6_does_73 rfl rfl ?_
          refine gz_iadd hX dX6_does_74 ?_
          refine gz_aload_n (q := 0) hX dX6_does_75 rfl rfl ?_
          refine gz_sipush (v := 9999) hX dX6_does_76 gk_s_9999 ?_
          refine gz_aload_n (q := 0) hX dX6_does_79 rfl rfl ?_
          refine tg_now hX dX6_does_80 ?_
          refine gz_bipush (v := 65) hX dX6_does_83 gk_b_65 ?_
          refine gz_iload_n (q := 3) hX dX6_does_85 rfl rfl ?_
          refine gz_iadd hX dX6_does_86 ?_
          obtain ⟨b32, g29⟩ := gz_gd_o g29
          refine gz_iald (L := 121) hX tw_S1 (gz_inb_o b32) dX6_does_87 ?_
          refine gz_aload_n (q := 0) hX dX6_does_88 rfl rfl ?_
          refine tg_deeds hX dX6_does_89 ?_
          refine gz_iload_n (q := 1) hX dX6_does_92 rfl rfl ?_
          refine gz_iconst (v := 4) hX dX6_does_93 gk_c_4 ?_
          refine gz_iadd hX dX6_does_94 ?_
          obtain ⟨b33, g29⟩ := gz_gd_o g29
          refine gz_iald (L := 160) hX tw_S37 (gz_inb_o b33) dX6_does_95 ?_
          refine gz_iadd hX dX6_does_96 ?_
          refine tc_V (As := [.int 9999, .int ((V21 (2, 1, 0) (65 + x5).toNatClampNeg) + (V21 (2, 37, 0) (a1 + 4).toNatClampNeg))]) hX (c_lesser rfl) (lw_lesser_ q1932) rfl rfl nn_lesser ⟨Nat.le_of_ble_eq_true rfl, Nat.le_of_ble_eq_true rfl⟩ rfl rfl (Nat.le_of_ble_eq_true rfl) dX6_does_97 rfl ?_
          obtain ⟨b34, g29⟩ := gz_gd_o g29
          obtain ⟨V35, e36, g29⟩ := gz_let_o g29
          refine gz_iast (L := 121) hX tw_S1 (by decide) (gz_inb_o b34) dX6_does_100 e36 ?_
          obtain rfl := gz_in1 g29
          exact gz_lv [0, 1, 2, 3] rfl J30
      refine gz_icmp_ne (tgt := 62) hX dX6_does_49 (by decide) (fun c24 => ?_) (fun c24 => ?_)
      · have g22 := gz_ifn c24 g22
        obtain rfl := gz_in1 g22
        exact gz_lv [0, 1, 2, 3] rfl J23
      · have g22 := gz_ifp c24 g22
        refine gz_aload_n (q := 0) hX dX6_does_52 rfl rfl ?_
        refine tg_now hX dX6_does_53 ?_
        refine gz_bipush (v := 77) hX dX6_does_56 gk_b_77 ?_
        refine gz_iload_n (q := 3) hX dX6_does_58 rfl rfl ?_
        refine gz_iadd hX dX6_does_59 ?_
        refine gz_iconst (v := 2) hX dX6_does_60 gk_c_2 ?_
        obtain ⟨b25, g22⟩ := gz_gd_o g22
        obtain ⟨V26, e27, g22⟩ := gz_let_o g22
        refine gz_iast (L := 121) hX tw_S1 (by decide) (gz_inb_o b25) dX6_does_61 e27 ?_
        obtain rfl := gz_in1 g22
        exact gz_lv [0, 1, 2, 3] rfl J23
    refine gz_icmp_ne (tgt := 47) hX dX6_does_34 (by decide) (fun c17 => ?_) (fun c17 => ?_)
    · have g15 := gz_ifn c17 g15
      obtain rfl := gz_in1 g15
      exact gz_lv [0, 1, 2, 3] rfl J16
    · have g15 := gz_ifp c17 g15
      refine gz_aload_n (q := 0) hX dX6_does_37 rfl rfl ?_
      refine tg_now hX dX6_does_38 ?_
      refine gz_bipush (v := 77) hX dX6_does_41 gk_b_77 ?_
      refine gz_iload_n (q := 3) hX dX6_does_43 rfl rfl ?_
      refine gz_iadd hX dX6_does_44 ?_
      refine gz_iconst (v := 0) hX dX6_does_45 gk_c_0 ?_
      obtain ⟨b18, g15⟩ := gz_gd_o g15
      obtain ⟨V19, e20, g15⟩ := gz_let_o g15
      refine gz_iast (L := 121) hX tw_S1 (by decide) (gz_inb_o b18) dX6_does_46 e20 ?_
      obtain rfl := gz_in1 g15
      exact gz_lv [0, 1, 2, 3] rfl J16
  refine gz_if_ne (tgt := 32) hX dX6_does_19 (by decide) (fun c10 => ?_) (fun c10 => ?_)
  · have g8 := gz_ifn c10 g8
    obtain rfl := gz_in1 g8
    exact gz_lv [2, 3, 1, 0] rfl J9
  · have g8 := gz_ifp c10 g8
    refine gz_aload_n (q := 2) hX dX6_does_22 rfl rfl ?_
    refine tg_now hX dX6_does_23 ?_
    refine gz_bipush (v := 77) hX dX6_does_26 gk_b_77 ?_
    refine gz_iload_n (q := 0) hX dX6_does_28 rfl rfl ?_
    refine gz_iadd hX dX6_does_29 ?_
    refine gz_iconst (v := 1) hX dX6_does_30 gk_c_1 ?_
    obtain ⟨b11, g8⟩ := gz_gd_o g8
    obtain ⟨V12, e13, g8⟩ := gz_let_o g8
    refine gz_iast (L := 121) hX tw_S1 (by decide) (gz_inb_o b11) dX6_does_31 e13 ?_
    obtain rfl := gz_in1 g8
    exact gz_lv [2, 3, 1, 0] rfl J9
theorem lw_does_ {i : Nat} (hl : Cond.methodLink RX6 i yX6_does ∈ lw_all) : GoodIn lw_all (wsV RX6 i RX6 yX6_does (ws_ yX6_does cX6_does 4 none)) := lw_V hl q1992 qs117 q153 q1993
theorem nn_does : yX6_does.cls = RX6 ∧ yX6_does.cls ≠ "java/lang/invoke/MethodHandle" ∧ yX6_does.cls ≠ "java/lang/invoke/VarHandle" ∧ (parseMethodDescriptor yX6_does.desc).map (fun d => d.parameters.length) = some 1 := by decide +kernel
def rm_goesBy : Room := { frames := 8, cells := 0, slots := 0, locals := 195 }
noncomputable def m_goesBy_L2 (N : Nat) : Nat → gz_V → Int32 → Option (gz_V)
  | 0, _, _ => none
  | n + 1, V, v1 => (if (5 * (V (1, 0, 0) 36)) ≤ v1 then some V else gz_gd (gz_inb v1 160 = true) (gz_bd (if (V (2, 37, 0) v1.toNatClampNeg) = (V (2, 1, 0) (0 : Int32).toNatClampNeg) then gz_bd (m_does V v1) (fun V8 => some V8) else some V) (fun V3 => gz_let (v1 + 5) (fun x9 => m_goesBy_L2 N n V3 x9))))
theorem w_m_goesBy_L2 {X : gz_X} {ad : gz_A0} (hX : gz_ok X cX6_goesBy RX6 "goesBy" 3 rm_goesBy (some .int)) (hZ : gz_Z X) {N : Nat} {W1 : gz_V} (k : gW X 3 tw_S tw_R ad W1 0 0 39 [(0, .ref (ad (1, 0, 0)))] []) : ∀ (n : Nat) {V : gz_V} {v1 : Int32}, m_goesBy_L2 N n V v1 = some W1 → gW X 3 tw_S tw_R ad V 0 0 2 [(0, .ref (ad (1, 0, 0))), (1, .int v1)] [] := by
  intro n
  induction n with
  | zero => intro V v1 h; rw [m_goesBy_L2] at h; cases h
  | succ n ih =>
    intro V v1 h
    rw [m_goesBy_L2] at h
    refine gz_iload_n (q := 1) hX dX6_goesBy_2 rfl rfl ?_
    refine gz_iconst (v := 5) hX dX6_goesBy_3 gk_c_5 ?_
    refine gz_aload_n (q := 0) hX dX6_goesBy_4 rfl rfl ?_
    refine tg_deedMany hX dX6_goesBy_5 ?_
    refine gz_imul hX dX6_goesBy_8 ?_
    refine gz_icmp_ge (tgt := 39) hX dX6_goesBy_9 (by decide) (fun c1 => ?_) (fun c1 => ?_)
    · have h := gz_ifp c1 h
      obtain rfl := gz_in1 h
      exact gz_lv [0] rfl k
    · have h := gz_ifn c1 h
      refine gz_aload_n (q := 0) hX dX6_goesBy_12 rfl rfl ?_
      refine tg_deeds hX dX6_goesBy_13 ?_
      refine gz_iload_n (q := 1) hX dX6_goesBy_16 rfl rfl ?_
      obtain ⟨b2, h⟩ := gz_gd_o h
      refine gz_iald (L := 160) hX tw_S37 (gz_inb_o b2) dX6_goesBy_17 ?_
      refine gz_aload_n (q := 0) hX dX6_goesBy_18 rfl rfl ?_
      refine tg_now hX dX6_goesBy_19 ?_
      refine gz_iconst (v := 0) hX dX6_goesBy_22 gk_c_0 ?_
      refine gz_iald (L := 121) hX tw_S1 (gz_inb_o (by decide)) dX6_goesBy_23 ?_
      obtain ⟨V3, g4, h⟩ := gz_bd_o h
      have J5 : gW X 3 tw_S tw_R ad V3 0 0 32 [(0, .ref (ad (1, 0, 0))), (1, .int v1)] [] := by
        refine gz_iload_n (q := 1) hX dX6_goesBy_32 rfl rfl ?_
        refine gz_iconst (v := 5) hX dX6_goesBy_33 gk_c_5 ?_
        refine gz_iadd hX dX6_goesBy_34 ?_
        obtain ⟨x9, e10, h⟩ := gz_let_o h
        refine gz_nm e10 ?_
        refine gz_istore_n (lv2 := [(1, .int x9), (0, .ref (ad (1, 0, 0)))]) hX dX6_goesBy_35 rfl (by decide) rfl ?_
        refine gz_goto (tgt := 2) hX dX6_goesBy_36 (by decide) ?_
        exact gz_lv [1, 0] rfl (ih h)
      refine gz_icmp_ne (tgt := 32) hX dX6_goesBy_24 (by decide) (fun c6 => ?_) (fun c6 => ?_)
      · have g4 := gz_ifn c6 g4
        obtain rfl := gz_in1 g4
        exact gz_lv [0, 1] rfl J5
      · have g4 := gz_ifp c6 g4
        refine gz_aload_n (q := 0) hX dX6_goesBy_27 rfl rfl ?_
        refine gz_iload_n (q := 1) hX dX6_goesBy_28 rfl rfl ?_
        obtain ⟨V8, e7, g4⟩ := gz_bd_o g4
        refine tc_V (As := [.int v1]) hX (c_does e7) (lw_does_ q1990) rfl rfl nn_does ⟨Nat.le_of_ble_eq_true rfl, Nat.le_of_ble_eq_true rfl⟩ rfl rfl (Nat.le_of_ble_eq_true rfl) dX6_goesBy_29 rfl ?_
        obtain rfl := gz_in1 g4
        exact gz_lv [0, 1] rfl J5
noncomputable def m_goesBy_L43 (N : Nat) : Nat → gz_V → Int32 → Int32 → Option (gz_V × Int32)
  | 0, _, _, _ => none
  | n + 1, V, v1, v2 => (if (5 * (V (1, 0, 0) 34)) ≤ v2 then some (V, v1) else gz_gd (gz_inb v2 160 = true) (gz_b2 (if (V (2, 35, 0) v2.toNatClampNeg) = (V (2, 1, 0) (0 : Int32).toNatClampNeg) then gz_gd (gz_inb (v2 + 1) 160 = true) (gz_gd (gz_inb (v2 + 2) 160 = true) (gz_gd (gz_inb (v2 + 3) 160 = true) (gz_gd (gz_inb (v2 + 4) 160 = true) (gz_b2 (m_canBuy N V (V (2, 35, 0) (v2 + 1).toNatClampNeg) (V (2, 35, 0) (v2 + 2).toNatClampNeg) (V (2, 35, 0) (v2 + 3).toNatClampNeg) (V (2, 35, 0) (v2 + 4).toNatClampNeg)) (fun V16 r14 => (if r14 = 0 then some (V16, v1) else gz_gd (gz_inb (v2 + 1) 160 = true) (gz_gd (gz_inb (v2 + 2) 160 = true) (gz_gd (gz_inb (v2 + 3) 160 = true) (gz_gd (gz_inb (v2 + 4) 160 = true) (gz_b2 (m_bargains N V16 (V16 (2, 35, 0) (v2 + 1).toNatClampNeg) (V16 (2, 35, 0) (v2 + 2).toNatClampNeg) (V16 (2, 35, 0) (v2 + 3).toNatClampNeg) (V16 (2, 35, 0) (v2 + 4).toNatClampNeg)) (fun V24 r22 => gz_let (v1 + 1) (fun x25 => some (V24, x25))))))))))))) else some (V, v1)) (fun V5 y6 => gz_let (v2 + 5) (fun x27 => m_goesBy_L43 N n V5 y6 x27))))
theorem w_m_goesBy_L43 {X : gz_X} {ad : gz_A0} (hX : gz_ok X cX6_goesBy RX6 "goesBy" 3 rm_goesBy (some .int)) (hZ : gz_Z X) {N : Nat} {W1 : gz_V} {o1 : Int32} (k : gW X 3 tw_S tw_R ad W1 0 0 158 [(0, .ref (ad (1, 0, 0))), (1, .int o1)] []) : ∀ (n : Nat) {V : gz_V} {v1 : Int32} {v2 : Int32}, m_goesBy_L43 N n V v1 v2 = some (W1, o1) → gW X 3 tw_S tw_R ad V 0 0 43 [(0, .ref (ad (1, 0, 0))), (1, .int v1), (2, .int v2)] [] := by
  intro n
  induction n with
  | zero => intro V v1 v2 h; rw [m_goesBy_L43] at h; cases h
  | succ n ih =>
    intro V v1 v2 h
    rw [m_goesBy_L43] at h
    refine gz_iload_n (q := 2) hX dX6_goesBy_43 rfl rfl ?_
    refine gz_iconst (v := 5) hX dX6_goesBy_44 gk_c_5 ?_
    refine gz_aload_n (q := 0) hX dX6_goesBy_45 rfl rfl ?_
    refine tg_offerMany hX dX6_goesBy_46 ?_
    refine gz_imul hX dX6_goesBy_49 ?_
    refine gz_icmp_ge (tgt := 158) hX dX6_goesBy_50 (by decide) (fun c3 => ?_) (fun c3 => ?_)
    · have h := gz_ifp c3 h
      obtain ⟨rfl, rfl⟩ := gz_in2 h
      exact gz_lv [0, 1] rfl k
    · have h := gz_ifn c3 h
      refine gz_aload_n (q := 0) hX dX6_goesBy_53 rfl rfl ?_
      refine tg_offers hX dX6_goesBy_54 ?_
      refine gz_iload_n (q := 2) hX dX6_goesBy_57 rfl rfl ?_
      obtain ⟨b4, h⟩ := gz_gd_o h
      refine gz_iald (L := 160) hX tw_S35 (gz_inb_o b4) dX6_goesBy_58 ?_
      refine gz_aload_n (q := 0) hX dX6_goesBy_59 rfl rfl ?_
      refine tg_now hX dX6_goesBy_60 ?_
      refine gz_iconst (v := 0) hX dX6_goesBy_63 gk_c_0 ?_
      refine gz_iald (L := 121) hX tw_S1 (gz_inb_o (by decide)) dX6_goesBy_64 ?_
      obtain ⟨V5, y6, g7, h⟩ := gz_b2_o h
      have J8 : gW X 3 tw_S tw_R ad V5 0 0 151 [(0, .ref (ad (1, 0, 0))), (1, .int y6), (2, .int v2)] [] := by
        refine gz_iload_n (q := 2) hX dX6_goesBy_151 rfl rfl ?_
        refine gz_iconst (v := 5) hX dX6_goesBy_152 gk_c_5 ?_
        refine gz_iadd hX dX6_goesBy_153 ?_
        obtain ⟨x27, e28, h⟩ := gz_let_o h
        refine gz_nm e28 ?_
        refine gz_istore_n (lv2 := [(2, .int x27), (0, .ref (ad (1, 0, 0))), (1, .int y6)]) hX dX6_goesBy_154 rfl (by decide) rfl ?_
        refine gz_goto (tgt := 43) hX dX6_goesBy_155 (by decide) ?_
        exact gz_lv [1, 2, 0] rfl (ih h)
      refine gz_icmp_ne (tgt := 151) hX dX6_goesBy_65 (by decide) (fun c9 => ?_) (fun c9 => ?_)
      · have g7 := gz_ifn c9 g7
        obtain ⟨rfl, rfl⟩ := gz_in2 g7
        exact gz_lv [0, 1, 2] rfl J8
      · have g7 := gz_ifp c9 g7
        refine gz_aload_n (q := 0) hX dX6_goesBy_68 rfl rfl ?_
        refine gz_aload_n (q := 0) hX dX6_goesBy_69 rfl rfl ?_
        refine tg_offers hX dX6_goesBy_70 ?_
        refine gz_iload_n (q := 2) hX dX6_goesBy_73 rfl rfl ?_
        refine gz_iconst (v := 1) hX dX6_goesBy_74 gk_c_1 ?_
        refine gz_iadd hX dX6_goesBy_75 ?_
        obtain ⟨b10, g7⟩ := gz_gd_o g7
        refine gz_iald (L := 160) hX tw_S35 (gz_inb_o b10) dX6_goesBy_76 ?_
        refine gz_aload_n (q := 0) hX dX6_goesBy_77 rfl rfl ?_
        refine tg_offers hX dX6_goesBy_78 ?_
        refine gz_iload_n (q := 2) hX dX6_goesBy_81 rfl rfl ?_
        refine gz_iconst (v := 2) hX dX6_goesBy_82 gk_c_2 ?_
        refine gz_iadd hX dX6_goesBy_83 ?_
        obtain ⟨b11, g7⟩ := gz_gd_o g7
        refine gz_iald (L := 160) hX tw_S35 (gz_inb_o b11) dX6_goesBy_84 ?_
        refine gz_aload_n (q := 0) hX dX6_goesBy_85 rfl rfl ?_
        refine tg_offers hX dX6_goesBy_86 ?_
        refine gz_iload_n (q := 2) hX dX6_goesBy_89 rfl rfl ?_
        refine gz_iconst (v := 3) hX dX6_goesBy_90 gk_c_3 ?_
        refine gz_iadd hX dX6_goesBy_91 ?_
        obtain ⟨b12, g7⟩ := gz_gd_o g7
        refine gz_iald (L := 160) hX tw_S35 (gz_inb_o b12) dX6_goesBy_92 ?_
        refine gz_aload_n (q := 0) hX dX6_goesBy_93 rfl rfl ?_
        refine tg_offers hX dX6_goesBy_94 ?_
        refine gz_iload_n (q := 2) hX dX6_goesBy_97 rfl rfl ?_
        refine gz_iconst (v := 4) hX dX6_goesBy_98 gk_c_4 ?_
        refine gz_iadd hX dX6_goesBy_99 ?_
        obtain ⟨b13, g7⟩ := gz_gd_o g7
        refine gz_iald (L := 160) hX tw_S35 (gz_inb_o b13) dX6_goesBy_100 ?_
        obtain ⟨V16, r14, e15, g7⟩ := gz_b2_o g7
        refine tc_V (As := [.int (V (2, 35, 0) (v2 + 1).toNatClampNeg), .int (V (2, 35, 0) (v2 + 2).toNatClampNeg), .int (V (2, 35, 0) (v2 + 3).toNatClampNeg), .int (V (2, 35, 0) (v2 + 4).toNatClampNeg)]) hX (c_canBuy e15) (lw_canBuy_ q1876) rfl rfl nn_canBuy ⟨Nat.le_of_ble_eq_true rfl, Nat.le_of_ble_eq_true rfl⟩ rfl rfl (Nat.le_of_ble_eq_true rfl) dX6_goesBy_101 rfl ?_
        refine gz_if_ne (tgt := 110) hX dX6_goesBy_104 (by decide) (fun c17 => ?_) (fun c17 => ?_)
        · have g7 := gz_ifn c17 g7
          refine gz_aload_n (q := 0) hX dX6_goesBy_110 rfl rfl ?_
          refine gz_aload_n (q := 0) hX dX6_goesBy_111 rfl rfl ?_
          refine tg_offers hX dX6_goesBy_112 ?_
          refine gz_iload_n (q := 2) hX dX6_goesBy_115 rfl rfl ?_
          refine gz_iconst (v := 1) hX dX6_goesBy_116 gk_c_1 ?_
          refine gz_iadd hX dX6_goesBy_117 ?_
          obtain ⟨b18, g7⟩ := gz_gd_o g7
          refine gz_iald (L := 160) hX tw_S35 (gz_inb_o b18) dX6_goesBy_118 ?_
          refine gz_aload_n (q := 0) hX dX6_goesBy_119 rfl rfl ?_
          refine tg_offers hX dX6_goesBy_120 ?_
          refine gz_iload_n (q := 2) hX dX6_goesBy_123 rfl rfl ?_
          refine gz_iconst (v := 2) hX dX6_goesBy_124 gk_c_2 ?_
          refine gz_iadd hX dX6_goesBy_125 ?_
          obtain ⟨b19, g7⟩ := gz_gd_o g7
          refine gz_iald (L := 160) hX tw_S35 (gz_inb_o b19) dX6_goesBy_126 ?_
          refine gz_aload_n (q := 0) hX dX6_goesBy_127 rfl rfl ?_
          refine tg_offers hX dX6_goesBy_128 ?_
          refine gz_iload_n (q := 2) hX dX6_goesBy_131 rfl rfl ?_
          refine gz_iconst (v := 3) hX dX6_goesBy_132 gk_c_3 ?_
          refine gz_iadd hX dX6_goesBy_133 ?_
          obtain ⟨b20, g7⟩ := gz_gd_o g7
          refine gz_iald (L := 160) hX tw_S35 (gz_inb_o b20) dX6_goesBy_134 ?_
          refine gz_aload_n (q := 0) hX dX6_goesBy_135 rfl rfl ?_
          refine tg_offers hX dX6_goesBy_136 ?_
          refine gz_iload_n (q := 2) hX dX6_goesBy_139 rfl rfl ?_
          refine gz_iconst (v := 4) hX dX6_goesBy_140 gk_c_4 ?_
          refine gz_iadd hX dX6_goesBy_141 ?_
          obtain ⟨b21, g7⟩ := gz_gd_o g7
          refine gz_iald (L := 160) hX tw_S35 (gz_inb_o b21) dX6_goesBy_142 ?_
          obtain ⟨V24, r22, e23, g7⟩ := gz_b2_o g7
          refine tc_V (As := [.int (V16 (2, 35, 0) (v2 + 1).toNatClampNeg), .int (V16 (2, 35, 0) (v2 + 2).toNatClampNeg), .int (V16 (2, 35, 0) (v2 + 3).toNatClampNeg), .int (V16 (2, 35, 0) (v2 + 4).toNatClampNeg)]) hX (c_bargains e23) (lw_bargains_ q1924) rfl rfl nn_bargains ⟨Nat.le_of_ble_eq_true rfl, Nat.le_of_ble_eq_true rfl⟩ rfl rfl (Nat.le_of_ble_eq_true rfl) dX6_goesBy_143 rfl ?_
          refine gz_pop hX dX6_goesBy_146 rfl ?_
          refine gz_iload_n (q := 1) hX dX6_goesBy_147 rfl rfl ?_
          refine gz_iconst (v := 1) hX dX6_goesBy_148 gk_c_1 ?_
          refine gz_iadd hX dX6_goesBy_149 ?_
          obtain ⟨x25, e26, g7⟩ := gz_let_o g7
          refine gz_nm e26 ?_
          refine gz_istore_n (lv2 := [(1, .int x25), (0, .ref (ad (1, 0, 0))), (2, .int v2)]) hX dX6_goesBy_150 rfl (by decide) rfl ?_
          obtain ⟨rfl, rfl⟩ := gz_in2 g7
          exact gz_lv [1, 0, 2] rfl J8
        · have g7 := gz_ifp c17 g7
          refine gz_goto (tgt := 151) hX dX6_goesBy_107 (by decide) ?_
          obtain ⟨rfl, rfl⟩ := gz_in2 g7
          exact gz_lv [0, 1, 2] rfl J8
noncomputable def m_goesBy (N : Nat) (V : gz_V) : Option (gz_V × Int32) := gz_bd (m_goesBy_L2 N N V 0) (fun V1 => gz_b2 (m_goesBy_L43 N N V1 0 0) (fun V3 x4 => gz_let (gz_up V3 (2, 1, 0) (0 : Int32).toNatClampNeg ((V3 (2, 1, 0) (0 : Int32).toNatClampNeg) + 1)) (fun V6 => some (V6, x4))))
theorem c_goesBy {l : Launch} {D : va_G} {aC : Nat → ClassId} {ad : gz_A0} {N : Nat} {V : gz_V} {W1 : gz_V} {r : Int32} (h : m_goesBy N V = some (W1, r)) : gz_Met l yX6_goesBy cX6_goesBy 3 (some .int) rm_goesBy D aC ad tw_S V tw_R [.ref (ad (1, 0, 0))] (gz_F1 tw_S tw_R ad W1 (some (.int r))) 0 0 := by
  refine gt_ofW (own := RX6) (mn := "goesBy") (lv := [(0, .ref (ad (1, 0, 0)))]) (by decide) rfl rfl (Nat.le_of_ble_eq_true rfl) rfl ?_
  intro X hX hZ hF
  rw [m_goesBy] at h
  refine gz_iconst (v := 0) hX dX6_goesBy_0 gk_c_0 ?_
  refine gz_istore_n (lv2 := [(1, .int 0), (0, .ref (ad (1, 0, 0)))]) hX dX6_goesBy_1 rfl (by decide) rfl ?_
  obtain ⟨V1, e2, h⟩ := gz_bd_o h
  refine gz_lv [1, 0] rfl (w_m_goesBy_L2 hX hZ ?_ N e2)
  refine gz_iconst (v := 0) hX dX6_goesBy_39 gk_c_0 ?_
  refine gz_istore_n (lv2 := [(1, .int 0), (0, .ref (ad (1, 0, 0)))]) hX dX6_goesBy_40 rfl (by decide) rfl ?_
  refine gz_iconst (v := 0) hX dX6_goesBy_41 gk_c_0 ?_
  refine gz_istore_n (lv2 := [(2, .int 0), (1, .int 0), (0, .ref (ad (1, 0, 0)))]) hX dX6_goesBy_42 rfl (by decide) rfl ?_
  obtain ⟨V3, x4, e5, h⟩ := gz_b2_o h
  refine gz_lv [2, 1, 0] rfl (w_m_goesBy_L43 hX hZ ?_ N e5)
  refine gz_aload_n (q := 0) hX dX6_goesBy_158 rfl rfl ?_
  refine tg_now hX dX6_goesBy_159 ?_
  refine gz_iconst (v := 0) hX dX6_goesBy_162 gk_c_0 ?_
  refine gz_aload_n (q := 0) hX dX6_goesBy_163 rfl rfl ?_
  refine tg_now hX dX6_goesBy_164 ?_
  refine gz_iconst (v := 0) hX dX6_goesBy_167 gk_c_0 ?_
  refine gz_iald (L := 121) hX tw_S1 (gz_inb_o (by decide)) dX6_goesBy_168 ?_
  refine gz_iconst (v := 1) hX dX6_goesBy_169 gk_c_1 ?_
  refine gz_iadd hX dX6_goesBy_170 ?_
  obtain ⟨V6, e7, h⟩ := gz_let_o h
  refine gz_iast (L := 121) hX tw_S1 (by decide) (gz_inb_o (by decide)) dX6_goesBy_171 e7 ?_
  refine gz_iload_n (q := 1) hX dX6_goesBy_172 rfl rfl ?_
  obtain ⟨e1, e2⟩ := gz_in2 h
  exact gt_iret hX hZ hF e1 e2 dX6_goesBy_173
theorem lw_goesBy_ {i : Nat} (hl : Cond.methodLink RX6 i yX6_goesBy ∈ lw_all) : GoodIn lw_all (wsV RX6 i RX6 yX6_goesBy (ws_ yX6_goesBy cX6_goesBy 3 (some .int))) := lw_V hl q1988 qs116 q153 q1989
theorem nn_goesBy : yX6_goesBy.cls = RX6 ∧ yX6_goesBy.cls ≠ "java/lang/invoke/MethodHandle" ∧ yX6_goesBy.cls ≠ "java/lang/invoke/VarHandle" ∧ (parseMethodDescriptor yX6_goesBy.desc).map (fun d => d.parameters.length) = some 0 := by decide +kernel
