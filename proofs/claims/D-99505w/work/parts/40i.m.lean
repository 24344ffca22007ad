/-! THE TWIN, walked. Printed by wip/D-99505w/gen/mkx6.py -/
set_option maxRecDepth 100000
def rm_told : Room := { frames := 1, cells := 0, slots := 0, locals := 23 }
noncomputable def m_told (V : gz_V) (a1 : Int32) (a2 : Int32) : Option (gz_V × Int32) := gz_let (gz_up V (1, 0, 0) 0 0) (fun V1 => (if a1 = (-1) then gz_let (gz_up V1 (1, 0, 0) 48 0) (fun V16 => some (V16, 0)) else (if (m_isIn a1 0 11) = 0 then some (V1, (-1)) else (if (m_isIn a2 0 11) = 0 then some (V1, (-1)) else (if a1 = a2 then some (V1, (-1)) else (if (V1 (1, 0, 0) 48) = 16 then some (V1, (-1)) else gz_gd (gz_inb (V1 (1, 0, 0) 48) 16 = true) (gz_let (gz_up V1 (2, 49, 0) (V1 (1, 0, 0) 48).toNatClampNeg a1) (fun V9 => gz_gd (gz_inb (V9 (1, 0, 0) 48) 16 = true) (gz_let (gz_up V9 (2, 50, 0) (V9 (1, 0, 0) 48).toNatClampNeg a2) (fun V12 => gz_let (gz_up V12 (1, 0, 0) 48 ((V12 (1, 0, 0) 48) + 1)) (fun V14 => some (V14, (V14 (1, 0, 0) 48)))))))))))))
theorem c_told {l : Launch} {D : va_G} {aC : Nat → ClassId} {ad : gz_A0} {V : gz_V} {a1 : Int32} {a2 : Int32} {W1 : gz_V} {r : Int32} (h : m_told V a1 a2 = some (W1, r)) : gz_Met l yX6_told cX6_told 3 (some .int) rm_told D aC ad tw_S V tw_R [.ref (ad (1, 0, 0)), .int a1, .int a2] (gz_F1 tw_S tw_R ad W1 (some (.int r))) 0 0 := by
  refine gt_ofW (own := RX6) (mn := "told") (lv := [(0, .ref (ad (1, 0, 0))), (1, .int a1), (2, .int a2)]) (by decide) rfl rfl (Nat.le_of_ble_eq_true rfl) rfl ?_
  intro X hX hZ hF
  rw [m_told] at h
  refine gz_aload_n (q := 0) hX dX6_told_0 rfl rfl ?_
  refine gz_iconst (v := 0) hX dX6_told_1 gk_c_0 ?_
  obtain ⟨V1, e2, h⟩ := gz_let_o h
  refine tp_told hX dX6_told_2 e2 ?_
  refine gz_iload_n (q := 1) hX dX6_told_5 rfl rfl ?_
  refine gz_iconst (v := (-1)) hX dX6_told_6 gk_c_m1 ?_
  refine gz_icmp_ne (tgt := 17) hX dX6_told_7 (by decide) (fun c3 => ?_) (fun c3 => ?_)
  · have h := gz_ifn c3 h
    refine gz_aload_n (q := 0) hX dX6_told_17 rfl rfl ?_
    refine gz_iload_n (q := 1) hX dX6_told_18 rfl rfl ?_
    refine gz_iconst (v := 0) hX dX6_told_19 gk_c_0 ?_
    refine gz_bipush (v := 11) hX dX6_told_20 gk_b_11 ?_
    refine tc_V (As := [.int a1, .int 0, .int 11]) hX (c_isIn rfl) (lw_isIn_ q1692) rfl rfl nn_isIn ⟨Nat.le_of_ble_eq_true rfl, Nat.le_of_ble_eq_true rfl⟩ rfl rfl (Nat.le_of_ble_eq_true rfl) dX6_told_22 rfl ?_
    refine gz_if_eq (tgt := 53) hX dX6_told_25 (by decide) (fun c4 => ?_) (fun c4 => ?_)
    · have h := gz_ifp c4 h
      refine gz_iconst (v := (-1)) hX dX6_told_53 gk_c_m1 ?_
      obtain ⟨e1, e2⟩ := gz_in2 h
      exact gt_iret hX hZ hF e1 e2 dX6_told_54
    · have h := gz_ifn c4 h
      refine gz_aload_n (q := 0) hX dX6_told_28 rfl rfl ?_
      refine gz_iload_n (q := 2) hX dX6_told_29 rfl rfl ?_
      refine gz_iconst (v := 0) hX dX6_told_30 gk_c_0 ?_
      refine gz_bipush (v := 11) hX dX6_told_31 gk_b_11 ?_
      refine tc_V (As := [.int a2, .int 0, .int 11]) hX (c_isIn rfl) (lw_isIn_ q1692) rfl rfl nn_isIn ⟨Nat.le_of_ble_eq_true rfl, Nat.le_of_ble_eq_true rfl⟩ rfl rfl (Nat.le_of_ble_eq_true rfl) dX6_told_33 rfl ?_
      refine gz_if_eq (tgt := 53) hX dX6_told_36 (by decide) (fun c5 => ?_) (fun c5 => ?_)
      · have h := gz_ifp c5 h
        refine gz_iconst (v := (-1)) hX dX6_told_53 gk_c_m1 ?_
        obtain ⟨e1, e2⟩ := gz_in2 h
        exact gt_iret hX hZ hF e1 e2 dX6_told_54
      · have h := gz_ifn c5 h
        refine gz_iload_n (q := 1) hX dX6_told_39 rfl rfl ?_
        refine gz_iload_n (q := 2) hX dX6_told_40 rfl rfl ?_
        refine gz_icmp_eq (tgt := 53) hX dX6_told_41 (by decide) (fun c6 => ?_) (fun c6 => ?_)
        · have h := gz_ifp c6 h
          refine gz_iconst (v := (-1)) hX dX6_told_53 gk_c_m1 ?_
          obtain ⟨e1, e2⟩ := gz_in2 h
          exact gt_iret hX hZ hF e1 e2 dX6_told_54
        · have h := gz_ifn c6 h
          refine gz_aload_n (q := 0) hX dX6_told_44 rfl rfl ?_
          refine tg_claspMany hX dX6_told_45 ?_
          refine gz_bipush (v := 16) hX dX6_told_48 gk_b_16 ?_
          refine gz_icmp_ne (tgt := 55) hX dX6_told_50 (by decide) (fun c7 => ?_) (fun c7 => ?_)
          · have h := gz_ifn c7 h
            refine gz_aload_n (q := 0) hX dX6_told_55 rfl rfl ?_
            refine tg_claspOne hX dX6_told_56 ?_
            refine gz_aload_n (q := 0) hX dX6_told_59 rfl rfl ?_
            refine tg_claspMany hX dX6_told_60 ?_
            refine gz_iload_n (q := 1) hX dX6_told_63 rfl rfl ?_
            obtain ⟨b8, h⟩ := gz_gd_o h
            obtain ⟨V9, e10, h⟩ := gz_let_o h
            refine gz_iast (L := 16) hX tw_S49 (by decide) (gz_inb_o b8) dX6_told_64 e10 ?_
            refine gz_aload_n (q := 0) hX dX6_told_65 rfl rfl ?_
            refine tg_claspOther hX dX6_told_66 ?_
            refine gz_aload_n (q := 0) hX dX6_told_69 rfl rfl ?_
            refine tg_claspMany hX dX6_told_70 ?_
            refine gz_iload_n (q := 2) hX dX6_told_73 rfl rfl ?_
            obtain ⟨b11, h⟩ := gz_gd_o h
            obtain ⟨V12, e13, h⟩ := gz_let_o h
            refine gz_iast (L := 16) hX tw_S50 (by decide) (gz_inb_o b11) dX6_told_74 e13 ?_
            refine gz_aload_n (q := 0) hX dX6_told_75 rfl rfl ?_
            refine gz_aload_n (q := 0) hX dX6_told_76 rfl rfl ?_
            refine tg_claspMany hX dX6_told_77 ?_
            refine gz_iconst (v := 1) hX dX6_told_80 gk_c_1 ?_
            refine gz_iadd hX dX6_told_81 ?_
            obtain ⟨V14, e15, h⟩ := gz_let_o h
            refine tp_claspMany hX dX6_told_82 e15 ?_
            refine gz_aload_n (q := 0) hX dX6_told_85 rfl rfl ?_
            refine tg_claspMany hX dX6_told_86 ?_
            obtain ⟨e1, e2⟩ := gz_in2 h
            exact gt_iret hX hZ hF e1 e2 dX6_told_89
          · have h := gz_ifp c7 h
            refine gz_iconst (v := (-1)) hX dX6_told_53 gk_c_m1 ?_
            obtain ⟨e1, e2⟩ := gz_in2 h
            exact gt_iret hX hZ hF e1 e2 dX6_told_54
  · have h := gz_ifp c3 h
    refine gz_aload_n (q := 0) hX dX6_told_10 rfl rfl ?_
    refine gz_iconst (v := 0) hX dX6_told_11 gk_c_0 ?_
    obtain ⟨V16, e17, h⟩ := gz_let_o h
    refine tp_claspMany hX dX6_told_12 e17 ?_
    refine gz_iconst (v := 0) hX dX6_told_15 gk_c_0 ?_
    obtain ⟨e1, e2⟩ := gz_in2 h
    exact gt_iret hX hZ hF e1 e2 dX6_told_16
theorem lw_told_ {i : Nat} (hl : Cond.methodLink RX6 i yX6_told ∈ lw_all) : GoodIn lw_all (wsV RX6 i RX6 yX6_told (ws_ yX6_told cX6_told 3 (some .int))) := lw_V hl q2043 q2044 q153 q2045
theorem nn_told : yX6_told.cls = RX6 ∧ yX6_told.cls ≠ "java/lang/invoke/MethodHandle" ∧ yX6_told.cls ≠ "java/lang/invoke/VarHandle" ∧ (parseMethodDescriptor yX6_told.desc).map (fun d => d.parameters.length) = some 2 := by decide +kernel
def rm_undo : Room := { frames := 0, cells := 0, slots := 0, locals := 0 }
noncomputable def m_undo_L26 (N : Nat) : Nat → gz_V → Int32 → Option (gz_V)
  | 0, _, _ => none
  | n + 1, V, v1 => (if 121 ≤ v1 then some V else gz_gd (gz_inb ((121 * (V (1, 0, 0) 3)) + v1) 726 = true) (gz_gd (gz_inb v1 121 = true) (gz_let (gz_up V (2, 1, 0) v1.toNatClampNeg (V (2, 2, 0) ((121 * (V (1, 0, 0) 3)) + v1).toNatClampNeg)) (fun V9 => m_undo_L26 N n V9 (v1 + 1)))))
theorem w_m_undo_L26 {X : gz_X} {ad : gz_A0} (hX : gz_ok X cX6_undo RX6 "undo" 2 rm_undo (some .boolean)) (hZ : gz_Z X) {N : Nat} {W1 : gz_V} (k : gW X 2 tw_S tw_R ad W1 0 0 58 [] []) : ∀ (n : Nat) {V : gz_V} {v1 : Int32}, m_undo_L26 N n V v1 = some W1 → gW X 2 tw_S tw_R ad V 0 0 26 [(0, .ref (ad (1, 0, 0))), (1, .int v1)] [] := by
  intro n
  induction n with
  | zero => intro V v1 h; rw [m_undo_L26] at h; cases h
  | succ n ih =>
    intro V v1 h
    rw [m_undo_L26] at h
    refine gz_iload_n (q := 1) hX dX6_undo_26 rfl rfl ?_
    refine gz_bipush (v := 121) hX dX6_undo_27 gk_b_121 ?_
    refine gz_icmp_ge (tgt := 58) hX dX6_undo_29 (by decide) (fun c6 => ?_) (fun c6 => ?_)
    · have h := gz_ifp c6 h
      obtain rfl := gz_in1 h
      exact gz_lv [] rfl k
    · have h := gz_ifn c6 h
      refine gz_aload_n (q := 0) hX dX6_undo_32 rfl rfl ?_
      refine tg_now hX dX6_undo_33 ?_
      refine gz_iload_n (q := 1) hX dX6_undo_36 rfl rfl ?_
      refine gz_aload_n (q := 0) hX dX6_undo_37 rfl rfl ?_
      refine tg_rows hX dX6_undo_38 ?_
      refine gz_bipush (v := 121) hX dX6_undo_41 gk_b_121 ?_
      refine gz_aload_n (q := 0) hX dX6_undo_43 rfl rfl ?_
      refine tg_undoable hX dX6_undo_44 ?_
      refine gz_imul hX dX6_undo_47 ?_
      refine gz_iload_n (q := 1) hX dX6_undo_48 rfl rfl ?_
      refine gz_iadd hX dX6_undo_49 ?_
      obtain ⟨b7, h⟩ := gz_gd_o h
      refine gz_iald (L := 726) hX tw_S2 (gz_inb_o b7) dX6_undo_50 ?_
      obtain ⟨b8, h⟩ := gz_gd_o h
      obtain ⟨V9, e10, h⟩ := gz_let_o h
      refine gz_iast (L := 121) hX tw_S1 (by decide) (gz_inb_o b8) dX6_undo_51 e10 ?_
      refine gz_iinc (q := 1) (lv2 := [(1, .int (v1 + 1)), (0, .ref (ad (1, 0, 0)))]) hX dX6_undo_52 rfl gk_c_1 (by decide) rfl ?_
      refine gz_goto (tgt := 26) hX dX6_undo_55 (by decide) ?_
      exact gz_lv [1, 0] rfl (ih h)
noncomputable def m_undo (N : Nat) (V : gz_V) : Option (gz_V × Int32) := gz_let (gz_up V (1, 0, 0) 0 0) (fun V1 => (if (V1 (1, 0, 0) 3) = 0 then some (V1, 0) else gz_let (gz_up V1 (1, 0, 0) 3 ((V1 (1, 0, 0) 3) - 1)) (fun V4 => gz_bd (m_undo_L26 N N V4 0) (fun V6 => some (V6, 1)))))
theorem c_undo {l : Launch} {D : va_G} {aC : Nat → ClassId} {ad : gz_A0} {N : Nat} {V : gz_V} {W1 : gz_V} {r : Int32} (h : m_undo N V = some (W1, r)) : gz_Met l yX6_undo cX6_undo 2 (some .boolean) rm_undo D aC ad tw_S V tw_R [.ref (ad (1, 0, 0))] (gz_F1 tw_S tw_R ad W1 (some (.int r))) 0 0 := by
  refine gt_ofW (own := RX6) (mn := "undo") (lv := [(0, .ref (ad (1, 0, 0)))]) (by decide) rfl rfl (Nat.le_of_ble_eq_true rfl) rfl ?_
  intro X hX hZ hF
  rw [m_undo] at h
  refine gz_aload_n (q := 0) hX dX6_undo_0 rfl rfl ?_
  refine gz_iconst (v := 0) hX dX6_undo_1 gk_c_0 ?_
  obtain ⟨V1, e2, h⟩ := gz_let_o h
  refine tp_told hX dX6_undo_2 e2 ?_
  refine gz_aload_n (q := 0) hX dX6_undo_5 rfl rfl ?_
  refine tg_undoable hX dX6_undo_6 ?_
  refine gz_if_ne (tgt := 14) hX dX6_undo_9 (by decide) (fun c3 => ?_) (fun c3 => ?_)
  · have h := gz_ifn c3 h
    refine gz_aload_n (q := 0) hX dX6_undo_14 rfl rfl ?_
    refine gz_aload_n (q := 0) hX dX6_undo_15 rfl rfl ?_
    refine tg_undoable hX dX6_undo_16 ?_
    refine gz_iconst (v := 1) hX dX6_undo_19 gk_c_1 ?_
    refine gz_isub hX dX6_undo_20 ?_
    obtain ⟨V4, e5, h⟩ := gz_let_o h
    refine tp_undoable hX dX6_undo_21 e5 ?_
    refine gz_iconst (v := 0) hX dX6_undo_24 gk_c_0 ?_
    refine gz_istore_n (lv2 := [(1, .int 0), (0, .ref (ad (1, 0, 0)))]) hX dX6_undo_25 rfl (by decide) rfl ?_
    obtain ⟨V6, e7, h⟩ := gz_bd_o h
    refine gz_lv [1, 0] rfl (w_m_undo_L26 hX hZ ?_ N e7)
    refine gz_iconst (v := 1) hX dX6_undo_58 gk_c_1 ?_
    obtain ⟨e1, e2⟩ := gz_in2 h
    exact gt_zret hX hZ rfl hF e1 e2 dX6_undo_59
  · have h := gz_ifp c3 h
    refine gz_iconst (v := 0) hX dX6_undo_12 gk_c_0 ?_
    obtain ⟨e1, e2⟩ := gz_in2 h
    exact gt_zret hX hZ rfl hF e1 e2 dX6_undo_13
theorem lw_undo_ {i : Nat} (hl : Cond.methodLink RX6 i yX6_undo ∈ lw_all) : GoodIn lw_all (wsV RX6 i RX6 yX6_undo (ws_ yX6_undo cX6_undo 2 (some .boolean))) := lw_V hl q1681 q1682 q153 q1683
theorem nn_undo : yX6_undo.cls = RX6 ∧ yX6_undo.cls ≠ "java/lang/invoke/MethodHandle" ∧ yX6_undo.cls ≠ "java/lang/invoke/VarHandle" ∧ (parseMethodDescriptor yX6_undo.desc).map (fun d => d.parameters.length) = some 0 := by decide +kernel
def rm_walk : Room := { frames := 2, cells := 0, slots := 0, locals := 46 }
noncomputable def m_walk_L29 (N : Nat) (V : gz_V) (v1 : Int32) : Nat → Int32 → Int32 → Int32 → Option (Int32 × Int32)
  | 0, _, _, _ => none
  | n + 1, v2, v3, v4 => (if v4 < 0 then some (v2, v3) else gz_gd (gz_inb v4 24 = true) (gz_let (if (V (2, 39, 0) v4.toNatClampNeg) = 0 then v2 else gz_let (v2 ||| ((1 : Int32) <<< (v4 &&& 31))) (fun x12 => x12)) (fun y8 => gz_gd (gz_inb v4 24 = true) (gz_bd (m_onesOf N (V (2, 39, 0) v4.toNatClampNeg)) (fun r15 => gz_let (if (r15 - r15 / 2 * 2) = 1 then gz_let (v3 ||| ((1 : Int32) <<< (v4 &&& 31))) (fun x21 => x21) else v3) (fun y17 => m_walk_L29 N V v1 n y8 y17 (v4 + (-1))))))))
theorem w_m_walk_L29 {X : gz_X} {ad : gz_A0} (hX : gz_ok X cX6_walk RX6 "walk" 6 rm_walk (some .int)) (hZ : gz_Z X) {N : Nat} {V : gz_V} {v1 : Int32} {o2 : Int32} {o3 : Int32} (k : gW X 6 tw_S tw_R ad V 0 0 81 [(0, .ref (ad (1, 0, 0))), (1, .int v1), (2, .int o2), (3, .int o3)] []) : ∀ (n : Nat) {v2 : Int32} {v3 : Int32} {v4 : Int32}, m_walk_L29 N V v1 n v2 v3 v4 = some (o2, o3) → gW X 6 tw_S tw_R ad V 0 0 29 [(0, .ref (ad (1, 0, 0))), (1, .int v1), (2, .int v2), (3, .int v3), (4, .int v4)] [] := by
  intro n
  induction n with
  | zero => intro v2 v3 v4 h; rw [m_walk_L29] at h; cases h
  | succ n ih =>
    intro v2 v3 v4 h
    rw [m_walk_L29] at h
    refine gz_iload (q := 4) hX dX6_walk_29 rfl ?_
    refine gz_if_lt (tgt := 81) hX dX6_walk_31 (by decide) (fun c6 => ?_) (fun c6 => ?_)
    · have h := gz_ifp c6 h
      obtain ⟨rfl, rfl⟩ := gz_in2 h
      exact gz_lv [0, 1, 2, 3] rfl k
    · have h := gz_ifn c6 h
      refine gz_aload_n (q := 0) hX dX6_walk_34 rfl rfl ?_
      refine tg_kinOf hX dX6_walk_35 ?_
      refine gz_iload (q := 4) hX dX6_walk_38 rfl ?_
      obtain ⟨b7, h⟩ := gz_gd_o h
      refine gz_iald (L := 24) hX tw_S39 (gz_inb_o b7) dX6_walk_40 ?_
      obtain ⟨y8, g9, h⟩ := gz_let_o h
      have J10 : gW X 6 tw_S tw_R ad V 0 0 51 [(0, .ref (ad (1, 0, 0))), (1, .int v1), (2, .int y8), (3, .int v3), (4, .int v4)] [] := by
        refine gz_aload_n (q := 0) hX dX6_walk_51 rfl rfl ?_
        refine gz_aload_n (q := 0) hX dX6_walk_52 rfl rfl ?_
        refine tg_kinOf hX dX6_walk_53 ?_
        refine gz_iload (q := 4) hX dX6_walk_56 rfl ?_
        obtain ⟨b14, h⟩ := gz_gd_o h
        refine gz_iald (L := 24) hX tw_S39 (gz_inb_o b14) dX6_walk_58 ?_
        obtain ⟨r15, e16, h⟩ := gz_bd_o h
        refine tc_V (As := [.int (V (2, 39, 0) v4.toNatClampNeg)]) hX (c_onesOf e16) (lw_onesOf_ q2103) rfl rfl nn_onesOf ⟨Nat.le_of_ble_eq_true rfl, Nat.le_of_ble_eq_true rfl⟩ rfl rfl (Nat.le_of_ble_eq_true rfl) dX6_walk_59 rfl ?_
        refine gz_iconst (v := 2) hX dX6_walk_62 gk_c_2 ?_
        refine gz_irem hX dX6_walk_63 (by decide) ?_
        refine gz_iconst (v := 1) hX dX6_walk_64 gk_c_1 ?_
        obtain ⟨y17, g18, h⟩ := gz_let_o h
        have J19 : gW X 6 tw_S tw_R ad V 0 0 75 [(0, .ref (ad (1, 0, 0))), (1, .int v1), (2, .int y8), (3, .int y17), (4, .int v4)] [] := by
          refine gz_iinc (q := 4) (lv2 := [(4, .int (v4 + (-1))), (0, .ref (ad (1, 0, 0))), (1, .int v1), (2, .int y8), (3, .int y17)]) hX dX6_walk_75 rfl gk_c_m1 (by decide) rfl ?_
          refine gz_goto (tgt := 29) hX dX6_walk_78 (by decide) ?_
          exact gz_lv [1, 2, 3, 4, 0] rfl (ih h)
        refine gz_icmp_ne (tgt := 75) hX dX6_walk_65 (by decide) (fun c20 => ?_) (fun c20 => ?_)
        · have g18 := gz_ifn c20 g18
          obtain rfl := g18
          exact gz_lv [0, 1, 2, 3, 4] rfl J19
        · have g18 := gz_ifp c20 g18
          refine gz_iload_n (q := 3) hX dX6_walk_68 rfl rfl ?_
          refine gz_iconst (v := 1) hX dX6_walk_69 gk_c_1 ?_
          refine gz_iload (q := 4) hX dX6_walk_70 rfl ?_
          refine gz_ishl hX dX6_walk_72 ?_
          refine gz_ior hX dX6_walk_73 ?_
          obtain ⟨x21, e22, g18⟩ := gz_let_o g18
          refine gz_nm e22 ?_
          refine gz_istore_n (lv2 := [(3, .int x21), (0, .ref (ad (1, 0, 0))), (1, .int v1), (2, .int y8), (4, .int v4)]) hX dX6_walk_74 rfl (by decide) rfl ?_
          obtain rfl := g18
          exact gz_lv [1, 2, 3, 0, 4] rfl J19
      refine gz_if_eq (tgt := 51) hX dX6_walk_41 (by decide) (fun c11 => ?_) (fun c11 => ?_)
      · have g9 := gz_ifp c11 g9
        obtain rfl := g9
        exact gz_lv [0, 1, 2, 3, 4] rfl J10
      · have g9 := gz_ifn c11 g9
        refine gz_iload_n (q := 2) hX dX6_walk_44 rfl rfl ?_
        refine gz_iconst (v := 1) hX dX6_walk_45 gk_c_1 ?_
        refine gz_iload (q := 4) hX dX6_walk_46 rfl ?_
        refine gz_ishl hX dX6_walk_48 ?_
        refine gz_ior hX dX6_walk_49 ?_
        obtain ⟨x12, e13, g9⟩ := gz_let_o g9
        refine gz_nm e13 ?_
        refine gz_istore_n (lv2 := [(2, .int x12), (0, .ref (ad (1, 0, 0))), (1, .int v1), (3, .int v3), (4, .int v4)]) hX dX6_walk_50 rfl (by decide) rfl ?_
        obtain rfl := g9
        exact gz_lv [1, 2, 0, 3, 4] rfl J10
noncomputable def m_walk_L84 (N : Nat) (V : gz_V) (v1 : Int32) (v2 : Int32) (v3 : Int32) : Nat → Int32 → Option (Int32)
  | 0, _ => none
  | n + 1, v4 => (if (V (1, 0, 0) 6) ≤ v4 then some v4 else (if (m_has v2 v4) = 0 then gz_let (v4 + 1) (fun x11 => m_walk_L84 N V v1 v2 v3 n x11) else some v4))
theorem w_m_walk_L84 {X : gz_X} {ad : gz_A0} (hX : gz_ok X cX6_walk RX6 "walk" 6 rm_walk (some .int)) (hZ : gz_Z X) {N : Nat} {V : gz_V} {v1 : Int32} {v2 : Int32} {v3 : Int32} {o4 : Int32} (k : gW X 6 tw_S tw_R ad V 0 0 112 [(0, .ref (ad (1, 0, 0))), (1, .int v1), (2, .int v2), (3, .int v3), (4, .int o4)] []) : ∀ (n : Nat) {v4 : Int32}, m_walk_L84 N V v1 v2 v3 n v4 = some o4 → gW X 6 tw_S tw_R ad V 0 0 84 [(0, .ref (ad (1, 0, 0))), (1, .int v1), (2, .int v2), (3, .int v3), (4, .int v4)] [] := by
  intro n
  induction n with
  | zero => intro v4 h; rw [m_walk_L84] at h; cases h
  | succ n ih =>
    intro v4 h
    rw [m_walk_L84] at h
    refine gz_iload (q := 4) hX dX6_walk_84 rfl ?_
    refine gz_aload_n (q := 0) hX dX6_walk_86 rfl rfl ?_
    refine tg_people hX dX6_walk_87 ?_
    refine gz_icmp_ge (tgt := 112) hX dX6_walk_90 (by decide) (fun c9 => ?_) (fun c9 => ?_)
    · have h := gz_ifp c9 h
      obtain rfl := gz_in1 h
      exact gz_lv [0, 1, 2, 3, 4] rfl k
    · have h := gz_ifn c9 h
      refine gz_aload_n (q := 0) hX dX6_walk_93 rfl rfl ?_
      refine gz_iload_n (q := 2) hX dX6_walk_94 rfl rfl ?_
      refine gz_iload (q := 4) hX dX6_walk_95 rfl ?_
      refine tc_V (As := [.int v2, .int v4]) hX (c_has rfl) (lw_has_ q1900) rfl rfl nn_has ⟨Nat.le_of_ble_eq_true rfl, Nat.le_of_ble_eq_true rfl⟩ rfl rfl (Nat.le_of_ble_eq_true rfl) dX6_walk_97 rfl ?_
      refine gz_if_ne (tgt := 112) hX dX6_walk_100 (by decide) (fun c10 => ?_) (fun c10 => ?_)
      · have h := gz_ifn c10 h
        obtain rfl := gz_in1 h
        exact gz_lv [0, 1, 2, 3, 4] rfl k
      · have h := gz_ifp c10 h
        refine gz_iload (q := 4) hX dX6_walk_103 rfl ?_
        refine gz_iconst (v := 1) hX dX6_walk_105 gk_c_1 ?_
        refine gz_iadd hX dX6_walk_106 ?_
        obtain ⟨x11, e12, h⟩ := gz_let_o h
        refine gz_nm e12 ?_
        refine gz_istore (lv2 := [(4, .int x11), (0, .ref (ad (1, 0, 0))), (1, .int v1), (2, .int v2), (3, .int v3)]) hX dX6_walk_107 (by decide) rfl ?_
        refine gz_goto (tgt := 84) hX dX6_walk_109 (by decide) ?_
        exact gz_lv [1, 2, 3, 4, 0] rfl (ih h)
noncomputable def m_walk_L174 (N : Nat) (V : gz_V) (v3 : Int32) : Nat → Int32 → Option (Int32)
  | 0, _ => none
  | n + 1, v4 => (if v3 = 0 then some v4 else (if (m_has v3 v4) = 0 then gz_let (v4 + 1) (fun x25 => m_walk_L174 N V v3 n x25) else some v4))
theorem w_m_walk_L174 {X : gz_X} {ad : gz_A0} (hX : gz_ok X cX6_walk RX6 "walk" 6 rm_walk (some .int)) (hZ : gz_Z X) {N : Nat} {V : gz_V} {v3 : Int32} {o4 : Int32} (k : gW X 6 tw_S tw_R ad V 0 0 197 [(4, .int o4)] []) : ∀ (n : Nat) {v4 : Int32}, m_walk_L174 N V v3 n v4 = some o4 → gW X 6 tw_S tw_R ad V 0 0 174 [(0, .ref (ad (1, 0, 0))), (3, .int v3), (4, .int v4)] [] := by
  intro n
  induction n with
  | zero => intro v4 h; rw [m_walk_L174] at h; cases h
  | succ n ih =>
    intro v4 h
    rw [m_walk_L174] at h
    refine gz_iload_n (q := 1) hX dX6_walk_174 rfl rfl ?_
    refine gz_if_eq (tgt := 197) hX dX6_walk_175 (by decide) (fun c23 => ?_) (fun c23 => ?_)
    · have h := gz_ifp c23 h
      obtain rfl := gz_in1 h
      exact gz_lv [2] rfl k
    · have h := gz_ifn c23 h
      refine gz_aload_n (q := 0) hX dX6_walk_178 rfl rfl ?_
      refine gz_iload_n (q := 1) hX dX6_walk_179 rfl rfl ?_
      refine gz_iload (q := 2) hX dX6_walk_180 rfl ?_
      refine tc_V (As := [.int v3, .int v4]) hX (c_has rfl) (lw_has_ q1900) rfl rfl nn_has ⟨Nat.le_of_ble_eq_true rfl, Nat.le_of_ble_eq_true rfl⟩ rfl rfl (Nat.le_of_ble_eq_true rfl) dX6_walk_182 rfl ?_
      refine gz_if_ne (tgt := 197) hX dX6_walk_185 (by decide) (fun c24 => ?_) (fun c24 => ?_)
      · have h := gz_ifn c24 h
        obtain rfl := gz_in1 h
        exact gz_lv [2] rfl k
      · have h := gz_ifp c24 h
        refine gz_iload (q := 2) hX dX6_walk_188 rfl ?_
        refine gz_iconst (v := 1) hX dX6_walk_190 gk_c_1 ?_
        refine gz_iadd hX dX6_walk_191 ?_
        obtain ⟨x25, e26, h⟩ := gz_let_o h
        refine gz_nm e26 ?_
        refine gz_istore (lv2 := [(4, .int x25), (0, .ref (ad (1, 0, 0))), (3, .int v3)]) hX dX6_walk_192 (by decide) rfl ?_
        refine gz_goto (tgt := 174) hX dX6_walk_194 (by decide) ?_
        exact gz_lv [1, 2, 0] rfl (ih h)
noncomputable def m_walk (N : Nat) (V : gz_V) (a1 : Int32) : Option (gz_V × Int32) := gz_let (gz_up V (1, 0, 0) 0 0) (fun V1 => (if (m_isIn a1 0 1) = 0 then some (V1, (-1)) else gz_let ((V1 (1, 0, 0) 6) - 1) (fun x4 => gz_b2 (m_walk_L29 N V1 a1 N 0 0 x4) (fun x6 x7 => gz_bd (m_walk_L84 N V1 a1 x6 x7 N 0) (fun x9 => gz_bd (if x6 = 0 then some (0 : Int32) else gz_bd (m_kinOfKin N V1 x9) (fun r15 => (if (r15 &&& x6) = x6 then gz_bd (m_onesOf N x7) (fun r18 => (if 3 ≤ r18 then some (0 : Int32) else some (1 : Int32))) else some (0 : Int32)))) (fun y11 => (if a1 = 0 then (if y11 = 0 then some (V1, 0) else (if x7 = 0 then some (V1, 2) else some (V1, 1))) else (if y11 = 0 then some (V1, (-1)) else gz_bd (m_walk_L174 N V1 x7 N x9) (fun x23 => some (V1, x23))))))))))
theorem c_walk {l : Launch} {D : va_G} {aC : Nat → ClassId} {ad : gz_A0} {N : Nat} {V : gz_V} {a1 : Int32} {W1 : gz_V} {r : Int32} (h : m_walk N V a1 = some (W1, r)) : gz_Met l yX6_walk cX6_walk 6 (some .int) rm_walk D aC ad tw_S V tw_R [.ref (ad (1, 0, 0)), .int a1] (gz_F1 tw_S tw_R ad W1 (some (.int r))) 0 0 := by
  refine gt_ofW (own := RX6) (mn := "walk") (lv := [(0, .ref (ad (1, 0, 0))), (1, .int a1)]) (by decide) rfl rfl (Nat.le_of_ble_eq_true rfl) rfl ?_
  intro X hX hZ hF
  rw [m_walk] at h
  refine gz_aload_n (q := 0) hX dX6_walk_0 rfl rfl ?_
  refine gz_iconst (v := 0) hX dX6_walk_1 gk_c_0 ?_
  obtain ⟨V1, e2, h⟩ := gz_let_o h
  refine tp_told hX dX6_walk_2 e2 ?_
  refine gz_aload_n (q := 0) hX dX6_walk_5 rfl rfl ?_
  refine gz_iload_n (q := 1) hX dX6_walk_6 rfl rfl ?_
  refine gz_iconst (v := 0) hX dX6_walk_7 gk_c_0 ?_
  refine gz_iconst (v := 1) hX dX6_walk_8 gk_c_1 ?_
  refine tc_V (As := [.int a1, .int 0, .int 1]) hX (c_isIn rfl) (lw_isIn_ q1692) rfl rfl nn_isIn ⟨Nat.le_of_ble_eq_true rfl, Nat.le_of_ble_eq_true rfl⟩ rfl rfl (Nat.le_of_ble_eq_true rfl) dX6_walk_9 rfl ?_
  refine gz_if_ne (tgt := 17) hX dX6_walk_12 (by decide) (fun c3 => ?_) (fun c3 => ?_)
  · have h := gz_ifn c3 h
    refine gz_iconst (v := 0) hX dX6_walk_17 gk_c_0 ?_
    refine gz_istore_n (lv2 := [(2, .int 0), (0, .ref (ad (1, 0, 0))), (1, .int a1)]) hX dX6_walk_18 rfl (by decide) rfl ?_
    refine gz_iconst (v := 0) hX dX6_walk_19 gk_c_0 ?_
    refine gz_istore_n (lv2 := [(3, .int 0), (2, .int 0), (0, .ref (ad (1, 0, 0))), (1, .int a1)]) hX dX6_walk_20 rfl (by decide) rfl ?_
    refine gz_aload_n (q := 2) hX dX6_walk_21 rfl rfl ?_
    refine tg_people hX dX6_walk_22 ?_
    refine gz_iconst (v := 1) hX dX6_walk_25 gk_c_1 ?_
    refine gz_isub hX dX6_walk_26 ?_
    obtain ⟨x4, e5, h⟩ := gz_let_o h
    refine gz_nm e5 ?_
    refine gz_istore (lv2 := [(4, .int x4), (3, .int 0), (2, .int 0), (0, .ref (ad (1, 0, 0))), (1, .int a1)]) hX dX6_walk_27 (by decide) rfl ?_
    obtain ⟨x6, x7, e8, h⟩ := gz_b2_o h
    refine gz_lv [3, 4, 2, 1, 0] rfl (w_m_walk_L29 hX hZ ?_ N e8)
    refine gz_iconst (v := 0) hX dX6_walk_81 gk_c_0 ?_
    refine gz_istore (lv2 := [(4, .int 0), (0, .ref (ad (1, 0, 0))), (1, .int a1), (2, .int x6), (3, .int x7)]) hX dX6_walk_82 (by decide) rfl ?_
    obtain ⟨x9, e10, h⟩ := gz_bd_o h
    refine gz_lv [1, 2, 3, 4, 0] rfl (w_m_walk_L84 hX hZ ?_ N e10)
    refine gz_iload_n (q := 2) hX dX6_walk_112 rfl rfl ?_
    obtain ⟨y11, g12, h⟩ := gz_bd_o h
    have J13 : gW X 6 tw_S tw_R ad V1 0 0 142 [(0, .ref (ad (1, 0, 0))), (1, .int a1), (3, .int x7), (4, .int x9)] [.int y11] := by
      refine gz_istore (lv2 := [(5, .int y11), (0, .ref (ad (1, 0, 0))), (1, .int a1), (3, .int x7), (4, .int x9)]) hX dX6_walk_142 (by decide) rfl ?_
      refine gz_iload_n (q := 2) hX dX6_walk_144 rfl rfl ?_
      refine gz_if_ne (tgt := 167) hX dX6_walk_145 (by decide) (fun c21 => ?_) (fun c21 => ?_)
      · have h := gz_ifn c21 h
        refine gz_iload (q := 0) hX dX6_walk_167 rfl ?_
        refine gz_if_ne (tgt := 174) hX dX6_walk_169 (by decide) (fun c22 => ?_) (fun c22 => ?_)
        · have h := gz_ifn c22 h
          obtain ⟨x23, e24, h⟩ := gz_bd_o h
          refine gz_lv [1, 3, 4] rfl (w_m_walk_L174 hX hZ ?_ N e24)
          refine gz_iload (q := 0) hX dX6_walk_197 rfl ?_
          obtain ⟨e1, e2⟩ := gz_in2 h
          exact gt_iret hX hZ hF e1 e2 dX6_walk_199
        · have h := gz_ifp c22 h
          refine gz_iconst (v := (-1)) hX dX6_walk_172 gk_c_m1 ?_
          obtain ⟨e1, e2⟩ := gz_in2 h
          exact gt_iret hX hZ hF e1 e2 dX6_walk_173
      · have h := gz_ifp c21 h
        refine gz_iload (q := 0) hX dX6_walk_148 rfl ?_
        refine gz_if_ne (tgt := 157) hX dX6_walk_150 (by decide) (fun c25 => ?_) (fun c25 => ?_)
        · have h := gz_ifn c25 h
          refine gz_iload_n (q := 3) hX dX6_walk_157 rfl rfl ?_
          refine gz_if_ne (tgt := 165) hX dX6_walk_158 (by decide) (fun c26 => ?_) (fun c26 => ?_)
          · have h := gz_ifn c26 h
            refine gz_iconst (v := 1) hX dX6_walk_165 gk_c_1 ?_
            obtain ⟨e1, e2⟩ := gz_in2 h
            exact gt_iret hX hZ hF e1 e2 dX6_walk_166
          · have h := gz_ifp c26 h
            refine gz_iconst (v := 2) hX dX6_walk_161 gk_c_2 ?_
            refine gz_goto (tgt := 166) hX dX6_walk_162 (by decide) ?_
            obtain ⟨e1, e2⟩ := gz_in2 h
            exact gt_iret hX hZ hF e1 e2 dX6_walk_166
        · have h := gz_ifp c25 h
          refine gz_iconst (v := 0) hX dX6_walk_153 gk_c_0 ?_
          refine gz_goto (tgt := 166) hX dX6_walk_154 (by decide) ?_
          obtain ⟨e1, e2⟩ := gz_in2 h
          exact gt_iret hX hZ hF e1 e2 dX6_walk_166
    refine gz_if_eq (tgt := 141) hX dX6_walk_113 (by decide) (fun c14 => ?_) (fun c14 => ?_)
    · have g12 := gz_ifp c14 g12
      refine gz_iconst (v := 0) hX dX6_walk_141 gk_c_0 ?_
      obtain rfl := gz_in1 g12
      exact gz_lv [0, 1, 3, 4] rfl J13
    · have g12 := gz_ifn c14 g12
      refine gz_aload_n (q := 0) hX dX6_walk_116 rfl rfl ?_
      refine gz_iload (q := 4) hX dX6_walk_117 rfl ?_
      obtain ⟨r15, e16, g12⟩ := gz_bd_o g12
      refine tc_V (As := [.int x9]) hX (c_kinOfKin e16) (lw_kinOfKin_ q2107) rfl rfl nn_kinOfKin ⟨Nat.le_of_ble_eq_true rfl, Nat.le_of_ble_eq_true rfl⟩ rfl rfl (Nat.le_of_ble_eq_true rfl) dX6_walk_119 rfl ?_
      refine gz_iload_n (q := 2) hX dX6_walk_122 rfl rfl ?_
      refine gz_iand hX dX6_walk_123 ?_
      refine gz_iload_n (q := 2) hX dX6_walk_124 rfl rfl ?_
      refine gz_icmp_ne (tgt := 141) hX dX6_walk_125 (by decide) (fun c17 => ?_) (fun c17 => ?_)
      · have g12 := gz_ifn c17 g12
        refine gz_iconst (v := 0) hX dX6_walk_141 gk_c_0 ?_
        obtain rfl := gz_in1 g12
        exact gz_lv [0, 1, 3, 4] rfl J13
      · have g12 := gz_ifp c17 g12
        refine gz_aload_n (q := 0) hX dX6_walk_128 rfl rfl ?_
        refine gz_iload_n (q := 3) hX dX6_walk_129 rfl rfl ?_
        obtain ⟨r18, e19, g12⟩ := gz_bd_o g12
        refine tc_V (As := [.int x7]) hX (c_onesOf e19) (lw_onesOf_ q2103) rfl rfl nn_onesOf ⟨Nat.le_of_ble_eq_true rfl, Nat.le_of_ble_eq_true rfl⟩ rfl rfl (Nat.le_of_ble_eq_true rfl) dX6_walk_130 rfl ?_
        refine gz_iconst (v := 3) hX dX6_walk_133 gk_c_3 ?_
        refine gz_icmp_ge (tgt := 141) hX dX6_walk_134 (by decide) (fun c20 => ?_) (fun c20 => ?_)
        · have g12 := gz_ifp c20 g12
          refine gz_iconst (v := 0) hX dX6_walk_141 gk_c_0 ?_
          obtain rfl := gz_in1 g12
          exact gz_lv [0, 1, 3, 4] rfl J13
        · have g12 := gz_ifn c20 g12
          refine gz_iconst (v := 1) hX dX6_walk_137 gk_c_1 ?_
          refine gz_goto (tgt := 142) hX dX6_walk_138 (by decide) ?_
          obtain rfl := gz_in1 g12
          exact gz_lv [0, 1, 3, 4] rfl J13
  · have h := gz_ifp c3 h
    refine gz_iconst (v := (-1)) hX dX6_walk_15 gk_c_m1 ?_
    obtain ⟨e1, e2⟩ := gz_in2 h
    exact gt_iret hX hZ hF e1 e2 dX6_walk_16
theorem lw_walk_ {i : Nat} (hl : Cond.methodLink RX6 i yX6_walk ∈ lw_all) : GoodIn lw_all (wsV RX6 i RX6 yX6_walk (ws_ yX6_walk cX6_walk 6 (some .int))) := lw_V hl q2100 q2101 q153 q2102
theorem nn_walk : yX6_walk.cls = RX6 ∧ yX6_walk.cls ≠ "java/lang/invoke/MethodHandle" ∧ yX6_walk.cls ≠ "java/lang/invoke/VarHandle" ∧ (parseMethodDescriptor yX6_walk.desc).map (fun d => d.parameters.length) = some 1 := by decide +kernel
theorem gk_s_200 : (Int16.ofInt 200).toInt32 = 200 := by decide
def rm_weight : Room := { frames := 1, cells := 0, slots := 0, locals := 23 }
noncomputable def m_weight (V : gz_V) (a1 : Int32) : Option (gz_V × Int32) := gz_let (gz_up V (1, 0, 0) 0 0) (fun V1 => (if a1 = (-1) then gz_let (gz_up V1 (1, 0, 0) 57 0) (fun V11 => some (V11, 0)) else (if (m_isIn a1 1 200) = 0 then some (V1, (-1)) else (if (V1 (1, 0, 0) 57) = 5 then some (V1, (-1)) else gz_gd (gz_inb (V1 (1, 0, 0) 57) 5 = true) (gz_let (gz_up V1 (2, 58, 0) (V1 (1, 0, 0) 57).toNatClampNeg a1) (fun V7 => gz_let (gz_up V7 (1, 0, 0) 57 ((V7 (1, 0, 0) 57) + 1)) (fun V9 => some (V9, (V9 (1, 0, 0) 57)))))))))
theorem c_weight {l : Launch} {D : va_G} {aC : Nat → ClassId} {ad : gz_A0} {V : gz_V} {a1 : Int32} {W1 : gz_V} {r : Int32} (h : m_weight V a1 = some (W1, r)) : gz_Met l yX6_weight cX6_weight 2 (some .int) rm_weight D aC ad tw_S V tw_R [.ref (ad (1, 0, 0)), .int a1] (gz_F1 tw_S tw_R ad W1 (some (.int r))) 0 0 := by
  refine gt_ofW (own := RX6) (mn := "weight") (lv := [(0, .ref (ad (1, 0, 0))), (1, .int a1)]) (by decide) rfl rfl (Nat.le_of_ble_eq_true rfl) rfl ?_
  intro X hX hZ hF
  rw [m_weight] at h
  refine gz_aload_n (q := 0) hX dX6_weight_0 rfl rfl ?_
  refine gz_iconst (v := 0) hX dX6_weight_1 gk_c_0 ?_
  obtain ⟨V1, e2, h⟩ := gz_let_o h
  refine tp_told hX dX6_weight_2 e2 ?_
  refine gz_iload_n (q := 1) hX dX6_weight_5 rfl rfl ?_
  refine gz_iconst (v := (-1)) hX dX6_weight_6 gk_c_m1 ?_
  refine gz_icmp_ne (tgt := 17) hX dX6_weight_7 (by decide) (fun c3 => ?_) (fun c3 => ?_)
  · have h := gz_ifn c3 h
    refine gz_aload_n (q := 0) hX dX6_weight_17 rfl rfl ?_
    refine gz_iload_n (q := 1) hX dX6_weight_18 rfl rfl ?_
    refine gz_iconst (v := 1) hX dX6_weight_19 gk_c_1 ?_
    refine gz_sipush (v := 200) hX dX6_weight_20 gk_s_200 ?_
    refine tc_V (As := [.int a1, .int 1, .int 200]) hX (c_isIn rfl) (lw_isIn_ q1692) rfl rfl nn_isIn ⟨Nat.le_of_ble_eq_true rfl, Nat.le_of_ble_eq_true rfl⟩ rfl rfl (Nat.le_of_ble_eq_true rfl) dX6_weight_23 rfl ?_
    refine gz_if_eq (tgt := 37) hX dX6_weight_26 (by decide) (fun c4 => ?_) (fun c4 => ?_)
    · have h := gz_ifp c4 h
      refine gz_iconst (v := (-1)) hX dX6_weight_37 gk_c_m1 ?_
      obtain ⟨e1, e2⟩ := gz_in2 h
      exact gt_iret hX hZ hF e1 e2 dX6_weight_38
    · have h := gz_ifn c4 h
      refine gz_aload_n (q := 0) hX dX6_weight_29 rfl rfl ?_
      refine tg_weightMany hX dX6_weight_30 ?_
      refine gz_iconst (v := 5) hX dX6_weight_33 gk_c_5 ?_
      refine gz_icmp_ne (tgt := 39) hX dX6_weight_34 (by decide) (fun c5 => ?_) (fun c5 => ?_)
      · have h := gz_ifn c5 h
        refine gz_aload_n (q := 0) hX dX6_weight_39 rfl rfl ?_
        refine tg_weights hX dX6_weight_40 ?_
        refine gz_aload_n (q := 0) hX dX6_weight_43 rfl rfl ?_
        refine tg_weightMany hX dX6_weight_44 ?_
        refine gz_iload_n (q := 1) hX dX6_weight_47 rfl rfl ?_
        obtain ⟨b6, h⟩ := gz_gd_o h
        obtain ⟨V7, e8, h⟩ := gz_let_o h
        refine gz_iast (L := 5) hX tw_S58 (by decide) (gz_inb_o b6) dX6_weight_48 e8 ?_
        refine gz_aload_n (q := 0) hX dX6_weight_49 rfl rfl ?_
        refine gz_aload_n (q := 0) hX dX6_weight_50 rfl rfl ?_
        refine tg_weightMany hX dX6_weight_51 ?_
        refine gz_iconst (v := 1) hX dX6_weight_54 gk_c_1 ?_
        refine gz_iadd hX dX6_weight_55 ?_
        obtain ⟨V9, e10, h⟩ := gz_let_o h
        refine tp_weightMany hX dX6_weight_56 e10 ?_
        refine gz_aload_n (q := 0) hX dX6_weight_59 rfl rfl ?_
        refine tg_weightMany hX dX6_weight_60 ?_
        obtain ⟨e1, e2⟩ := gz_in2 h
        exact gt_iret hX hZ hF e1 e2 dX6_weight_63
      · have h := gz_ifp c5 h
        refine gz_iconst (v := (-1)) hX dX6_weight_37 gk_c_m1 ?_
        obtain ⟨e1, e2⟩ := gz_in2 h
        exact gt_iret hX hZ hF e1 e2 dX6_weight_38
  · have h := gz_ifp c3 h
    refine gz_aload_n (q := 0) hX dX6_weight_10 rfl rfl ?_
    refine gz_iconst (v := 0) hX dX6_weight_11 gk_c_0 ?_
    obtain ⟨V11, e12, h⟩ := gz_let_o h
    refine tp_weightMany hX dX6_weight_12 e12 ?_
    refine gz_iconst (v := 0) hX dX6_weight_15 gk_c_0 ?_
    obtain ⟨e1, e2⟩ := gz_in2 h
    exact gt_iret hX hZ hF e1 e2 dX6_weight_16
theorem lw_weight_ {i : Nat} (hl : Cond.methodLink RX6 i yX6_weight ∈ lw_all) : GoodIn lw_all (wsV RX6 i RX6 yX6_weight (ws_ yX6_weight cX6_weight 2 (some .int))) := lw_V hl q2116 q2117 q153 q2118
theorem nn_weight : yX6_weight.cls = RX6 ∧ yX6_weight.cls ≠ "java/lang/invoke/MethodHandle" ∧ yX6_weight.cls ≠ "java/lang/invoke/VarHandle" ∧ (parseMethodDescriptor yX6_weight.desc).map (fun d => d.parameters.length) = some 1 := by decide +kernel
theorem gk_s_m1000 : (Int16.ofInt (-1000)).toInt32 = (-1000) := by decide
def rm_would : Room := { frames := 8, cells := 0, slots := 0, locals := 195 }
noncomputable def m_would (N : Nat) (V : gz_V) (a1 : Int32) (a2 : Int32) (a3 : Int32) (a4 : Int32) : Option (gz_V × Int32) := gz_let (gz_up V (1, 0, 0) 0 0) (fun V1 => gz_b2 (m_canBuy N V1 a1 a2 a3 a4) (fun V5 r3 => (if r3 = 0 then some (V5, (-1000)) else gz_bd (m_traitOf V5 a1 0) (fun r7 => gz_bd (m_thinks N V5) (fun V10 => gz_b2 (m_bargains N V10 a1 a2 a3 a4) (fun V13 r11 => gz_bd (m_traitOf V13 a1 0) (fun r14 => gz_let (r14 - r7) (fun x16 => gz_bd (m_endsThought N V13) (fun V19 => some (V19, x16))))))))))
theorem c_would {l : Launch} {D : va_G} {aC : Nat → ClassId} {ad : gz_A0} {N : Nat} {V : gz_V} {a1 : Int32} {a2 : Int32} {a3 : Int32} {a4 : Int32} {W1 : gz_V} {r : Int32} (h : m_would N V a1 a2 a3 a4 = some (W1, r)) : gz_Met l yX6_would cX6_would 7 (some .int) rm_would D aC ad tw_S V tw_R [.ref (ad (1, 0, 0)), .int a1, .int a2, .int a3, .int a4] (gz_F1 tw_S tw_R ad W1 (some (.int r))) 0 0 := by
  refine gt_ofW (own := RX6) (mn := "would") (lv := [(0, .ref (ad (1, 0, 0))), (1, .int a1), (2, .int a2), (3, .int a3), (4, .int a4)]) (by decide) rfl rfl (Nat.le_of_ble_eq_true rfl) rfl ?_
  intro X hX hZ hF
  rw [m_would] at h
  refine gz_aload_n (q := 0) hX dX6_would_0 rfl rfl ?_
  refine gz_iconst (v := 0) hX dX6_would_1 gk_c_0 ?_
  obtain ⟨V1, e2, h⟩ := gz_let_o h
  refine tp_told hX dX6_would_2 e2 ?_
  refine gz_aload_n (q := 0) hX dX6_would_5 rfl rfl ?_
  refine gz_iload_n (q := 1) hX dX6_would_6 rfl rfl ?_
  refine gz_iload_n (q := 2) hX dX6_would_7 rfl rfl ?_
  refine gz_iload_n (q := 3) hX dX6_would_8 rfl rfl ?_
  refine gz_iload (q := 4) hX dX6_would_9 rfl ?_
  obtain ⟨V5, r3, e4, h⟩ := gz_b2_o h
  refine tc_V (As := [.int a1, .int a2, .int a3, .int a4]) hX (c_canBuy e4) (lw_canBuy_ q1876) rfl rfl nn_canBuy ⟨Nat.le_of_ble_eq_true rfl, Nat.le_of_ble_eq_true rfl⟩ rfl rfl (Nat.le_of_ble_eq_true rfl) dX6_would_11 rfl ?_
  refine gz_if_ne (tgt := 21) hX dX6_would_14 (by decide) (fun c6 => ?_) (fun c6 => ?_)
  · have h := gz_ifn c6 h
    refine gz_aload_n (q := 0) hX dX6_would_21 rfl rfl ?_
    refine gz_iload_n (q := 1) hX dX6_would_22 rfl rfl ?_
    refine gz_iconst (v := 0) hX dX6_would_23 gk_c_0 ?_
    obtain ⟨r7, e8, h⟩ := gz_bd_o h
    refine tc_V (As := [.int a1, .int 0]) hX (c_traitOf e8) (lw_traitOf_ q1896) rfl rfl nn_traitOf ⟨Nat.le_of_ble_eq_true rfl, Nat.le_of_ble_eq_true rfl⟩ rfl rfl (Nat.le_of_ble_eq_true rfl) dX6_would_24 rfl ?_
    refine gz_istore (lv2 := [(5, .int r7), (0, .ref (ad (1, 0, 0))), (1, .int a1), (2, .int a2), (3, .int a3), (4, .int a4)]) hX dX6_would_27 (by decide) rfl ?_
    refine gz_aload_n (q := 1) hX dX6_would_29 rfl rfl ?_
    obtain ⟨V10, e9, h⟩ := gz_bd_o h
    refine tc_V (As := []) hX (c_thinks e9) (lw_thinks_ q2026) rfl rfl nn_thinks ⟨Nat.le_of_ble_eq_true rfl, Nat.le_of_ble_eq_true rfl⟩ rfl rfl (Nat.le_of_ble_eq_true rfl) dX6_would_30 rfl ?_
    refine gz_aload_n (q := 1) hX dX6_would_33 rfl rfl ?_
    refine gz_iload_n (q := 2) hX dX6_would_34 rfl rfl ?_
    refine gz_iload_n (q := 3) hX dX6_would_35 rfl rfl ?_
    refine gz_iload_n (q := 4) hX dX6_would_36 rfl rfl ?_
    refine gz_iload (q := 5) hX dX6_would_37 rfl ?_
    obtain ⟨V13, r11, e12, h⟩ := gz_b2_o h
    refine tc_V (As := [.int a1, .int a2, .int a3, .int a4]) hX (c_bargains e12) (lw_bargains_ q1924) rfl rfl nn_bargains ⟨Nat.le_of_ble_eq_true rfl, Nat.le_of_ble_eq_true rfl⟩ rfl rfl (Nat.le_of_ble_eq_true rfl) dX6_would_39 rfl ?_
    refine gz_pop hX dX6_would_42 rfl ?_
    refine gz_aload_n (q := 1) hX dX6_would_43 rfl rfl ?_
    refine gz_iload_n (q := 2) hX dX6_would_44 rfl rfl ?_
    refine gz_iconst (v := 0) hX dX6_would_45 gk_c_0 ?_
    obtain ⟨r14, e15, h⟩ := gz_bd_o h
    refine tc_V (As := [.int a1, .int 0]) hX (c_traitOf e15) (lw_traitOf_ q1896) rfl rfl nn_traitOf ⟨Nat.le_of_ble_eq_true rfl, Nat.le_of_ble_eq_true rfl⟩ rfl rfl (Nat.le_of_ble_eq_true rfl) dX6_would_46 rfl ?_
    refine gz_iload (q := 0) hX dX6_would_49 rfl ?_
    refine gz_isub hX dX6_would_51 ?_
    obtain ⟨x16, e17, h⟩ := gz_let_o h
    refine gz_nm e17 ?_
    refine gz_istore (lv2 := [(6, .int x16), (5, .int r7), (0, .ref (ad (1, 0, 0))), (1, .int a1), (2, .int a2), (3, .int a3), (4, .int a4)]) hX dX6_would_52 (by decide) rfl ?_
    refine gz_aload_n (q := 2) hX dX6_would_54 rfl rfl ?_
    obtain ⟨V19, e18, h⟩ := gz_bd_o h
    refine tc_V (As := []) hX (c_endsThought e18) (lw_endsThought_ q2034) rfl rfl nn_endsThought ⟨Nat.le_of_ble_eq_true rfl, Nat.le_of_ble_eq_true rfl⟩ rfl rfl (Nat.le_of_ble_eq_true rfl) dX6_would_55 rfl ?_
    refine gz_iload (q := 0) hX dX6_would_58 rfl ?_
    obtain ⟨e1, e2⟩ := gz_in2 h
    exact gt_iret hX hZ hF e1 e2 dX6_would_60
  · have h := gz_ifp c6 h
    refine gz_sipush (v := (-1000)) hX dX6_would_17 gk_s_m1000 ?_
    obtain ⟨e1, e2⟩ := gz_in2 h
    exact gt_iret hX hZ hF e1 e2 dX6_would_20
theorem lw_would_ {i : Nat} (hl : Cond.methodLink RX6 i yX6_would ∈ lw_all) : GoodIn lw_all (wsV RX6 i RX6 yX6_would (ws_ yX6_would cX6_would 7 (some .int))) := lw_V hl q2039 q2040 q153 q2041
theorem nn_would : yX6_would.cls = RX6 ∧ yX6_would.cls ≠ "java/lang/invoke/MethodHandle" ∧ yX6_would.cls ≠ "java/lang/invoke/VarHandle" ∧ (parseMethodDescriptor yX6_would.desc).map (fun d => d.parameters.length) = some 4 := by decide +kernel
