/-! THE TWIN, walked. Printed by wip/D-99505w/gen/mkx6.py -/
set_option maxRecDepth 100000
theorem gk_b_60 : (Int8.ofInt 60).toInt32 = 60 := by decide
def rm_days : Room := { frames := 9, cells := 0, slots := 0, locals := 217 }
noncomputable def m_days_L36 (N : Nat) (v1 : Int32) : Nat → gz_V → Int32 → Int32 → Option (gz_V × Int32)
  | 0, _, _, _ => none
  | n + 1, V, v2, v3 => (if v1 ≤ v3 then some (V, v2) else gz_bd (m_keepsAhead N V) (fun V7 => gz_b2 (m_goesBy N V7) (fun V10 r8 => gz_let (v2 + r8) (fun x11 => m_days_L36 N v1 n V10 x11 (v3 + 1)))))
theorem w_m_days_L36 {X : gz_X} {ad : gz_A0} (hX : gz_ok X cX6_days RX6 "days" 4 rm_days (some .int)) (hZ : gz_Z X) {N : Nat} {v1 : Int32} {W1 : gz_V} {o2 : Int32} (k : gW X 4 tw_S tw_R ad W1 0 0 58 [(2, .int o2)] []) : ∀ (n : Nat) {V : gz_V} {v2 : Int32} {v3 : Int32}, m_days_L36 N v1 n V v2 v3 = some (W1, o2) → gW X 4 tw_S tw_R ad V 0 0 36 [(0, .ref (ad (1, 0, 0))), (1, .int v1), (2, .int v2), (3, .int v3)] [] := by
  intro n
  induction n with
  | zero => intro V v2 v3 h; rw [m_days_L36] at h; cases h
  | succ n ih =>
    intro V v2 v3 h
    rw [m_days_L36] at h
    refine gz_iload_n (q := 3) hX dX6_days_36 rfl rfl ?_
    refine gz_iload_n (q := 1) hX dX6_days_37 rfl rfl ?_
    refine gz_icmp_ge (tgt := 58) hX dX6_days_38 (by decide) (fun c5 => ?_) (fun c5 => ?_)
    · have h := gz_ifp c5 h
      obtain ⟨rfl, rfl⟩ := gz_in2 h
      exact gz_lv [2] rfl k
    · have h := gz_ifn c5 h
      refine gz_aload_n (q := 0) hX dX6_days_41 rfl rfl ?_
      obtain ⟨V7, e6, h⟩ := gz_bd_o h
      refine tc_V (As := []) hX (c_keepsAhead e6) (lw_keepsAhead_ q1920) rfl rfl nn_keepsAhead ⟨Nat.le_of_ble_eq_true rfl, Nat.le_of_ble_eq_true rfl⟩ rfl rfl (Nat.le_of_ble_eq_true rfl) dX6_days_42 rfl ?_
      refine gz_iload_n (q := 2) hX dX6_days_45 rfl rfl ?_
      refine gz_aload_n (q := 0) hX dX6_days_46 rfl rfl ?_
      obtain ⟨V10, r8, e9, h⟩ := gz_b2_o h
      refine tc_V (As := []) hX (c_goesBy e9) (lw_goesBy_ q1986) rfl rfl nn_goesBy ⟨Nat.le_of_ble_eq_true rfl, Nat.le_of_ble_eq_true rfl⟩ rfl rfl (Nat.le_of_ble_eq_true rfl) dX6_days_47 rfl ?_
      refine gz_iadd hX dX6_days_50 ?_
      obtain ⟨x11, e12, h⟩ := gz_let_o h
      refine gz_nm e12 ?_
      refine gz_istore_n (lv2 := [(2, .int x11), (0, .ref (ad (1, 0, 0))), (1, .int v1), (3, .int v3)]) hX dX6_days_51 rfl (by decide) rfl ?_
      refine gz_iinc (q := 3) (lv2 := [(3, .int (v3 + 1)), (2, .int x11), (0, .ref (ad (1, 0, 0))), (1, .int v1)]) hX dX6_days_52 rfl gk_c_1 (by decide) rfl ?_
      refine gz_goto (tgt := 36) hX dX6_days_55 (by decide) ?_
      exact gz_lv [2, 3, 1, 0] rfl (ih h)
noncomputable def m_days (N : Nat) (V : gz_V) (a1 : Int32) : Option (gz_V × Int32) := gz_let (gz_up V (1, 0, 0) 0 0) (fun V1 => (if (m_isIn a1 1 60) = 0 then some (V1, (-1)) else (if ((V1 (2, 1, 0) (0 : Int32).toNatClampNeg) + a1) ≤ 9999 then gz_b2 (m_days_L36 N a1 N V1 0 0) (fun V5 x6 => some (V5, x6)) else some (V1, (-1)))))
theorem c_days {l : Launch} {D : va_G} {aC : Nat → ClassId} {ad : gz_A0} {N : Nat} {V : gz_V} {a1 : Int32} {W1 : gz_V} {r : Int32} (h : m_days N V a1 = some (W1, r)) : gz_Met l yX6_days cX6_days 4 (some .int) rm_days D aC ad tw_S V tw_R [.ref (ad (1, 0, 0)), .int a1] (gz_F1 tw_S tw_R ad W1 (some (.int r))) 0 0 := by
  refine gt_ofW (own := RX6) (mn := "days") (lv := [(0, .ref (ad (1, 0, 0))), (1, .int a1)]) (by decide) rfl rfl (Nat.le_of_ble_eq_true rfl) rfl ?_
  intro X hX hZ hF
  rw [m_days] at h
  refine gz_aload_n (q := 0) hX dX6_days_0 rfl rfl ?_
  refine gz_iconst (v := 0) hX dX6_days_1 gk_c_0 ?_
  obtain ⟨V1, e2, h⟩ := gz_let_o h
  refine tp_told hX dX6_days_2 e2 ?_
  refine gz_aload_n (q := 0) hX dX6_days_5 rfl rfl ?_
  refine gz_iload_n (q := 1) hX dX6_days_6 rfl rfl ?_
  refine gz_iconst (v := 1) hX dX6_days_7 gk_c_1 ?_
  refine gz_bipush (v := 60) hX dX6_days_8 gk_b_60 ?_
  refine tc_V (As := [.int a1, .int 1, .int 60]) hX (c_isIn rfl) (lw_isIn_ q1692) rfl rfl nn_isIn ⟨Nat.le_of_ble_eq_true rfl, Nat.le_of_ble_eq_true rfl⟩ rfl rfl (Nat.le_of_ble_eq_true rfl) dX6_days_10 rfl ?_
  refine gz_if_eq (tgt := 30) hX dX6_days_13 (by decide) (fun c3 => ?_) (fun c3 => ?_)
  · have h := gz_ifp c3 h
    refine gz_iconst (v := (-1)) hX dX6_days_30 gk_c_m1 ?_
    obtain ⟨e1, e2⟩ := gz_in2 h
    exact gt_iret hX hZ hF e1 e2 dX6_days_31
  · have h := gz_ifn c3 h
    refine gz_aload_n (q := 0) hX dX6_days_16 rfl rfl ?_
    refine tg_now hX dX6_days_17 ?_
    refine gz_iconst (v := 0) hX dX6_days_20 gk_c_0 ?_
    refine gz_iald (L := 121) hX tw_S1 (gz_inb_o (by decide)) dX6_days_21 ?_
    refine gz_iload_n (q := 1) hX dX6_days_22 rfl rfl ?_
    refine gz_iadd hX dX6_days_23 ?_
    refine gz_sipush (v := 9999) hX dX6_days_24 gk_s_9999 ?_
    refine gz_icmp_le (tgt := 32) hX dX6_days_27 (by decide) (fun c4 => ?_) (fun c4 => ?_)
    · have h := gz_ifp c4 h
      refine gz_iconst (v := 0) hX dX6_days_32 gk_c_0 ?_
      refine gz_istore_n (lv2 := [(2, .int 0), (0, .ref (ad (1, 0, 0))), (1, .int a1)]) hX dX6_days_33 rfl (by decide) rfl ?_
      refine gz_iconst (v := 0) hX dX6_days_34 gk_c_0 ?_
      refine gz_istore_n (lv2 := [(3, .int 0), (2, .int 0), (0, .ref (ad (1, 0, 0))), (1, .int a1)]) hX dX6_days_35 rfl (by decide) rfl ?_
      obtain ⟨V5, x6, e7, h⟩ := gz_b2_o h
      refine gz_lv [2, 3, 1, 0] rfl (w_m_days_L36 hX hZ ?_ N e7)
      refine gz_iload_n (q := 0) hX dX6_days_58 rfl rfl ?_
      obtain ⟨e1, e2⟩ := gz_in2 h
      exact gt_iret hX hZ hF e1 e2 dX6_days_59
    · have h := gz_ifn c4 h
      refine gz_iconst (v := (-1)) hX dX6_days_30 gk_c_m1 ?_
      obtain ⟨e1, e2⟩ := gz_in2 h
      exact gt_iret hX hZ hF e1 e2 dX6_days_31
theorem lw_days_ {i : Nat} (hl : Cond.methodLink RX6 i yX6_days ∈ lw_all) : GoodIn lw_all (wsV RX6 i RX6 yX6_days (ws_ yX6_days cX6_days 4 (some .int))) := lw_V hl q1983 q1984 q153 q1985
theorem nn_days : yX6_days.cls = RX6 ∧ yX6_days.cls ≠ "java/lang/invoke/MethodHandle" ∧ yX6_days.cls ≠ "java/lang/invoke/VarHandle" ∧ (parseMethodDescriptor yX6_days.desc).map (fun d => d.parameters.length) = some 1 := by decide +kernel
theorem gk_s_800 : (Int16.ofInt 800).toInt32 = 800 := by decide
def rm_emits : Room := { frames := 0, cells := 0, slots := 0, locals := 0 }
noncomputable def m_emits (V : gz_V) (a1 : Int32) (a2 : Int32) : Option gz_V := gz_gd (gz_inb (800 + (V (1, 0, 0) 26)) 1200 = true) (gz_let (gz_up V (2, 23, 0) (800 + (V (1, 0, 0) 26)).toNatClampNeg a1) (fun V2 => gz_gd (gz_inb (800 + (V2 (1, 0, 0) 26)) 1200 = true) (gz_let (gz_up V2 (2, 24, 0) (800 + (V2 (1, 0, 0) 26)).toNatClampNeg a2) (fun V5 => gz_let (gz_up V5 (1, 0, 0) 26 ((V5 (1, 0, 0) 26) + 1)) (fun V7 => some V7)))))
theorem c_emits {l : Launch} {D : va_G} {aC : Nat → ClassId} {ad : gz_A0} {V : gz_V} {a1 : Int32} {a2 : Int32} {W1 : gz_V} (h : m_emits V a1 a2 = some W1) : gz_Met l yX6_emits cX6_emits 3 none rm_emits D aC ad tw_S V tw_R [.ref (ad (1, 0, 0)), .int a1, .int a2] (gz_F1 tw_S tw_R ad W1 none) 0 0 := by
  refine gt_ofW (own := RX6) (mn := "emits") (lv := [(0, .ref (ad (1, 0, 0))), (1, .int a1), (2, .int a2)]) (by decide) rfl rfl (Nat.le_of_ble_eq_true rfl) rfl ?_
  intro X hX hZ hF
  rw [m_emits] at h
  refine gz_aload_n (q := 0) hX dX6_emits_0 rfl rfl ?_
  refine tg_op hX dX6_emits_1 ?_
  refine gz_sipush (v := 800) hX dX6_emits_4 gk_s_800 ?_
  refine gz_aload_n (q := 0) hX dX6_emits_7 rfl rfl ?_
  refine tg_codes hX dX6_emits_8 ?_
  refine gz_iadd hX dX6_emits_11 ?_
  refine gz_iload_n (q := 1) hX dX6_emits_12 rfl rfl ?_
  obtain ⟨b1, h⟩ := gz_gd_o h
  obtain ⟨V2, e3, h⟩ := gz_let_o h
  refine gz_iast (L := 1200) hX tw_S23 (by decide) (gz_inb_o b1) dX6_emits_13 e3 ?_
  refine gz_aload_n (q := 0) hX dX6_emits_14 rfl rfl ?_
  refine tg_arg hX dX6_emits_15 ?_
  refine gz_sipush (v := 800) hX dX6_emits_18 gk_s_800 ?_
  refine gz_aload_n (q := 0) hX dX6_emits_21 rfl rfl ?_
  refine tg_codes hX dX6_emits_22 ?_
  refine gz_iadd hX dX6_emits_25 ?_
  refine gz_iload_n (q := 2) hX dX6_emits_26 rfl rfl ?_
  obtain ⟨b4, h⟩ := gz_gd_o h
  obtain ⟨V5, e6, h⟩ := gz_let_o h
  refine gz_iast (L := 1200) hX tw_S24 (by decide) (gz_inb_o b4) dX6_emits_27 e6 ?_
  refine gz_aload_n (q := 0) hX dX6_emits_28 rfl rfl ?_
  refine gz_aload_n (q := 0) hX dX6_emits_29 rfl rfl ?_
  refine tg_codes hX dX6_emits_30 ?_
  refine gz_iconst (v := 1) hX dX6_emits_33 gk_c_1 ?_
  refine gz_iadd hX dX6_emits_34 ?_
  obtain ⟨V7, e8, h⟩ := gz_let_o h
  refine tp_codes hX dX6_emits_35 e8 ?_
  exact gt_vret hX hZ hF (gz_in1 h) dX6_emits_38
theorem lw_emits_ {i : Nat} (hl : Cond.methodLink RX6 i yX6_emits ∈ lw_all) : GoodIn lw_all (wsV RX6 i RX6 yX6_emits (ws_ yX6_emits cX6_emits 3 none)) := lw_V hl q1842 qs85 q153 q1843
theorem nn_emits : yX6_emits.cls = RX6 ∧ yX6_emits.cls ≠ "java/lang/invoke/MethodHandle" ∧ yX6_emits.cls ≠ "java/lang/invoke/VarHandle" ∧ (parseMethodDescriptor yX6_emits.desc).map (fun d => d.parameters.length) = some 2 := by decide +kernel
def rm_end : Room := { frames := 1, cells := 0, slots := 0, locals := 23 }
noncomputable def m_end (V : gz_V) (a1 : Int32) : Option (gz_V × Int32) := gz_let (gz_up V (1, 0, 0) 0 0) (fun V1 => (if (m_isIn a1 0 (V1 (1, 0, 0) 12)) = 0 then some (V1, 0) else gz_let (gz_up V1 (1, 0, 0) 12 a1) (fun V4 => some (V4, 1))))
theorem c_end {l : Launch} {D : va_G} {aC : Nat → ClassId} {ad : gz_A0} {V : gz_V} {a1 : Int32} {W1 : gz_V} {r : Int32} (h : m_end V a1 = some (W1, r)) : gz_Met l yX6_end cX6_end 2 (some .boolean) rm_end D aC ad tw_S V tw_R [.ref (ad (1, 0, 0)), .int a1] (gz_F1 tw_S tw_R ad W1 (some (.int r))) 0 0 := by
  refine gt_ofW (own := RX6) (mn := "end") (lv := [(0, .ref (ad (1, 0, 0))), (1, .int a1)]) (by decide) rfl rfl (Nat.le_of_ble_eq_true rfl) rfl ?_
  intro X hX hZ hF
  rw [m_end] at h
  refine gz_aload_n (q := 0) hX dX6_end_0 rfl rfl ?_
  refine gz_iconst (v := 0) hX dX6_end_1 gk_c_0 ?_
  obtain ⟨V1, e2, h⟩ := gz_let_o h
  refine tp_told hX dX6_end_2 e2 ?_
  refine gz_aload_n (q := 0) hX dX6_end_5 rfl rfl ?_
  refine gz_iload_n (q := 1) hX dX6_end_6 rfl rfl ?_
  refine gz_iconst (v := 0) hX dX6_end_7 gk_c_0 ?_
  refine gz_aload_n (q := 0) hX dX6_end_8 rfl rfl ?_
  refine tg_taped hX dX6_end_9 ?_
  refine tc_V (As := [.int a1, .int 0, .int (V1 (1, 0, 0) 12)]) hX (c_isIn rfl) (lw_isIn_ q1692) rfl rfl nn_isIn ⟨Nat.le_of_ble_eq_true rfl, Nat.le_of_ble_eq_true rfl⟩ rfl rfl (Nat.le_of_ble_eq_true rfl) dX6_end_12 rfl ?_
  refine gz_if_ne (tgt := 20) hX dX6_end_15 (by decide) (fun c3 => ?_) (fun c3 => ?_)
  · have h := gz_ifn c3 h
    refine gz_aload_n (q := 0) hX dX6_end_20 rfl rfl ?_
    refine gz_iload_n (q := 1) hX dX6_end_21 rfl rfl ?_
    obtain ⟨V4, e5, h⟩ := gz_let_o h
    refine tp_taped hX dX6_end_22 e5 ?_
    refine gz_iconst (v := 1) hX dX6_end_25 gk_c_1 ?_
    obtain ⟨e1, e2⟩ := gz_in2 h
    exact gt_zret hX hZ rfl hF e1 e2 dX6_end_26
  · have h := gz_ifp c3 h
    refine gz_iconst (v := 0) hX dX6_end_18 gk_c_0 ?_
    obtain ⟨e1, e2⟩ := gz_in2 h
    exact gt_zret hX hZ rfl hF e1 e2 dX6_end_19
theorem lw_end_ {i : Nat} (hl : Cond.methodLink RX6 i yX6_end ∈ lw_all) : GoodIn lw_all (wsV RX6 i RX6 yX6_end (ws_ yX6_end cX6_end 2 (some .boolean))) := lw_V hl q1733 q1734 q153 q1735
theorem nn_end : yX6_end.cls = RX6 ∧ yX6_end.cls ≠ "java/lang/invoke/MethodHandle" ∧ yX6_end.cls ≠ "java/lang/invoke/VarHandle" ∧ (parseMethodDescriptor yX6_end.desc).map (fun d => d.parameters.length) = some 1 := by decide +kernel
def rm_endsThought : Room := { frames := 0, cells := 0, slots := 0, locals := 0 }
noncomputable def m_endsThought_L2 (N : Nat) : Nat → gz_V → Int32 → Option (gz_V)
  | 0, _, _ => none
  | n + 1, V, v1 => (if 121 ≤ v1 then some V else gz_gd (gz_inb v1 121 = true) (gz_gd (gz_inb v1 121 = true) (gz_let (gz_up V (2, 1, 0) v1.toNatClampNeg (V (2, 4, 0) v1.toNatClampNeg)) (fun V4 => m_endsThought_L2 N n V4 (v1 + 1)))))
theorem w_m_endsThought_L2 {X : gz_X} {ad : gz_A0} (hX : gz_ok X cX6_endsThought RX6 "endsThought" 2 rm_endsThought none) (hZ : gz_Z X) {N : Nat} {W1 : gz_V} (k : gW X 2 tw_S tw_R ad W1 0 0 26 [(0, .ref (ad (1, 0, 0)))] []) : ∀ (n : Nat) {V : gz_V} {v1 : Int32}, m_endsThought_L2 N n V v1 = some W1 → gW X 2 tw_S tw_R ad V 0 0 2 [(0, .ref (ad (1, 0, 0))), (1, .int v1)] [] := by
  intro n
  induction n with
  | zero => intro V v1 h; rw [m_endsThought_L2] at h; cases h
  | succ n ih =>
    intro V v1 h
    rw [m_endsThought_L2] at h
    refine gz_iload_n (q := 1) hX dX6_endsThought_2 rfl rfl ?_
    refine gz_bipush (v := 121) hX dX6_endsThought_3 gk_b_121 ?_
    refine gz_icmp_ge (tgt := 26) hX dX6_endsThought_5 (by decide) (fun c1 => ?_) (fun c1 => ?_)
    · have h := gz_ifp c1 h
      obtain rfl := gz_in1 h
      exact gz_lv [0] rfl k
    · have h := gz_ifn c1 h
      refine gz_aload_n (q := 0) hX dX6_endsThought_8 rfl rfl ?_
      refine tg_now hX dX6_endsThought_9 ?_
      refine gz_iload_n (q := 1) hX dX6_endsThought_12 rfl rfl ?_
      refine gz_aload_n (q := 0) hX dX6_endsThought_13 rfl rfl ?_
      refine tg_waiting hX dX6_endsThought_14 ?_
      refine gz_iload_n (q := 1) hX dX6_endsThought_17 rfl rfl ?_
      obtain ⟨b2, h⟩ := gz_gd_o h
      refine gz_iald (L := 121) hX tw_S4 (gz_inb_o b2) dX6_endsThought_18 ?_
      obtain ⟨b3, h⟩ := gz_gd_o h
      obtain ⟨V4, e5, h⟩ := gz_let_o h
      refine gz_iast (L := 121) hX tw_S1 (by decide) (gz_inb_o b3) dX6_endsThought_19 e5 ?_
      refine gz_iinc (q := 1) (lv2 := [(1, .int (v1 + 1)), (0, .ref (ad (1, 0, 0)))]) hX dX6_endsThought_20 rfl gk_c_1 (by decide) rfl ?_
      refine gz_goto (tgt := 2) hX dX6_endsThought_23 (by decide) ?_
      exact gz_lv [1, 0] rfl (ih h)
noncomputable def m_endsThought (N : Nat) (V : gz_V) : Option gz_V := gz_bd (m_endsThought_L2 N N V 0) (fun V1 => gz_let (gz_up V1 (1, 0, 0) 5 0) (fun V3 => some V3))
theorem c_endsThought {l : Launch} {D : va_G} {aC : Nat → ClassId} {ad : gz_A0} {N : Nat} {V : gz_V} {W1 : gz_V} (h : m_endsThought N V = some W1) : gz_Met l yX6_endsThought cX6_endsThought 2 none rm_endsThought D aC ad tw_S V tw_R [.ref (ad (1, 0, 0))] (gz_F1 tw_S tw_R ad W1 none) 0 0 := by
  refine gt_ofW (own := RX6) (mn := "endsThought") (lv := [(0, .ref (ad (1, 0, 0)))]) (by decide) rfl rfl (Nat.le_of_ble_eq_true rfl) rfl ?_
  intro X hX hZ hF
  rw [m_endsThought] at h
  refine gz_iconst (v := 0) hX dX6_endsThought_0 gk_c_0 ?_
  refine gz_istore_n (lv2 := [(1, .int 0), (0, .ref (ad (1, 0, 0)))]) hX dX6_endsThought_1 rfl (by decide) rfl ?_
  obtain ⟨V1, e2, h⟩ := gz_bd_o h
  refine gz_lv [1, 0] rfl (w_m_endsThought_L2 hX hZ ?_ N e2)
  refine gz_aload_n (q := 0) hX dX6_endsThought_26 rfl rfl ?_
  refine gz_iconst (v := 0) hX dX6_endsThought_27 gk_c_0 ?_
  obtain ⟨V3, e4, h⟩ := gz_let_o h
  refine tp_isThought hX (by decide) dX6_endsThought_28 e4 ?_
  exact gt_vret hX hZ hF (gz_in1 h) dX6_endsThought_31
theorem lw_endsThought_ {i : Nat} (hl : Cond.methodLink RX6 i yX6_endsThought ∈ lw_all) : GoodIn lw_all (wsV RX6 i RX6 yX6_endsThought (ws_ yX6_endsThought cX6_endsThought 2 none)) := lw_V hl q2036 qs121 q153 q2037
theorem nn_endsThought : yX6_endsThought.cls = RX6 ∧ yX6_endsThought.cls ≠ "java/lang/invoke/MethodHandle" ∧ yX6_endsThought.cls ≠ "java/lang/invoke/VarHandle" ∧ (parseMethodDescriptor yX6_endsThought.desc).map (fun d => d.parameters.length) = some 0 := by decide +kernel
def rm_errs : Room := { frames := 0, cells := 0, slots := 0, locals := 0 }
noncomputable def m_errs (V : gz_V) (a1 : Int32) : Option (gz_V × Int32) := gz_let (gz_up V (1, 0, 0) 30 a1) (fun V1 => gz_let (gz_up V1 (1, 0, 0) 31 (V1 (1, 0, 0) 14)) (fun V3 => some (V3, (-1))))
theorem c_errs {l : Launch} {D : va_G} {aC : Nat → ClassId} {ad : gz_A0} {V : gz_V} {a1 : Int32} {W1 : gz_V} {r : Int32} (h : m_errs V a1 = some (W1, r)) : gz_Met l yX6_errs cX6_errs 2 (some .int) rm_errs D aC ad tw_S V tw_R [.ref (ad (1, 0, 0)), .int a1] (gz_F1 tw_S tw_R ad W1 (some (.int r))) 0 0 := by
  refine gt_ofW (own := RX6) (mn := "errs") (lv := [(0, .ref (ad (1, 0, 0))), (1, .int a1)]) (by decide) rfl rfl (Nat.le_of_ble_eq_true rfl) rfl ?_
  intro X hX hZ hF
  rw [m_errs] at h
  refine gz_aload_n (q := 0) hX dX6_errs_0 rfl rfl ?_
  refine gz_iload_n (q := 1) hX dX6_errs_1 rfl rfl ?_
  obtain ⟨V1, e2, h⟩ := gz_let_o h
  refine tp_readFault hX dX6_errs_2 e2 ?_
  refine gz_aload_n (q := 0) hX dX6_errs_5 rfl rfl ?_
  refine gz_aload_n (q := 0) hX dX6_errs_6 rfl rfl ?_
  refine tg_from hX dX6_errs_7 ?_
  obtain ⟨V3, e4, h⟩ := gz_let_o h
  refine tp_readPlace hX dX6_errs_10 e4 ?_
  refine gz_iconst (v := (-1)) hX dX6_errs_13 gk_c_m1 ?_
  obtain ⟨e1, e2⟩ := gz_in2 h
  exact gt_iret hX hZ hF e1 e2 dX6_errs_14
theorem lw_errs_ {i : Nat} (hl : Cond.methodLink RX6 i yX6_errs ∈ lw_all) : GoodIn lw_all (wsV RX6 i RX6 yX6_errs (ws_ yX6_errs cX6_errs 2 (some .int))) := lw_V hl q1778 qs69 q153 q1779
theorem nn_errs : yX6_errs.cls = RX6 ∧ yX6_errs.cls ≠ "java/lang/invoke/MethodHandle" ∧ yX6_errs.cls ≠ "java/lang/invoke/VarHandle" ∧ (parseMethodDescriptor yX6_errs.desc).map (fun d => d.parameters.length) = some 1 := by decide +kernel
def rm_fault : Room := { frames := 0, cells := 0, slots := 0, locals := 0 }
noncomputable def m_fault (V : gz_V) (a1 : Int32) : Option (gz_V × Int32) := gz_let (gz_up V (1, 0, 0) 0 0) (fun V1 => (if a1 = 0 then some (V1, (V1 (1, 0, 0) 32)) else (if a1 = 1 then some (V1, (V1 (1, 0, 0) 33)) else some (V1, (-1)))))
theorem c_fault {l : Launch} {D : va_G} {aC : Nat → ClassId} {ad : gz_A0} {V : gz_V} {a1 : Int32} {W1 : gz_V} {r : Int32} (h : m_fault V a1 = some (W1, r)) : gz_Met l yX6_fault cX6_fault 2 (some .int) rm_fault D aC ad tw_S V tw_R [.ref (ad (1, 0, 0)), .int a1] (gz_F1 tw_S tw_R ad W1 (some (.int r))) 0 0 := by
  refine gt_ofW (own := RX6) (mn := "fault") (lv := [(0, .ref (ad (1, 0, 0))), (1, .int a1)]) (by decide) rfl rfl (Nat.le_of_ble_eq_true rfl) rfl ?_
  intro X hX hZ hF
  rw [m_fault] at h
  refine gz_aload_n (q := 0) hX dX6_fault_0 rfl rfl ?_
  refine gz_iconst (v := 0) hX dX6_fault_1 gk_c_0 ?_
  obtain ⟨V1, e2, h⟩ := gz_let_o h
  refine tp_told hX dX6_fault_2 e2 ?_
  refine gz_iload_n (q := 1) hX dX6_fault_5 rfl rfl ?_
  refine gz_if_ne (tgt := 16) hX dX6_fault_6 (by decide) (fun c3 => ?_) (fun c3 => ?_)
  · have h := gz_ifn c3 h
    refine gz_iload_n (q := 1) hX dX6_fault_16 rfl rfl ?_
    refine gz_iconst (v := 1) hX dX6_fault_17 gk_c_1 ?_
    refine gz_icmp_ne (tgt := 28) hX dX6_fault_18 (by decide) (fun c4 => ?_) (fun c4 => ?_)
    · have h := gz_ifn c4 h
      refine gz_iconst (v := (-1)) hX dX6_fault_28 gk_c_m1 ?_
      obtain ⟨e1, e2⟩ := gz_in2 h
      exact gt_iret hX hZ hF e1 e2 dX6_fault_29
    · have h := gz_ifp c4 h
      refine gz_aload_n (q := 0) hX dX6_fault_21 rfl rfl ?_
      refine tg_faultPlace hX dX6_fault_22 ?_
      refine gz_goto (tgt := 29) hX dX6_fault_25 (by decide) ?_
      obtain ⟨e1, e2⟩ := gz_in2 h
      exact gt_iret hX hZ hF e1 e2 dX6_fault_29
  · have h := gz_ifp c3 h
    refine gz_aload_n (q := 0) hX dX6_fault_9 rfl rfl ?_
    refine tg_faultKind hX dX6_fault_10 ?_
    refine gz_goto (tgt := 29) hX dX6_fault_13 (by decide) ?_
    obtain ⟨e1, e2⟩ := gz_in2 h
    exact gt_iret hX hZ hF e1 e2 dX6_fault_29
theorem lw_fault_ {i : Nat} (hl : Cond.methodLink RX6 i yX6_fault ∈ lw_all) : GoodIn lw_all (wsV RX6 i RX6 yX6_fault (ws_ yX6_fault cX6_fault 2 (some .int))) := lw_V hl q1869 q1870 q153 q1871
theorem nn_fault : yX6_fault.cls = RX6 ∧ yX6_fault.cls ≠ "java/lang/invoke/MethodHandle" ∧ yX6_fault.cls ≠ "java/lang/invoke/VarHandle" ∧ (parseMethodDescriptor yX6_fault.desc).map (fun d => d.parameters.length) = some 1 := by decide +kernel
theorem gk_b_24 : (Int8.ofInt 24).toInt32 = 24 := by decide
theorem gk_c_m8 : Int32.ofInt (-8) = (-8) := by decide
theorem gk_s_255 : (Int16.ofInt 255).toInt32 = 255 := by decide
def rm_types : Room := { frames := 0, cells := 0, slots := 0, locals := 0 }
noncomputable def m_types_L3 (N : Nat) (v1 : Int32) : Nat → gz_V → Int32 → Option (gz_V)
  | 0, _, _ => none
  | n + 1, V, v2 => (if v2 < 0 then some V else gz_gd (gz_inb (V (1, 0, 0) 12) 400 = true) (gz_let (gz_up V (2, 11, 0) (V (1, 0, 0) 12).toNatClampNeg ((v1 >>> (v2 &&& 31)) &&& 255)) (fun V3 => gz_let (gz_up V3 (1, 0, 0) 12 ((V3 (1, 0, 0) 12) + 1)) (fun V5 => m_types_L3 N v1 n V5 (v2 + (-8))))))
theorem w_m_types_L3 {X : gz_X} {ad : gz_A0} (hX : gz_ok X cX6_types RX6 "types" 3 rm_types none) (hZ : gz_Z X) {N : Nat} {v1 : Int32} {W1 : gz_V} (k : gW X 3 tw_S tw_R ad W1 0 0 39 [] []) : ∀ (n : Nat) {V : gz_V} {v2 : Int32}, m_types_L3 N v1 n V v2 = some W1 → gW X 3 tw_S tw_R ad V 0 0 3 [(0, .ref (ad (1, 0, 0))), (1, .int v1), (2, .int v2)] [] := by
  intro n
  induction n with
  | zero => intro V v2 h; rw [m_types_L3] at h; cases h
  | succ n ih =>
    intro V v2 h
    rw [m_types_L3] at h
    refine gz_iload_n (q := 2) hX dX6_types_3 rfl rfl ?_
    refine gz_if_lt (tgt := 39) hX dX6_types_4 (by decide) (fun c1 => ?_) (fun c1 => ?_)
    · have h := gz_ifp c1 h
      obtain rfl := gz_in1 h
      exact gz_lv [] rfl k
    · have h := gz_ifn c1 h
      refine gz_aload_n (q := 0) hX dX6_types_7 rfl rfl ?_
      refine tg_tape hX dX6_types_8 ?_
      refine gz_aload_n (q := 0) hX dX6_types_11 rfl rfl ?_
      refine tg_taped hX dX6_types_12 ?_
      refine gz_iload_n (q := 1) hX dX6_types_15 rfl rfl ?_
      refine gz_iload_n (q := 2) hX dX6_types_16 rfl rfl ?_
      refine gz_ishr hX dX6_types_17 ?_
      refine gz_sipush (v := 255) hX dX6_types_18 gk_s_255 ?_
      refine gz_iand hX dX6_types_21 ?_
      obtain ⟨b2, h⟩ := gz_gd_o h
      obtain ⟨V3, e4, h⟩ := gz_let_o h
      refine gz_iast (L := 400) hX tw_S11 (by decide) (gz_inb_o b2) dX6_types_22 e4 ?_
      refine gz_aload_n (q := 0) hX dX6_types_23 rfl rfl ?_
      refine gz_aload_n (q := 0) hX dX6_types_24 rfl rfl ?_
      refine tg_taped hX dX6_types_25 ?_
      refine gz_iconst (v := 1) hX dX6_types_28 gk_c_1 ?_
      refine gz_iadd hX dX6_types_29 ?_
      obtain ⟨V5, e6, h⟩ := gz_let_o h
      refine tp_taped hX dX6_types_30 e6 ?_
      refine gz_iinc (q := 2) (lv2 := [(2, .int (v2 + (-8))), (0, .ref (ad (1, 0, 0))), (1, .int v1)]) hX dX6_types_33 rfl gk_c_m8 (by decide) rfl ?_
      refine gz_goto (tgt := 3) hX dX6_types_36 (by decide) ?_
      exact gz_lv [1, 2, 0] rfl (ih h)
noncomputable def m_types (N : Nat) (V : gz_V) (a1 : Int32) : Option gz_V := gz_bd (m_types_L3 N a1 N V 24) (fun V1 => some V1)
theorem c_types {l : Launch} {D : va_G} {aC : Nat → ClassId} {ad : gz_A0} {N : Nat} {V : gz_V} {a1 : Int32} {W1 : gz_V} (h : m_types N V a1 = some W1) : gz_Met l yX6_types cX6_types 3 none rm_types D aC ad tw_S V tw_R [.ref (ad (1, 0, 0)), .int a1] (gz_F1 tw_S tw_R ad W1 none) 0 0 := by
  refine gt_ofW (own := RX6) (mn := "types") (lv := [(0, .ref (ad (1, 0, 0))), (1, .int a1)]) (by decide) rfl rfl (Nat.le_of_ble_eq_true rfl) rfl ?_
  intro X hX hZ hF
  rw [m_types] at h
  refine gz_bipush (v := 24) hX dX6_types_0 gk_b_24 ?_
  refine gz_istore_n (lv2 := [(2, .int 24), (0, .ref (ad (1, 0, 0))), (1, .int a1)]) hX dX6_types_2 rfl (by decide) rfl ?_
  obtain ⟨V1, e2, h⟩ := gz_bd_o h
  refine gz_lv [1, 2, 0] rfl (w_m_types_L3 hX hZ ?_ N e2)
  exact gt_vret hX hZ hF (gz_in1 h) dX6_types_39
theorem lw_types_ {i : Nat} (hl : Cond.methodLink RX6 i yX6_types ∈ lw_all) : GoodIn lw_all (wsV RX6 i RX6 yX6_types (ws_ yX6_types cX6_types 3 none)) := lw_V hl q1730 qs59 q153 q1731
theorem nn_types : yX6_types.cls = RX6 ∧ yX6_types.cls ≠ "java/lang/invoke/MethodHandle" ∧ yX6_types.cls ≠ "java/lang/invoke/VarHandle" ∧ (parseMethodDescriptor yX6_types.desc).map (fun d => d.parameters.length) = some 1 := by decide +kernel
theorem gk_s_380 : (Int16.ofInt 380).toInt32 = 380 := by decide
def rm_feed : Room := { frames := 1, cells := 0, slots := 0, locals := 22 }
noncomputable def m_feed (N : Nat) (V : gz_V) (a1 : Int32) (a2 : Int32) (a3 : Int32) (a4 : Int32) (a5 : Int32) : Option (gz_V × Int32) := gz_let (gz_up V (1, 0, 0) 0 0) (fun V1 => (if (V1 (1, 0, 0) 12) ≤ 380 then gz_bd (m_types N V1 a1) (fun V5 => gz_bd (m_types N V5 a2) (fun V7 => gz_bd (m_types N V7 a3) (fun V9 => gz_bd (m_types N V9 a4) (fun V11 => gz_bd (m_types N V11 a5) (fun V13 => some (V13, (V13 (1, 0, 0) 12))))))) else some (V1, (-1))))
theorem c_feed {l : Launch} {D : va_G} {aC : Nat → ClassId} {ad : gz_A0} {N : Nat} {V : gz_V} {a1 : Int32} {a2 : Int32} {a3 : Int32} {a4 : Int32} {a5 : Int32} {W1 : gz_V} {r : Int32} (h : m_feed N V a1 a2 a3 a4 a5 = some (W1, r)) : gz_Met l yX6_feed cX6_feed 6 (some .int) rm_feed D aC ad tw_S V tw_R [.ref (ad (1, 0, 0)), .int a1, .int a2, .int a3, .int a4, .int a5] (gz_F1 tw_S tw_R ad W1 (some (.int r))) 0 0 := by
  refine gt_ofW (own := RX6) (mn := "feed") (lv := [(0, .ref (ad (1, 0, 0))), (1, .int a1), (2, .int a2), (3, .int a3), (4, .int a4), (5, .int a5)]) (by decide) rfl rfl (Nat.le_of_ble_eq_true rfl) rfl ?_
  intro X hX hZ hF
  rw [m_feed] at h
  refine gz_aload_n (q := 0) hX dX6_feed_0 rfl rfl ?_
  refine gz_iconst (v := 0) hX dX6_feed_1 gk_c_0 ?_
  obtain ⟨V1, e2, h⟩ := gz_let_o h
  refine tp_told hX dX6_feed_2 e2 ?_
  refine gz_aload_n (q := 0) hX dX6_feed_5 rfl rfl ?_
  refine tg_taped hX dX6_feed_6 ?_
  refine gz_sipush (v := 380) hX dX6_feed_9 gk_s_380 ?_
  refine gz_icmp_le (tgt := 17) hX dX6_feed_12 (by decide) (fun c3 => ?_) (fun c3 => ?_)
  · have h := gz_ifp c3 h
    refine gz_aload_n (q := 0) hX dX6_feed_17 rfl rfl ?_
    refine gz_iload_n (q := 1) hX dX6_feed_18 rfl rfl ?_
    obtain ⟨V5, e4, h⟩ := gz_bd_o h
    refine tc_V (As := [.int a1]) hX (c_types e4) (lw_types_ q1728) rfl rfl nn_types ⟨Nat.le_of_ble_eq_true rfl, Nat.le_of_ble_eq_true rfl⟩ rfl rfl (Nat.le_of_ble_eq_true rfl) dX6_feed_19 rfl ?_
    refine gz_aload_n (q := 0) hX dX6_feed_22 rfl rfl ?_
    refine gz_iload_n (q := 2) hX dX6_feed_23 rfl rfl ?_
    obtain ⟨V7, e6, h⟩ := gz_bd_o h
    refine tc_V (As := [.int a2]) hX (c_types e6) (lw_types_ q1728) rfl rfl nn_types ⟨Nat.le_of_ble_eq_true rfl, Nat.le_of_ble_eq_true rfl⟩ rfl rfl (Nat.le_of_ble_eq_true rfl) dX6_feed_24 rfl ?_
    refine gz_aload_n (q := 0) hX dX6_feed_27 rfl rfl ?_
    refine gz_iload_n (q := 3) hX dX6_feed_28 rfl rfl ?_
    obtain ⟨V9, e8, h⟩ := gz_bd_o h
    refine tc_V (As := [.int a3]) hX (c_types e8) (lw_types_ q1728) rfl rfl nn_types ⟨Nat.le_of_ble_eq_true rfl, Nat.le_of_ble_eq_true rfl⟩ rfl rfl (Nat.le_of_ble_eq_true rfl) dX6_feed_29 rfl ?_
    refine gz_aload_n (q := 0) hX dX6_feed_32 rfl rfl ?_
    refine gz_iload (q := 4) hX dX6_feed_33 rfl ?_
    obtain ⟨V11, e10, h⟩ := gz_bd_o h
    refine tc_V (As := [.int a4]) hX (c_types e10) (lw_types_ q1728) rfl rfl nn_types ⟨Nat.le_of_ble_eq_true rfl, Nat.le_of_ble_eq_true rfl⟩ rfl rfl (Nat.le_of_ble_eq_true rfl) dX6_feed_35 rfl ?_
    refine gz_aload_n (q := 0) hX dX6_feed_38 rfl rfl ?_
    refine gz_iload (q := 5) hX dX6_feed_39 rfl ?_
    obtain ⟨V13, e12, h⟩ := gz_bd_o h
    refine tc_V (As := [.int a5]) hX (c_types e12) (lw_types_ q1728) rfl rfl nn_types ⟨Nat.le_of_ble_eq_true rfl, Nat.le_of_ble_eq_true rfl⟩ rfl rfl (Nat.le_of_ble_eq_true rfl) dX6_feed_41 rfl ?_
    refine gz_aload_n (q := 0) hX dX6_feed_44 rfl rfl ?_
    refine tg_taped hX dX6_feed_45 ?_
    obtain ⟨e1, e2⟩ := gz_in2 h
    exact gt_iret hX hZ hF e1 e2 dX6_feed_48
  · have h := gz_ifn c3 h
    refine gz_iconst (v := (-1)) hX dX6_feed_15 gk_c_m1 ?_
    obtain ⟨e1, e2⟩ := gz_in2 h
    exact gt_iret hX hZ hF e1 e2 dX6_feed_16
theorem lw_feed_ {i : Nat} (hl : Cond.methodLink RX6 i yX6_feed ∈ lw_all) : GoodIn lw_all (wsV RX6 i RX6 yX6_feed (ws_ yX6_feed cX6_feed 6 (some .int))) := lw_V hl q1725 q1726 q153 q1727
theorem nn_feed : yX6_feed.cls = RX6 ∧ yX6_feed.cls ≠ "java/lang/invoke/MethodHandle" ∧ yX6_feed.cls ≠ "java/lang/invoke/VarHandle" ∧ (parseMethodDescriptor yX6_feed.desc).map (fun d => d.parameters.length) = some 5 := by decide +kernel
theorem gk_b_21 : (Int8.ofInt 21).toInt32 = 21 := by decide
def rm_findsNimbers : Room := { frames := 1, cells := 0, slots := 0, locals := 22 }
noncomputable def m_findsNimbers_L20 (N : Nat) (V : gz_V) (v1 : Int32) (v3 : Int32) : Nat → Int32 → Int32 → Option (Int32)
  | 0, _, _ => none
  | n + 1, v2, v4 => (if v1 < (v4 + v3) then some v2 else gz_gd (gz_inb v4 21 = true) (gz_gd (gz_inb ((v1 - v4) - v3) 21 = true) (gz_let (v2 ||| ((1 : Int32) <<< (((V (2, 64, 0) v4.toNatClampNeg) ^^^ (V (2, 64, 0) ((v1 - v4) - v3).toNatClampNeg)) &&& 31))) (fun x6 => m_findsNimbers_L20 N V v1 v3 n x6 (v4 + 1)))))
theorem w_m_findsNimbers_L20 {X : gz_X} {ad : gz_A0} (hX : gz_ok X cX6_findsNimbers RX6 "findsNimbers" 5 rm_findsNimbers none) (hZ : gz_Z X) {N : Nat} {V : gz_V} {v1 : Int32} {v3 : Int32} {o2 : Int32} (k : gW X 5 tw_S tw_R ad V 0 0 58 [(0, .ref (ad (1, 0, 0))), (1, .int v1), (2, .int o2), (3, .int v3)] []) : ∀ (n : Nat) {v2 : Int32} {v4 : Int32}, m_findsNimbers_L20 N V v1 v3 n v2 v4 = some o2 → gW X 5 tw_S tw_R ad V 0 0 20 [(0, .ref (ad (1, 0, 0))), (1, .int v1), (2, .int v2), (3, .int v3), (4, .int v4)] [] := by
  intro n
  induction n with
  | zero => intro v2 v4 h; rw [m_findsNimbers_L20] at h; cases h
  | succ n ih =>
    intro v2 v4 h
    rw [m_findsNimbers_L20] at h
    refine gz_iload (q := 4) hX dX6_findsNimbers_20 rfl ?_
    refine gz_iload_n (q := 3) hX dX6_findsNimbers_22 rfl rfl ?_
    refine gz_iadd hX dX6_findsNimbers_23 ?_
    refine gz_iload_n (q := 1) hX dX6_findsNimbers_24 rfl rfl ?_
    refine gz_icmp_gt (tgt := 58) hX dX6_findsNimbers_25 (by decide) (fun c3 => ?_) (fun c3 => ?_)
    · have h := gz_ifp c3 h
      obtain rfl := gz_in1 h
      exact gz_lv [0, 1, 2, 3] rfl k
    · have h := gz_ifn c3 h
      refine gz_iload_n (q := 2) hX dX6_findsNimbers_28 rfl rfl ?_
      refine gz_iconst (v := 1) hX dX6_findsNimbers_29 gk_c_1 ?_
      refine gz_aload_n (q := 0) hX dX6_findsNimbers_30 rfl rfl ?_
      refine tg_nimbers hX dX6_findsNimbers_31 ?_
      refine gz_iload (q := 4) hX dX6_findsNimbers_34 rfl ?_
      obtain ⟨b4, h⟩ := gz_gd_o h
      refine gz_iald (L := 21) hX tw_S64 (gz_inb_o b4) dX6_findsNimbers_36 ?_
      refine gz_aload_n (q := 0) hX dX6_findsNimbers_37 rfl rfl ?_
      refine tg_nimbers hX dX6_findsNimbers_38 ?_
      refine gz_iload_n (q := 1) hX dX6_findsNimbers_41 rfl rfl ?_
      refine gz_iload (q := 4) hX dX6_findsNimbers_42 rfl ?_
      refine gz_isub hX dX6_findsNimbers_44 ?_
      refine gz_iload_n (q := 3) hX dX6_findsNimbers_45 rfl rfl ?_
      refine gz_isub hX dX6_findsNimbers_46 ?_
      obtain ⟨b5, h⟩ := gz_gd_o h
      refine gz_iald (L := 21) hX tw_S64 (gz_inb_o b5) dX6_findsNimbers_47 ?_
      refine gz_ixor hX dX6_findsNimbers_48 ?_
      refine gz_ishl hX dX6_findsNimbers_49 ?_
      refine gz_ior hX dX6_findsNimbers_50 ?_
      obtain ⟨x6, e7, h⟩ := gz_let_o h
      refine gz_nm e7 ?_
      refine gz_istore_n (lv2 := [(2, .int x6), (0, .ref (ad (1, 0, 0))), (1, .int v1), (3, .int v3), (4, .int v4)]) hX dX6_findsNimbers_51 rfl (by decide) rfl ?_
      refine gz_iinc (q := 4) (lv2 := [(4, .int (v4 + 1)), (2, .int x6), (0, .ref (ad (1, 0, 0))), (1, .int v1), (3, .int v3)]) hX dX6_findsNimbers_52 rfl gk_c_1 (by decide) rfl ?_
      refine gz_goto (tgt := 20) hX dX6_findsNimbers_55 (by decide) ?_
      exact gz_lv [2, 3, 1, 4, 0] rfl (ih h)
noncomputable def m_findsNimbers_L12 (N : Nat) (V : gz_V) (v1 : Int32) : Nat → Int32 → Int32 → Option (Int32)
  | 0, _, _ => none
  | n + 1, v2, v3 => (if 3 ≤ v3 then some v2 else gz_bd (m_findsNimbers_L20 N V v1 v3 N v2 0) (fun x3 => m_findsNimbers_L12 N V v1 n x3 (v3 + 1)))
theorem w_m_findsNimbers_L12 {X : gz_X} {ad : gz_A0} (hX : gz_ok X cX6_findsNimbers RX6 "findsNimbers" 5 rm_findsNimbers none) (hZ : gz_Z X) {N : Nat} {V : gz_V} {v1 : Int32} {o2 : Int32} (k : gW X 5 tw_S tw_R ad V 0 0 64 [(0, .ref (ad (1, 0, 0))), (1, .int v1), (2, .int o2)] []) : ∀ (n : Nat) {v2 : Int32} {v3 : Int32}, m_findsNimbers_L12 N V v1 n v2 v3 = some o2 → gW X 5 tw_S tw_R ad V 0 0 12 [(0, .ref (ad (1, 0, 0))), (1, .int v1), (2, .int v2), (3, .int v3)] [] := by
  intro n
  induction n with
  | zero => intro v2 v3 h; rw [m_findsNimbers_L12] at h; cases h
  | succ n ih =>
    intro v2 v3 h
    rw [m_findsNimbers_L12] at h
    refine gz_iload_n (q := 3) hX dX6_findsNimbers_12 rfl rfl ?_
    refine gz_iconst (v := 3) hX dX6_findsNimbers_13 gk_c_3 ?_
    refine gz_icmp_ge (tgt := 64) hX dX6_findsNimbers_14 (by decide) (fun c2 => ?_) (fun c2 => ?_)
    · have h := gz_ifp c2 h
      obtain rfl := gz_in1 h
      exact gz_lv [0, 1, 2] rfl k
    · have h := gz_ifn c2 h
      refine gz_iconst (v := 0) hX dX6_findsNimbers_17 gk_c_0 ?_
      refine gz_istore (lv2 := [(4, .int 0), (0, .ref (ad (1, 0, 0))), (1, .int v1), (2, .int v2), (3, .int v3)]) hX dX6_findsNimbers_18 (by decide) rfl ?_
      obtain ⟨x3, e4, h⟩ := gz_bd_o h
      refine gz_lv [1, 2, 3, 4, 0] rfl (w_m_findsNimbers_L20 hX hZ ?_ N e4)
      refine gz_iinc (q := 3) (lv2 := [(3, .int (v3 + 1)), (0, .ref (ad (1, 0, 0))), (1, .int v1), (2, .int x3)]) hX dX6_findsNimbers_58 rfl gk_c_1 (by decide) rfl ?_
      refine gz_goto (tgt := 12) hX dX6_findsNimbers_61 (by decide) ?_
      exact gz_lv [1, 2, 3, 0] rfl (ih h)
noncomputable def m_findsNimbers_L66 (N : Nat) (V : gz_V) (v1 : Int32) (v2 : Int32) : Nat → Int32 → Option (Int32)
  | 0, _ => none
  | n + 1, v3 => (if (m_has v2 v3) = 0 then some v3 else gz_let (v3 + 1) (fun x5 => m_findsNimbers_L66 N V v1 v2 n x5))
theorem w_m_findsNimbers_L66 {X : gz_X} {ad : gz_A0} (hX : gz_ok X cX6_findsNimbers RX6 "findsNimbers" 5 rm_findsNimbers none) (hZ : gz_Z X) {N : Nat} {V : gz_V} {v1 : Int32} {v2 : Int32} {o3 : Int32} (k : gW X 5 tw_S tw_R ad V 0 0 82 [(0, .ref (ad (1, 0, 0))), (1, .int v1), (3, .int o3)] []) : ∀ (n : Nat) {v3 : Int32}, m_findsNimbers_L66 N V v1 v2 n v3 = some o3 → gW X 5 tw_S tw_R ad V 0 0 66 [(0, .ref (ad (1, 0, 0))), (1, .int v1), (2, .int v2), (3, .int v3)] [] := by
  intro n
  induction n with
  | zero => intro v3 h; rw [m_findsNimbers_L66] at h; cases h
  | succ n ih =>
    intro v3 h
    rw [m_findsNimbers_L66] at h
    refine gz_aload_n (q := 0) hX dX6_findsNimbers_66 rfl rfl ?_
    refine gz_iload_n (q := 2) hX dX6_findsNimbers_67 rfl rfl ?_
    refine gz_iload_n (q := 3) hX dX6_findsNimbers_68 rfl rfl ?_
    refine tc_V (As := [.int v2, .int v3]) hX (c_has rfl) (lw_has_ q1900) rfl rfl nn_has ⟨Nat.le_of_ble_eq_true rfl, Nat.le_of_ble_eq_true rfl⟩ rfl rfl (Nat.le_of_ble_eq_true rfl) dX6_findsNimbers_69 rfl ?_
    refine gz_if_eq (tgt := 82) hX dX6_findsNimbers_72 (by decide) (fun c4 => ?_) (fun c4 => ?_)
    · have h := gz_ifp c4 h
      obtain rfl := gz_in1 h
      exact gz_lv [0, 1, 3] rfl k
    · have h := gz_ifn c4 h
      refine gz_iload_n (q := 3) hX dX6_findsNimbers_75 rfl rfl ?_
      refine gz_iconst (v := 1) hX dX6_findsNimbers_76 gk_c_1 ?_
      refine gz_iadd hX dX6_findsNimbers_77 ?_
      obtain ⟨x5, e6, h⟩ := gz_let_o h
      refine gz_nm e6 ?_
      refine gz_istore_n (lv2 := [(3, .int x5), (0, .ref (ad (1, 0, 0))), (1, .int v1), (2, .int v2)]) hX dX6_findsNimbers_78 rfl (by decide) rfl ?_
      refine gz_goto (tgt := 66) hX dX6_findsNimbers_79 (by decide) ?_
      exact gz_lv [1, 2, 3, 0] rfl (ih h)
noncomputable def m_findsNimbers_L2 (N : Nat) : Nat → gz_V → Int32 → Option (gz_V)
  | 0, _, _ => none
  | n + 1, V, v1 => (if 21 ≤ v1 then some V else gz_bd (m_findsNimbers_L12 N V v1 N 0 1) (fun x2 => gz_bd (m_findsNimbers_L66 N V v1 x2 N 0) (fun x4 => gz_gd (gz_inb v1 21 = true) (gz_let (gz_up V (2, 64, 0) v1.toNatClampNeg x4) (fun V7 => m_findsNimbers_L2 N n V7 (v1 + 1))))))
theorem w_m_findsNimbers_L2 {X : gz_X} {ad : gz_A0} (hX : gz_ok X cX6_findsNimbers RX6 "findsNimbers" 5 rm_findsNimbers none) (hZ : gz_Z X) {N : Nat} {W1 : gz_V} (k : gW X 5 tw_S tw_R ad W1 0 0 95 [] []) : ∀ (n : Nat) {V : gz_V} {v1 : Int32}, m_findsNimbers_L2 N n V v1 = some W1 → gW X 5 tw_S tw_R ad V 0 0 2 [(0, .ref (ad (1, 0, 0))), (1, .int v1)] [] := by
  intro n
  induction n with
  | zero => intro V v1 h; rw [m_findsNimbers_L2] at h; cases h
  | succ n ih =>
    intro V v1 h
    rw [m_findsNimbers_L2] at h
    refine gz_iload_n (q := 1) hX dX6_findsNimbers_2 rfl rfl ?_
    refine gz_bipush (v := 21) hX dX6_findsNimbers_3 gk_b_21 ?_
    refine gz_icmp_ge (tgt := 95) hX dX6_findsNimbers_5 (by decide) (fun c1 => ?_) (fun c1 => ?_)
    · have h := gz_ifp c1 h
      obtain rfl := gz_in1 h
      exact gz_lv [] rfl k
    · have h := gz_ifn c1 h
      refine gz_iconst (v := 0) hX dX6_findsNimbers_8 gk_c_0 ?_
      refine gz_istore_n (lv2 := [(2, .int 0), (0, .ref (ad (1, 0, 0))), (1, .int v1)]) hX dX6_findsNimbers_9 rfl (by decide) rfl ?_
      refine gz_iconst (v := 1) hX dX6_findsNimbers_10 gk_c_1 ?_
      refine gz_istore_n (lv2 := [(3, .int 1), (2, .int 0), (0, .ref (ad (1, 0, 0))), (1, .int v1)]) hX dX6_findsNimbers_11 rfl (by decide) rfl ?_
      obtain ⟨x2, e3, h⟩ := gz_bd_o h
      refine gz_lv [2, 3, 1, 0] rfl (w_m_findsNimbers_L12 hX hZ ?_ N e3)
      refine gz_iconst (v := 0) hX dX6_findsNimbers_64 gk_c_0 ?_
      refine gz_istore_n (lv2 := [(3, .int 0), (0, .ref (ad (1, 0, 0))), (1, .int v1), (2, .int x2)]) hX dX6_findsNimbers_65 rfl (by decide) rfl ?_
      obtain ⟨x4, e5, h⟩ := gz_bd_o h
      refine gz_lv [1, 2, 3, 0] rfl (w_m_findsNimbers_L66 hX hZ ?_ N e5)
      refine gz_aload_n (q := 0) hX dX6_findsNimbers_82 rfl rfl ?_
      refine tg_nimbers hX dX6_findsNimbers_83 ?_
      refine gz_iload_n (q := 1) hX dX6_findsNimbers_86 rfl rfl ?_
      refine gz_iload_n (q := 2) hX dX6_findsNimbers_87 rfl rfl ?_
      obtain ⟨b6, h⟩ := gz_gd_o h
      obtain ⟨V7, e8, h⟩ := gz_let_o h
      refine gz_iast (L := 21) hX tw_S64 (by decide) (gz_inb_o b6) dX6_findsNimbers_88 e8 ?_
      refine gz_iinc (q := 1) (lv2 := [(1, .int (v1 + 1)), (0, .ref (ad (1, 0, 0))), (3, .int x4)]) hX dX6_findsNimbers_89 rfl gk_c_1 (by decide) rfl ?_
      refine gz_goto (tgt := 2) hX dX6_findsNimbers_92 (by decide) ?_
      exact gz_lv [1, 0] rfl (ih h)
noncomputable def m_findsNimbers (N : Nat) (V : gz_V) : Option gz_V := gz_bd (m_findsNimbers_L2 N N V 0) (fun V1 => some V1)
theorem c_findsNimbers {l : Launch} {D : va_G} {aC : Nat → ClassId} {ad : gz_A0} {N : Nat} {V : gz_V} {W1 : gz_V} (h : m_findsNimbers N V = some W1) : gz_Met l yX6_findsNimbers cX6_findsNimbers 5 none rm_findsNimbers D aC ad tw_S V tw_R [.ref (ad (1, 0, 0))] (gz_F1 tw_S tw_R ad W1 none) 0 0 := by
  refine gt_ofW (own := RX6) (mn := "findsNimbers") (lv := [(0, .ref (ad (1, 0, 0)))]) (by decide) rfl rfl (Nat.le_of_ble_eq_true rfl) rfl ?_
  intro X hX hZ hF
  rw [m_findsNimbers] at h
  refine gz_iconst (v := 0) hX dX6_findsNimbers_0 gk_c_0 ?_
  refine gz_istore_n (lv2 := [(1, .int 0), (0, .ref (ad (1, 0, 0)))]) hX dX6_findsNimbers_1 rfl (by decide) rfl ?_
  obtain ⟨V1, e2, h⟩ := gz_bd_o h
  refine gz_lv [1, 0] rfl (w_m_findsNimbers_L2 hX hZ ?_ N e2)
  exact gt_vret hX hZ hF (gz_in1 h) dX6_findsNimbers_95
theorem lw_findsNimbers_ {i : Nat} (hl : Cond.methodLink RX6 i yX6_findsNimbers ∈ lw_all) : GoodIn lw_all (wsV RX6 i RX6 yX6_findsNimbers (ws_ yX6_findsNimbers cX6_findsNimbers 5 none)) := lw_V hl q2182 qs138 q153 q2183
theorem nn_findsNimbers : yX6_findsNimbers.cls = RX6 ∧ yX6_findsNimbers.cls ≠ "java/lang/invoke/MethodHandle" ∧ yX6_findsNimbers.cls ≠ "java/lang/invoke/VarHandle" ∧ (parseMethodDescriptor yX6_findsNimbers.desc).map (fun d => d.parameters.length) = some 0 := by decide +kernel
def rm_greater : Room := { frames := 0, cells := 0, slots := 0, locals := 0 }
noncomputable def m_greater (a1 : Int32) (a2 : Int32) : Int32 := (if a1 ≤ a2 then a2 else a1)
theorem c_greater {l : Launch} {D : va_G} {aC : Nat → ClassId} {ad : gz_A0} {V : gz_V} {a1 : Int32} {a2 : Int32} {r : Int32} (h : m_greater a1 a2 = r) : gz_Met l yX6_greater cX6_greater 3 (some .int) rm_greater D aC ad tw_S V tw_R [.ref (ad (1, 0, 0)), .int a1, .int a2] (gz_F1 tw_S tw_R ad V (some (.int r))) 0 0 := by
  refine gt_ofW (own := RX6) (mn := "greater") (lv := [(0, .ref (ad (1, 0, 0))), (1, .int a1), (2, .int a2)]) (by decide) rfl rfl (Nat.le_of_ble_eq_true rfl) rfl ?_
  intro X hX hZ hF
  rw [m_greater] at h
  refine gz_iload_n (q := 1) hX dX6_greater_0 rfl rfl ?_
  refine gz_iload_n (q := 2) hX dX6_greater_1 rfl rfl ?_
  refine gz_icmp_le (tgt := 9) hX dX6_greater_2 (by decide) (fun c1 => ?_) (fun c1 => ?_)
  · have h := gz_ifp c1 h
    refine gz_iload_n (q := 2) hX dX6_greater_9 rfl rfl ?_
    exact gt_iret hX hZ hF rfl h dX6_greater_10
  · have h := gz_ifn c1 h
    refine gz_iload_n (q := 1) hX dX6_greater_5 rfl rfl ?_
    refine gz_goto (tgt := 10) hX dX6_greater_6 (by decide) ?_
    exact gt_iret hX hZ hF rfl h dX6_greater_10
theorem lw_greater_ {i : Nat} (hl : Cond.methodLink RX6 i yX6_greater ∈ lw_all) : GoodIn lw_all (wsV RX6 i RX6 yX6_greater (ws_ yX6_greater cX6_greater 3 (some .int))) := lw_V hl q2093 qs128 q153 q2094
theorem nn_greater : yX6_greater.cls = RX6 ∧ yX6_greater.cls ≠ "java/lang/invoke/MethodHandle" ∧ yX6_greater.cls ≠ "java/lang/invoke/VarHandle" ∧ (parseMethodDescriptor yX6_greater.desc).map (fun d => d.parameters.length) = some 2 := by decide +kernel
def rm_findsPairs : Room := { frames := 1, cells := 0, slots := 0, locals := 22 }
noncomputable def m_findsPairs_L65 (N : Nat) (V : gz_V) (v1 : Int32) (v3 : Int32) (v4 : Int32) : Nat → Int32 → Int32 → Option (Int32)
  | 0, _, _ => none
  | n + 1, v2, v5 => (if (V (1, 0, 0) 6) ≤ v5 then some v2 else gz_bd (if (m_has v4 v5) = 0 then some v2 else gz_gd (gz_inb v3 24 = true) ((if (m_has (V (2, 39, 0) v3.toNatClampNeg) v5) = 0 then gz_gd (gz_inb (v4 &&& (((1 : Int32) <<< (v5 &&& 31)) ^^^ (-1))) 4096 = true) (gz_let (m_greater v2 (1 + (V (2, 55, 0) (v4 &&& (((1 : Int32) <<< (v5 &&& 31)) ^^^ (-1))).toNatClampNeg))) (fun x18 => some x18)) else some v2))) (fun y11 => m_findsPairs_L65 N V v1 v3 v4 n y11 (v5 + 1)))
theorem w_m_findsPairs_L65 {X : gz_X} {ad : gz_A0} (hX : gz_ok X cX6_findsPairs RX6 "findsPairs" 6 rm_findsPairs none) (hZ : gz_Z X) {N : Nat} {V : gz_V} {v1 : Int32} {v3 : Int32} {v4 : Int32} {o2 : Int32} (k : gW X 6 tw_S tw_R ad V 0 0 128 [(0, .ref (ad (1, 0, 0))), (1, .int v1), (2, .int o2)] []) : ∀ (n : Nat) {v2 : Int32} {v5 : Int32}, m_findsPairs_L65 N V v1 v3 v4 n v2 v5 = some o2 → gW X 6 tw_S tw_R ad V 0 0 65 [(0, .ref (ad (1, 0, 0))), (1, .int v1), (2, .int v2), (3, .int v3), (4, .int v4), (5, .int v5)] [] := by
  intro n
  induction n with
  | zero => intro v2 v5 h; rw [m_findsPairs_L65] at h; cases h
  | succ n ih =>
    intro v2 v5 h
    rw [m_findsPairs_L65] at h
    refine gz_iload (q := 5) hX dX6_findsPairs_65 rfl ?_
    refine gz_aload_n (q := 0) hX dX6_findsPairs_67 rfl rfl ?_
    refine tg_people hX dX6_findsPairs_68 ?_
    refine gz_icmp_ge (tgt := 128) hX dX6_findsPairs_71 (by decide) (fun c10 => ?_) (fun c10 => ?_)
    · have h := gz_ifp c10 h
      obtain rfl := gz_in1 h
      exact gz_lv [0, 1, 2] rfl k
    · have h := gz_ifn c10 h
      refine gz_aload_n (q := 0) hX dX6_findsPairs_74 rfl rfl ?_
      refine gz_iload (q := 4) hX dX6_findsPairs_75 rfl ?_
      refine gz_iload (q := 5) hX dX6_findsPairs_77 rfl ?_
      refine tc_V (As := [.int v4, .int v5]) hX (c_has rfl) (lw_has_ q1900) rfl rfl nn_has ⟨Nat.le_of_ble_eq_true rfl, Nat.le_of_ble_eq_true rfl⟩ rfl rfl (Nat.le_of_ble_eq_true rfl) dX6_findsPairs_79 rfl ?_
      obtain ⟨y11, g12, h⟩ := gz_bd_o h
      have J13 : gW X 6 tw_S tw_R ad V 0 0 122 [(0, .ref (ad (1, 0, 0))), (1, .int v1), (2, .int y11), (3, .int v3), (4, .int v4), (5, .int v5)] [] := by
        refine gz_iinc (q := 5) (lv2 := [(5, .int (v5 + 1)), (0, .ref (ad (1, 0, 0))), (1, .int v1), (2, .int y11), (3, .int v3), (4, .int v4)]) hX dX6_findsPairs_122 rfl gk_c_1 (by decide) rfl ?_
        refine gz_goto (tgt := 65) hX dX6_findsPairs_125 (by decide) ?_
        exact gz_lv [1, 2, 3, 4, 5, 0] rfl (ih h)
      refine gz_if_eq (tgt := 122) hX dX6_findsPairs_82 (by decide) (fun c14 => ?_) (fun c14 => ?_)
      · have g12 := gz_ifp c14 g12
        obtain rfl := gz_in1 g12
        exact gz_lv [0, 1, 2, 3, 4, 5] rfl J13
      · have g12 := gz_ifn c14 g12
        refine gz_aload_n (q := 0) hX dX6_findsPairs_85 rfl rfl ?_
        refine gz_aload_n (q := 0) hX dX6_findsPairs_86 rfl rfl ?_
        refine tg_kinOf hX dX6_findsPairs_87 ?_
        refine gz_iload_n (q := 3) hX dX6_findsPairs_90 rfl rfl ?_
        obtain ⟨b15, g12⟩ := gz_gd_o g12
        refine gz_iald (L := 24) hX tw_S39 (gz_inb_o b15) dX6_findsPairs_91 ?_
        refine gz_iload (q := 5) hX dX6_findsPairs_92 rfl ?_
        refine tc_V (As := [.int (V (2, 39, 0) v3.toNatClampNeg), .int v5]) hX (c_has rfl) (lw_has_ q1900) rfl rfl nn_has ⟨Nat.le_of_ble_eq_true rfl, Nat.le_of_ble_eq_true rfl⟩ rfl rfl (Nat.le_of_ble_eq_true rfl) dX6_findsPairs_94 rfl ?_
        refine gz_if_ne (tgt := 122) hX dX6_findsPairs_97 (by decide) (fun c16 => ?_) (fun c16 => ?_)
        · have g12 := gz_ifn c16 g12
          obtain rfl := gz_in1 g12
          exact gz_lv [0, 1, 2, 3, 4, 5] rfl J13
        · have g12 := gz_ifp c16 g12
          refine gz_aload_n (q := 0) hX dX6_findsPairs_100 rfl rfl ?_
          refine gz_iload_n (q := 2) hX dX6_findsPairs_101 rfl rfl ?_
          refine gz_iconst (v := 1) hX dX6_findsPairs_102 gk_c_1 ?_
          refine gz_aload_n (q := 0) hX dX6_findsPairs_103 rfl rfl ?_
          refine tg_mostPairs hX dX6_findsPairs_104 ?_
          refine gz_iload (q := 4) hX dX6_findsPairs_107 rfl ?_
          refine gz_iconst (v := 1) hX dX6_findsPairs_109 gk_c_1 ?_
          refine gz_iload (q := 5) hX dX6_findsPairs_110 rfl ?_
          refine gz_ishl hX dX6_findsPairs_112 ?_
          refine gz_iconst (v := (-1)) hX dX6_findsPairs_113 gk_c_m1 ?_
          refine gz_ixor hX dX6_findsPairs_114 ?_
          refine gz_iand hX dX6_findsPairs_115 ?_
          obtain ⟨b17, g12⟩ := gz_gd_o g12
          refine gz_iald (L := 4096) hX tw_S55 (gz_inb_o b17) dX6_findsPairs_116 ?_
          refine gz_iadd hX dX6_findsPairs_117 ?_
          refine tc_V (As := [.int v2, .int (1 + (V (2, 55, 0) (v4 &&& (((1 : Int32) <<< (v5 &&& 31)) ^^^ (-1))).toNatClampNeg))]) hX (c_greater rfl) (lw_greater_ q2091) rfl rfl nn_greater ⟨Nat.le_of_ble_eq_true rfl, Nat.le_of_ble_eq_true rfl⟩ rfl rfl (Nat.le_of_ble_eq_true rfl) dX6_findsPairs_118 rfl ?_
          obtain ⟨x18, e19, g12⟩ := gz_let_o g12
          refine gz_nm e19 ?_
          refine gz_istore_n (lv2 := [(2, .int x18), (0, .ref (ad (1, 0, 0))), (1, .int v1), (3, .int v3), (4, .int v4), (5, .int v5)]) hX dX6_findsPairs_121 rfl (by decide) rfl ?_
          obtain rfl := gz_in1 g12
          exact gz_lv [1, 2, 0, 3, 4, 5] rfl J13
noncomputable def m_findsPairs_L16 (N : Nat) (V : gz_V) (v1 : Int32) : Nat → Int32 → Int32 → Option (Int32)
  | 0, _, _ => none
  | n + 1, v2, v3 => (if (V (1, 0, 0) 6) ≤ v3 then some v2 else (if v1 ≤ 0 then some v2 else (if (m_has v1 v3) = 0 then m_findsPairs_L16 N V v1 n v2 (v3 + 1) else gz_let (v1 &&& (((1 : Int32) <<< (v3 &&& 31)) ^^^ (-1))) (fun x5 => gz_gd (gz_inb x5 4096 = true) (gz_let (m_greater v2 (V (2, 55, 0) x5.toNatClampNeg)) (fun x8 => gz_bd (m_findsPairs_L65 N V v1 v3 x5 N x8 0) (fun x10 => some x10)))))))
theorem w_m_findsPairs_L16 {X : gz_X} {ad : gz_A0} (hX : gz_ok X cX6_findsPairs RX6 "findsPairs" 6 rm_findsPairs none) (hZ : gz_Z X) {N : Nat} {V : gz_V} {v1 : Int32} {o2 : Int32} (k : gW X 6 tw_S tw_R ad V 0 0 137 [(0, .ref (ad (1, 0, 0))), (1, .int v1), (2, .int o2)] []) : ∀ (n : Nat) {v2 : Int32} {v3 : Int32}, m_findsPairs_L16 N V v1 n v2 v3 = some o2 → gW X 6 tw_S tw_R ad V 0 0 16 [(0, .ref (ad (1, 0, 0))), (1, .int v1), (2, .int v2), (3, .int v3)] [] := by
  intro n
  induction n with
  | zero => intro v2 v3 h; rw [m_findsPairs_L16] at h; cases h
  | succ n ih =>
    intro v2 v3 h
    rw [m_findsPairs_L16] at h
    refine gz_iload_n (q := 3) hX dX6_findsPairs_16 rfl rfl ?_
    refine gz_aload_n (q := 0) hX dX6_findsPairs_17 rfl rfl ?_
    refine tg_people hX dX6_findsPairs_18 ?_
    refine gz_icmp_ge (tgt := 137) hX dX6_findsPairs_21 (by decide) (fun c2 => ?_) (fun c2 => ?_)
    · have h := gz_ifp c2 h
      obtain rfl := gz_in1 h
      exact gz_lv [0, 1, 2] rfl k
    · have h := gz_ifn c2 h
      refine gz_iload_n (q := 1) hX dX6_findsPairs_24 rfl rfl ?_
      refine gz_if_le (tgt := 137) hX dX6_findsPairs_25 (by decide) (fun c3 => ?_) (fun c3 => ?_)
      · have h := gz_ifp c3 h
        obtain rfl := gz_in1 h
        exact gz_lv [0, 1, 2] rfl k
      · have h := gz_ifn c3 h
        refine gz_aload_n (q := 0) hX dX6_findsPairs_28 rfl rfl ?_
        refine gz_iload_n (q := 1) hX dX6_findsPairs_29 rfl rfl ?_
        refine gz_iload_n (q := 3) hX dX6_findsPairs_30 rfl rfl ?_
        refine tc_V (As := [.int v1, .int v3]) hX (c_has rfl) (lw_has_ q1900) rfl rfl nn_has ⟨Nat.le_of_ble_eq_true rfl, Nat.le_of_ble_eq_true rfl⟩ rfl rfl (Nat.le_of_ble_eq_true rfl) dX6_findsPairs_31 rfl ?_
        refine gz_if_ne (tgt := 40) hX dX6_findsPairs_34 (by decide) (fun c4 => ?_) (fun c4 => ?_)
        · have h := gz_ifn c4 h
          refine gz_iload_n (q := 1) hX dX6_findsPairs_40 rfl rfl ?_
          refine gz_iconst (v := 1) hX dX6_findsPairs_41 gk_c_1 ?_
          refine gz_iload_n (q := 3) hX dX6_findsPairs_42 rfl rfl ?_
          refine gz_ishl hX dX6_findsPairs_43 ?_
          refine gz_iconst (v := (-1)) hX dX6_findsPairs_44 gk_c_m1 ?_
          refine gz_ixor hX dX6_findsPairs_45 ?_
          refine gz_iand hX dX6_findsPairs_46 ?_
          obtain ⟨x5, e6, h⟩ := gz_let_o h
          refine gz_nm e6 ?_
          refine gz_istore (lv2 := [(4, .int x5), (0, .ref (ad (1, 0, 0))), (1, .int v1), (2, .int v2), (3, .int v3)]) hX dX6_findsPairs_47 (by decide) rfl ?_
          refine gz_aload_n (q := 1) hX dX6_findsPairs_49 rfl rfl ?_
          refine gz_iload_n (q := 3) hX dX6_findsPairs_50 rfl rfl ?_
          refine gz_aload_n (q := 1) hX dX6_findsPairs_51 rfl rfl ?_
          refine tg_mostPairs hX dX6_findsPairs_52 ?_
          refine gz_iload (q := 0) hX dX6_findsPairs_55 rfl ?_
          obtain ⟨b7, h⟩ := gz_gd_o h
          refine gz_iald (L := 4096) hX tw_S55 (gz_inb_o b7) dX6_findsPairs_57 ?_
          refine tc_V (As := [.int v2, .int (V (2, 55, 0) x5.toNatClampNeg)]) hX (c_greater rfl) (lw_greater_ q2091) rfl rfl nn_greater ⟨Nat.le_of_ble_eq_true rfl, Nat.le_of_ble_eq_true rfl⟩ rfl rfl (Nat.le_of_ble_eq_true rfl) dX6_findsPairs_58 rfl ?_
          obtain ⟨x8, e9, h⟩ := gz_let_o h
          refine gz_nm e9 ?_
          refine gz_istore_n (lv2 := [(2, .int x8), (4, .int x5), (0, .ref (ad (1, 0, 0))), (1, .int v1), (3, .int v3)]) hX dX6_findsPairs_61 rfl (by decide) rfl ?_
          refine gz_iconst (v := 0) hX dX6_findsPairs_62 gk_c_0 ?_
          refine gz_istore (lv2 := [(5, .int 0), (2, .int x8), (4, .int x5), (0, .ref (ad (1, 0, 0))), (1, .int v1), (3, .int v3)]) hX dX6_findsPairs_63 (by decide) rfl ?_
          obtain ⟨x10, e11, h⟩ := gz_bd_o h
          refine gz_lv [3, 4, 1, 5, 2, 0] rfl (w_m_findsPairs_L65 hX hZ ?_ N e11)
          refine gz_goto (tgt := 137) hX dX6_findsPairs_128 (by decide) ?_
          obtain rfl := gz_in1 h
          exact gz_lv [0, 1, 2] rfl k
        · have h := gz_ifp c4 h
          refine gz_goto (tgt := 131) hX dX6_findsPairs_37 (by decide) ?_
          refine gz_iinc (q := 3) (lv2 := [(3, .int (v3 + 1)), (0, .ref (ad (1, 0, 0))), (1, .int v1), (2, .int v2)]) hX dX6_findsPairs_131 rfl gk_c_1 (by decide) rfl ?_
          refine gz_goto (tgt := 16) hX dX6_findsPairs_134 (by decide) ?_
          exact gz_lv [1, 2, 3, 0] rfl (ih h)
noncomputable def m_findsPairs_L2 (N : Nat) : Nat → gz_V → Int32 → Option (gz_V)
  | 0, _, _ => none
  | n + 1, V, v1 => (if ((1 : Int32) <<< ((V (1, 0, 0) 6) &&& 31)) ≤ v1 then some V else gz_bd (m_findsPairs_L16 N V v1 N 0 0) (fun x2 => gz_gd (gz_inb v1 4096 = true) (gz_let (gz_up V (2, 55, 0) v1.toNatClampNeg x2) (fun V5 => m_findsPairs_L2 N n V5 (v1 + 1)))))
theorem w_m_findsPairs_L2 {X : gz_X} {ad : gz_A0} (hX : gz_ok X cX6_findsPairs RX6 "findsPairs" 6 rm_findsPairs none) (hZ : gz_Z X) {N : Nat} {W1 : gz_V} (k : gW X 6 tw_S tw_R ad W1 0 0 150 [] []) : ∀ (n : Nat) {V : gz_V} {v1 : Int32}, m_findsPairs_L2 N n V v1 = some W1 → gW X 6 tw_S tw_R ad V 0 0 2 [(0, .ref (ad (1, 0, 0))), (1, .int v1)] [] := by
  intro n
  induction n with
  | zero => intro V v1 h; rw [m_findsPairs_L2] at h; cases h
  | succ n ih =>
    intro V v1 h
    rw [m_findsPairs_L2] at h
    refine gz_iload_n (q := 1) hX dX6_findsPairs_2 rfl rfl ?_
    refine gz_iconst (v := 1) hX dX6_findsPairs_3 gk_c_1 ?_
    refine gz_aload_n (q := 0) hX dX6_findsPairs_4 rfl rfl ?_
    refine tg_people hX dX6_findsPairs_5 ?_
    refine gz_ishl hX dX6_findsPairs_8 ?_
    refine gz_icmp_ge (tgt := 150) hX dX6_findsPairs_9 (by decide) (fun c1 => ?_) (fun c1 => ?_)
    · have h := gz_ifp c1 h
      obtain rfl := gz_in1 h
      exact gz_lv [] rfl k
    · have h := gz_ifn c1 h
      refine gz_iconst (v := 0) hX dX6_findsPairs_12 gk_c_0 ?_
      refine gz_istore_n (lv2 := [(2, .int 0), (0, .ref (ad (1, 0, 0))), (1, .int v1)]) hX dX6_findsPairs_13 rfl (by decide) rfl ?_
      refine gz_iconst (v := 0) hX dX6_findsPairs_14 gk_c_0 ?_
      refine gz_istore_n (lv2 := [(3, .int 0), (2, .int 0), (0, .ref (ad (1, 0, 0))), (1, .int v1)]) hX dX6_findsPairs_15 rfl (by decide) rfl ?_
      obtain ⟨x2, e3, h⟩ := gz_bd_o h
      refine gz_lv [2, 3, 1, 0] rfl (w_m_findsPairs_L16 hX hZ ?_ N e3)
      refine gz_aload_n (q := 0) hX dX6_findsPairs_137 rfl rfl ?_
      refine tg_mostPairs hX dX6_findsPairs_138 ?_
      refine gz_iload_n (q := 1) hX dX6_findsPairs_141 rfl rfl ?_
      refine gz_iload_n (q := 2) hX dX6_findsPairs_142 rfl rfl ?_
      obtain ⟨b4, h⟩ := gz_gd_o h
      obtain ⟨V5, e6, h⟩ := gz_let_o h
      refine gz_iast (L := 4096) hX tw_S55 (by decide) (gz_inb_o b4) dX6_findsPairs_143 e6 ?_
      refine gz_iinc (q := 1) (lv2 := [(1, .int (v1 + 1)), (0, .ref (ad (1, 0, 0))), (2, .int x2)]) hX dX6_findsPairs_144 rfl gk_c_1 (by decide) rfl ?_
      refine gz_goto (tgt := 2) hX dX6_findsPairs_147 (by decide) ?_
      exact gz_lv [1, 0] rfl (ih h)
noncomputable def m_findsPairs (N : Nat) (V : gz_V) : Option gz_V := gz_bd (m_findsPairs_L2 N N V 0) (fun V1 => some V1)
theorem c_findsPairs {l : Launch} {D : va_G} {aC : Nat → ClassId} {ad : gz_A0} {N : Nat} {V : gz_V} {W1 : gz_V} (h : m_findsPairs N V = some W1) : gz_Met l yX6_findsPairs cX6_findsPairs 6 none rm_findsPairs D aC ad tw_S V tw_R [.ref (ad (1, 0, 0))] (gz_F1 tw_S tw_R ad W1 none) 0 0 := by
  refine gt_ofW (own := RX6) (mn := "findsPairs") (lv := [(0, .ref (ad (1, 0, 0)))]) (by decide) rfl rfl (Nat.le_of_ble_eq_true rfl) rfl ?_
  intro X hX hZ hF
  rw [m_findsPairs] at h
  refine gz_iconst (v := 0) hX dX6_findsPairs_0 gk_c_0 ?_
  refine gz_istore_n (lv2 := [(1, .int 0), (0, .ref (ad (1, 0, 0)))]) hX dX6_findsPairs_1 rfl (by decide) rfl ?_
  obtain ⟨V1, e2, h⟩ := gz_bd_o h
  refine gz_lv [1, 0] rfl (w_m_findsPairs_L2 hX hZ ?_ N e2)
  exact gt_vret hX hZ hF (gz_in1 h) dX6_findsPairs_150
theorem lw_findsPairs_ {i : Nat} (hl : Cond.methodLink RX6 i yX6_findsPairs ∈ lw_all) : GoodIn lw_all (wsV RX6 i RX6 yX6_findsPairs (ws_ yX6_findsPairs cX6_findsPairs 6 none)) := lw_V hl q2089 qs127 q153 q2090
theorem nn_findsPairs : yX6_findsPairs.cls = RX6 ∧ yX6_findsPairs.cls ≠ "java/lang/invoke/MethodHandle" ∧ yX6_findsPairs.cls ≠ "java/lang/invoke/VarHandle" ∧ (parseMethodDescriptor yX6_findsPairs.desc).map (fun d => d.parameters.length) = some 0 := by decide +kernel
def rm_game : Room := { frames := 2, cells := 0, slots := 0, locals := 46 }
noncomputable def m_game_L25 (N : Nat) (V : gz_V) (v1 : Int32) : Nat → Int32 → Int32 → Option (Int32)
  | 0, _, _ => none
  | n + 1, v2, v3 => (if (V (1, 0, 0) 62) ≤ v3 then some v2 else gz_gd (gz_inb v3 6 = true) (gz_gd (gz_inb (V (2, 63, 0) v3.toNatClampNeg) 21 = true) (gz_let (v2 ^^^ (V (2, 64, 0) (V (2, 63, 0) v3.toNatClampNeg).toNatClampNeg)) (fun x9 => m_game_L25 N V v1 n x9 (v3 + 1)))))
theorem w_m_game_L25 {X : gz_X} {ad : gz_A0} (hX : gz_ok X cX6_game RX6 "game" 8 rm_game (some .int)) (hZ : gz_Z X) {N : Nat} {V : gz_V} {v1 : Int32} {o2 : Int32} (k : gW X 8 tw_S tw_R ad V 0 0 53 [(0, .ref (ad (1, 0, 0))), (1, .int v1), (2, .int o2)] []) : ∀ (n : Nat) {v2 : Int32} {v3 : Int32}, m_game_L25 N V v1 n v2 v3 = some o2 → gW X 8 tw_S tw_R ad V 0 0 25 [(0, .ref (ad (1, 0, 0))), (1, .int v1), (2, .int v2), (3, .int v3)] [] := by
  intro n
  induction n with
  | zero => intro v2 v3 h; rw [m_game_L25] at h; cases h
  | succ n ih =>
    intro v2 v3 h
    rw [m_game_L25] at h
    refine gz_iload_n (q := 3) hX dX6_game_25 rfl rfl ?_
    refine gz_aload_n (q := 0) hX dX6_game_26 rfl rfl ?_
    refine tg_rowMany hX dX6_game_27 ?_
    refine gz_icmp_ge (tgt := 53) hX dX6_game_30 (by decide) (fun c6 => ?_) (fun c6 => ?_)
    · have h := gz_ifp c6 h
      obtain rfl := gz_in1 h
      exact gz_lv [0, 1, 2] rfl k
    · have h := gz_ifn c6 h
      refine gz_iload_n (q := 2) hX dX6_game_33 rfl rfl ?_
      refine gz_aload_n (q := 0) hX dX6_game_34 rfl rfl ?_
      refine tg_nimbers hX dX6_game_35 ?_
      refine gz_aload_n (q := 0) hX dX6_game_38 rfl rfl ?_
      refine tg_handRows hX dX6_game_39 ?_
      refine gz_iload_n (q := 3) hX dX6_game_42 rfl rfl ?_
      obtain ⟨b7, h⟩ := gz_gd_o h
      refine gz_iald (L := 6) hX tw_S63 (gz_inb_o b7) dX6_game_43 ?_
      obtain ⟨b8, h⟩ := gz_gd_o h
      refine gz_iald (L := 21) hX tw_S64 (gz_inb_o b8) dX6_game_44 ?_
      refine gz_ixor hX dX6_game_45 ?_
      obtain ⟨x9, e10, h⟩ := gz_let_o h
      refine gz_nm e10 ?_
      refine gz_istore_n (lv2 := [(2, .int x9), (0, .ref (ad (1, 0, 0))), (1, .int v1), (3, .int v3)]) hX dX6_game_46 rfl (by decide) rfl ?_
      refine gz_iinc (q := 3) (lv2 := [(3, .int (v3 + 1)), (2, .int x9), (0, .ref (ad (1, 0, 0))), (1, .int v1)]) hX dX6_game_47 rfl gk_c_1 (by decide) rfl ?_
      refine gz_goto (tgt := 25) hX dX6_game_50 (by decide) ?_
      exact gz_lv [2, 3, 1, 0] rfl (ih h)
noncomputable def m_game_L95 (N : Nat) (V : gz_V) (v1 : Int32) (v2 : Int32) (v3 : Int32) (v4 : Int32) (v5 : Int32) (v6 : Int32) : Nat → Int32 → Option ((gz_V × Int32) ⊕ (Unit))
  | 0, _ => none
  | n + 1, v7 => (if 3 ≤ v7 then some (.inr ()) else (if v4 < (v6 + v7) then some (.inr ()) else gz_gd (gz_inb v6 21 = true) (gz_gd (gz_inb ((v4 - v6) - v7) 21 = true) ((if ((V (2, 64, 0) v6.toNatClampNeg) ^^^ (V (2, 64, 0) ((v4 - v6) - v7).toNatClampNeg)) = v5 then (if v1 = 0 then some (.inl (V, v3)) else (if v1 = 1 then some (.inl (V, v6)) else some (.inl (V, v7)))) else m_game_L95 N V v1 v2 v3 v4 v5 v6 n (v7 + 1))))))
theorem w_m_game_L95 {X : gz_X} {ad : gz_A0} (hX : gz_ok X cX6_game RX6 "game" 8 rm_game (some .int)) (hZ : gz_Z X) {N : Nat} {V : gz_V} {v1 : Int32} {v2 : Int32} {v3 : Int32} {v4 : Int32} {v5 : Int32} {v6 : Int32} {out : (gz_V × Int32) ⊕ (Unit)} (hout : (∃ (W2 : gz_V) (r : Int32), out = .inl (W2, r) ∧ gx_F X tw_S W2 tw_R ad (some (.int r))) ∨ (out = .inr () ∧ gW X 8 tw_S tw_R ad V 0 0 164 [(0, .ref (ad (1, 0, 0))), (1, .int v1), (2, .int v2), (3, .int v3), (4, .int v4), (5, .int v5), (6, .int v6)] [])) : ∀ (n : Nat) {v7 : Int32}, m_game_L95 N V v1 v2 v3 v4 v5 v6 n v7 = some out → gW X 8 tw_S tw_R ad V 0 0 95 [(0, .ref (ad (1, 0, 0))), (1, .int v1), (2, .int v2), (3, .int v3), (4, .int v4), (5, .int v5), (6, .int v6), (7, .int v7)] [] := by
  intro n
  induction n with
  | zero => intro v7 h; rw [m_game_L95] at h; cases h
  | succ n ih =>
    intro v7 h
    rw [m_game_L95] at h
    refine gz_iload (q := 7) hX dX6_game_95 rfl ?_
    refine gz_iconst (v := 3) hX dX6_game_97 gk_c_3 ?_
    refine gz_icmp_ge (tgt := 164) hX dX6_game_98 (by decide) (fun c16 => ?_) (fun c16 => ?_)
    · have h := gz_ifp c16 h
      obtain rfl := gz_in1 h
      obtain ⟨_, _, e0, _⟩ | ⟨e0, k⟩ := hout
      · cases e0
      · cases e0
        exact gz_lv [0, 1, 2, 3, 4, 5, 6] rfl k
    · have h := gz_ifn c16 h
      refine gz_iload (q := 6) hX dX6_game_101 rfl ?_
      refine gz_iload (q := 7) hX dX6_game_103 rfl ?_
      refine gz_iadd hX dX6_game_105 ?_
      refine gz_iload (q := 4) hX dX6_game_106 rfl ?_
      refine gz_icmp_gt (tgt := 164) hX dX6_game_108 (by decide) (fun c17 => ?_) (fun c17 => ?_)
      · have h := gz_ifp c17 h
        obtain rfl := gz_in1 h
        obtain ⟨_, _, e0, _⟩ | ⟨e0, k⟩ := hout
        · cases e0
        · cases e0
          exact gz_lv [0, 1, 2, 3, 4, 5, 6] rfl k
      · have h := gz_ifn c17 h
        refine gz_aload_n (q := 0) hX dX6_game_111 rfl rfl ?_
        refine tg_nimbers hX dX6_game_112 ?_
        refine gz_iload (q := 6) hX dX6_game_115 rfl ?_
        obtain ⟨b18, h⟩ := gz_gd_o h
        refine gz_iald (L := 21) hX tw_S64 (gz_inb_o b18) dX6_game_117 ?_
        refine gz_aload_n (q := 0) hX dX6_game_118 rfl rfl ?_
        refine tg_nimbers hX dX6_game_119 ?_
        refine gz_iload (q := 4) hX dX6_game_122 rfl ?_
        refine gz_iload (q := 6) hX dX6_game_124 rfl ?_
        refine gz_isub hX dX6_game_126 ?_
        refine gz_iload (q := 7) hX dX6_game_127 rfl ?_
        refine gz_isub hX dX6_game_129 ?_
        obtain ⟨b19, h⟩ := gz_gd_o h
        refine gz_iald (L := 21) hX tw_S64 (gz_inb_o b19) dX6_game_130 ?_
        refine gz_ixor hX dX6_game_131 ?_
        refine gz_iload (q := 5) hX dX6_game_132 rfl ?_
        refine gz_icmp_ne (tgt := 158) hX dX6_game_134 (by decide) (fun c20 => ?_) (fun c20 => ?_)
        · have h := gz_ifn c20 h
          refine gz_iinc (q := 7) (lv2 := [(7, .int (v7 + 1)), (0, .ref (ad (1, 0, 0))), (1, .int v1), (2, .int v2), (3, .int v3), (4, .int v4), (5, .int v5), (6, .int v6)]) hX dX6_game_158 rfl gk_c_1 (by decide) rfl ?_
          refine gz_goto (tgt := 95) hX dX6_game_161 (by decide) ?_
          exact gz_lv [1, 2, 3, 4, 5, 6, 7, 0] rfl (ih h)
        · have h := gz_ifp c20 h
          refine gz_iload_n (q := 1) hX dX6_game_137 rfl rfl ?_
          refine gz_if_ne (tgt := 145) hX dX6_game_138 (by decide) (fun c21 => ?_) (fun c21 => ?_)
          · have h := gz_ifn c21 h
            refine gz_iload_n (q := 1) hX dX6_game_145 rfl rfl ?_
            refine gz_iconst (v := 1) hX dX6_game_146 gk_c_1 ?_
            refine gz_icmp_ne (tgt := 155) hX dX6_game_147 (by decide) (fun c22 => ?_) (fun c22 => ?_)
            · have h := gz_ifn c22 h
              refine gz_iload (q := 7) hX dX6_game_155 rfl ?_
              obtain rfl := gz_in1 h
              obtain ⟨_, _, e0, hF⟩ | ⟨e0, _⟩ := hout
              · cases e0
                exact gt_iret hX hZ hF rfl rfl dX6_game_157
              · cases e0
            · have h := gz_ifp c22 h
              refine gz_iload (q := 6) hX dX6_game_150 rfl ?_
              refine gz_goto (tgt := 157) hX dX6_game_152 (by decide) ?_
              obtain rfl := gz_in1 h
              obtain ⟨_, _, e0, hF⟩ | ⟨e0, _⟩ := hout
              · cases e0
                exact gt_iret hX hZ hF rfl rfl dX6_game_157
              · cases e0
          · have h := gz_ifp c21 h
            refine gz_iload_n (q := 3) hX dX6_game_141 rfl rfl ?_
            refine gz_goto (tgt := 157) hX dX6_game_142 (by decide) ?_
            obtain rfl := gz_in1 h
            obtain ⟨_, _, e0, hF⟩ | ⟨e0, _⟩ := hout
            · cases e0
              exact gt_iret hX hZ hF rfl rfl dX6_game_157
            · cases e0
noncomputable def m_game_L85 (N : Nat) (V : gz_V) (v1 : Int32) (v2 : Int32) (v3 : Int32) (v4 : Int32) (v5 : Int32) : Nat → Int32 → Option ((gz_V × Int32) ⊕ (Unit))
  | 0, _ => none
  | n + 1, v6 => (if v4 ≤ v6 then some (.inr ()) else gz_lp (m_game_L95 N V v1 v2 v3 v4 v5 v6 N 1) (fun p => some (.inl p)) (fun _ => m_game_L85 N V v1 v2 v3 v4 v5 n (v6 + 1)))
theorem w_m_game_L85 {X : gz_X} {ad : gz_A0} (hX : gz_ok X cX6_game RX6 "game" 8 rm_game (some .int)) (hZ : gz_Z X) {N : Nat} {V : gz_V} {v1 : Int32} {v2 : Int32} {v3 : Int32} {v4 : Int32} {v5 : Int32} {out : (gz_V × Int32) ⊕ (Unit)} (hout : (∃ (W2 : gz_V) (r : Int32), out = .inl (W2, r) ∧ gx_F X tw_S W2 tw_R ad (some (.int r))) ∨ (out = .inr () ∧ gW X 8 tw_S tw_R ad V 0 0 170 [(0, .ref (ad (1, 0, 0))), (1, .int v1), (2, .int v2), (3, .int v3)] [])) : ∀ (n : Nat) {v6 : Int32}, m_game_L85 N V v1 v2 v3 v4 v5 n v6 = some out → gW X 8 tw_S tw_R ad V 0 0 85 [(0, .ref (ad (1, 0, 0))), (1, .int v1), (2, .int v2), (3, .int v3), (4, .int v4), (5, .int v5), (6, .int v6)] [] := by
  intro n
  induction n with
  | zero => intro v6 h; rw [m_game_L85] at h; cases h
  | succ n ih =>
    intro v6 h
    rw [m_game_L85] at h
    refine gz_iload (q := 6) hX dX6_game_85 rfl ?_
    refine gz_iload (q := 4) hX dX6_game_87 rfl ?_
    refine gz_icmp_ge (tgt := 170) hX dX6_game_89 (by decide) (fun c15 => ?_) (fun c15 => ?_)
    · have h := gz_ifp c15 h
      obtain rfl := gz_in1 h
      obtain ⟨_, _, e0, _⟩ | ⟨e0, k⟩ := hout
      · cases e0
      · cases e0
        exact gz_lv [0, 1, 2, 3] rfl k
    · have h := gz_ifn c15 h
      refine gz_iconst (v := 1) hX dX6_game_92 gk_c_1 ?_
      refine gz_istore (lv2 := [(7, .int 1), (0, .ref (ad (1, 0, 0))), (1, .int v1), (2, .int v2), (3, .int v3), (4, .int v4), (5, .int v5), (6, .int v6)]) hX dX6_game_93 (by decide) rfl ?_
      rcases gz_lp_o h with ⟨p17, e16, h⟩ | ⟨_, e16, h⟩
      · obtain rfl := gz_in1 h
        obtain ⟨_, _, e0, hF⟩ | ⟨e0, _⟩ := hout
        · cases e0
          exact gz_lv [1, 2, 3, 4, 5, 6, 7, 0] rfl (w_m_game_L95 hX hZ (Or.inl ⟨_, _, rfl, hF⟩) N e16)
        · cases e0
      · refine gz_lv [1, 2, 3, 4, 5, 6, 7, 0] rfl (w_m_game_L95 hX hZ (Or.inr ⟨rfl, ?_⟩) N e16)
        refine gz_iinc (q := 6) (lv2 := [(6, .int (v6 + 1)), (0, .ref (ad (1, 0, 0))), (1, .int v1), (2, .int v2), (3, .int v3), (4, .int v4), (5, .int v5)]) hX dX6_game_164 rfl gk_c_1 (by decide) rfl ?_
        refine gz_goto (tgt := 85) hX dX6_game_167 (by decide) ?_
        exact gz_lv [1, 2, 3, 4, 5, 6, 0] rfl (ih h)
noncomputable def m_game_L55 (N : Nat) (V : gz_V) (v1 : Int32) (v2 : Int32) : Nat → Int32 → Option ((gz_V × Int32) ⊕ (Unit))
  | 0, _ => none
  | n + 1, v3 => (if (V (1, 0, 0) 62) ≤ v3 then some (.inr ()) else gz_gd (gz_inb v3 6 = true) (gz_let (V (2, 63, 0) v3.toNatClampNeg) (fun x10 => gz_gd (gz_inb x10 21 = true) (gz_let (v2 ^^^ (V (2, 64, 0) x10.toNatClampNeg)) (fun x13 => gz_lp (m_game_L85 N V v1 v2 v3 x10 x13 N 0) (fun p => some (.inl p)) (fun _ => m_game_L55 N V v1 v2 n (v3 + 1)))))))
theorem w_m_game_L55 {X : gz_X} {ad : gz_A0} (hX : gz_ok X cX6_game RX6 "game" 8 rm_game (some .int)) (hZ : gz_Z X) {N : Nat} {V : gz_V} {v1 : Int32} {v2 : Int32} {out : (gz_V × Int32) ⊕ (Unit)} (hout : (∃ (W2 : gz_V) (r : Int32), out = .inl (W2, r) ∧ gx_F X tw_S W2 tw_R ad (some (.int r))) ∨ (out = .inr () ∧ gW X 8 tw_S tw_R ad V 0 0 176 [] [])) : ∀ (n : Nat) {v3 : Int32}, m_game_L55 N V v1 v2 n v3 = some out → gW X 8 tw_S tw_R ad V 0 0 55 [(0, .ref (ad (1, 0, 0))), (1, .int v1), (2, .int v2), (3, .int v3)] [] := by
  intro n
  induction n with
  | zero => intro v3 h; rw [m_game_L55] at h; cases h
  | succ n ih =>
    intro v3 h
    rw [m_game_L55] at h
    refine gz_iload_n (q := 3) hX dX6_game_55 rfl rfl ?_
    refine gz_aload_n (q := 0) hX dX6_game_56 rfl rfl ?_
    refine tg_rowMany hX dX6_game_57 ?_
    refine gz_icmp_ge (tgt := 176) hX dX6_game_60 (by decide) (fun c8 => ?_) (fun c8 => ?_)
    · have h := gz_ifp c8 h
      obtain rfl := gz_in1 h
      obtain ⟨_, _, e0, _⟩ | ⟨e0, k⟩ := hout
      · cases e0
      · cases e0
        exact gz_lv [] rfl k
    · have h := gz_ifn c8 h
      refine gz_aload_n (q := 0) hX dX6_game_63 rfl rfl ?_
      refine tg_handRows hX dX6_game_64 ?_
      refine gz_iload_n (q := 3) hX dX6_game_67 rfl rfl ?_
      obtain ⟨b9, h⟩ := gz_gd_o h
      refine gz_iald (L := 6) hX tw_S63 (gz_inb_o b9) dX6_game_68 ?_
      obtain ⟨x10, e11, h⟩ := gz_let_o h
      refine gz_nm e11 ?_
      refine gz_istore (lv2 := [(4, .int x10), (0, .ref (ad (1, 0, 0))), (1, .int v1), (2, .int v2), (3, .int v3)]) hX dX6_game_69 (by decide) rfl ?_
      refine gz_iload_n (q := 3) hX dX6_game_71 rfl rfl ?_
      refine gz_aload_n (q := 1) hX dX6_game_72 rfl rfl ?_
      refine tg_nimbers hX dX6_game_73 ?_
      refine gz_iload (q := 0) hX dX6_game_76 rfl ?_
      obtain ⟨b12, h⟩ := gz_gd_o h
      refine gz_iald (L := 21) hX tw_S64 (gz_inb_o b12) dX6_game_78 ?_
      refine gz_ixor hX dX6_game_79 ?_
      obtain ⟨x13, e14, h⟩ := gz_let_o h
      refine gz_nm e14 ?_
      refine gz_istore (lv2 := [(5, .int x13), (4, .int x10), (0, .ref (ad (1, 0, 0))), (1, .int v1), (2, .int v2), (3, .int v3)]) hX dX6_game_80 (by decide) rfl ?_
      refine gz_iconst (v := 0) hX dX6_game_82 gk_c_0 ?_
      refine gz_istore (lv2 := [(6, .int 0), (5, .int x13), (4, .int x10), (0, .ref (ad (1, 0, 0))), (1, .int v1), (2, .int v2), (3, .int v3)]) hX dX6_game_83 (by decide) rfl ?_
      rcases gz_lp_o h with ⟨p16, e15, h⟩ | ⟨_, e15, h⟩
      · obtain rfl := gz_in1 h
        obtain ⟨_, _, e0, hF⟩ | ⟨e0, _⟩ := hout
        · cases e0
          exact gz_lv [3, 4, 5, 6, 2, 1, 0] rfl (w_m_game_L85 hX hZ (Or.inl ⟨_, _, rfl, hF⟩) N e15)
        · cases e0
      · refine gz_lv [3, 4, 5, 6, 2, 1, 0] rfl (w_m_game_L85 hX hZ (Or.inr ⟨rfl, ?_⟩) N e15)
        refine gz_iinc (q := 3) (lv2 := [(3, .int (v3 + 1)), (0, .ref (ad (1, 0, 0))), (1, .int v1), (2, .int v2)]) hX dX6_game_170 rfl gk_c_1 (by decide) rfl ?_
        refine gz_goto (tgt := 55) hX dX6_game_173 (by decide) ?_
        exact gz_lv [1, 2, 3, 0] rfl (ih h)
noncomputable def m_game (N : Nat) (V : gz_V) (a1 : Int32) : Option (gz_V × Int32) := gz_let (gz_up V (1, 0, 0) 0 0) (fun V1 => (if (m_isIn a1 0 2) = 0 then some (V1, (-1)) else gz_bd (m_findsNimbers N V1) (fun V5 => gz_bd (m_game_L25 N V5 a1 N 0 0) (fun x6 => gz_lp (m_game_L55 N V5 a1 x6 N 0) some (fun _ => some (V5, (-1)))))))
theorem c_game {l : Launch} {D : va_G} {aC : Nat → ClassId} {ad : gz_A0} {N : Nat} {V : gz_V} {a1 : Int32} {W1 : gz_V} {r : Int32} (h : m_game N V a1 = some (W1, r)) : gz_Met l yX6_game cX6_game 8 (some .int) rm_game D aC ad tw_S V tw_R [.ref (ad (1, 0, 0)), .int a1] (gz_F1 tw_S tw_R ad W1 (some (.int r))) 0 0 := by
  refine gt_ofW (own := RX6) (mn := "game") (lv := [(0, .ref (ad (1, 0, 0))), (1, .int a1)]) (by decide) rfl rfl (Nat.le_of_ble_eq_true rfl) rfl ?_
  intro X hX hZ hF
  rw [m_game] at h
  refine gz_aload_n (q := 0) hX dX6_game_0 rfl rfl ?_
  refine gz_iconst (v := 0) hX dX6_game_1 gk_c_0 ?_
  obtain ⟨V1, e2, h⟩ := gz_let_o h
  refine tp_told hX dX6_game_2 e2 ?_
  refine gz_aload_n (q := 0) hX dX6_game_5 rfl rfl ?_
  refine gz_iload_n (q := 1) hX dX6_game_6 rfl rfl ?_
  refine gz_iconst (v := 0) hX dX6_game_7 gk_c_0 ?_
  refine gz_iconst (v := 2) hX dX6_game_8 gk_c_2 ?_
  refine tc_V (As := [.int a1, .int 0, .int 2]) hX (c_isIn rfl) (lw_isIn_ q1692) rfl rfl nn_isIn ⟨Nat.le_of_ble_eq_true rfl, Nat.le_of_ble_eq_true rfl⟩ rfl rfl (Nat.le_of_ble_eq_true rfl) dX6_game_9 rfl ?_
  refine gz_if_ne (tgt := 17) hX dX6_game_12 (by decide) (fun c3 => ?_) (fun c3 => ?_)
  · have h := gz_ifn c3 h
    refine gz_aload_n (q := 0) hX dX6_game_17 rfl rfl ?_
    obtain ⟨V5, e4, h⟩ := gz_bd_o h
    refine tc_V (As := []) hX (c_findsNimbers e4) (lw_findsNimbers_ q2180) rfl rfl nn_findsNimbers ⟨Nat.le_of_ble_eq_true rfl, Nat.le_of_ble_eq_true rfl⟩ rfl rfl (Nat.le_of_ble_eq_true rfl) dX6_game_18 rfl ?_
    refine gz_iconst (v := 0) hX dX6_game_21 gk_c_0 ?_
    refine gz_istore_n (lv2 := [(2, .int 0), (0, .ref (ad (1, 0, 0))), (1, .int a1)]) hX dX6_game_22 rfl (by decide) rfl ?_
    refine gz_iconst (v := 0) hX dX6_game_23 gk_c_0 ?_
    refine gz_istore_n (lv2 := [(3, .int 0), (2, .int 0), (0, .ref (ad (1, 0, 0))), (1, .int a1)]) hX dX6_game_24 rfl (by decide) rfl ?_
    obtain ⟨x6, e7, h⟩ := gz_bd_o h
    refine gz_lv [2, 3, 1, 0] rfl (w_m_game_L25 hX hZ ?_ N e7)
    refine gz_iconst (v := 0) hX dX6_game_53 gk_c_0 ?_
    refine gz_istore_n (lv2 := [(3, .int 0), (0, .ref (ad (1, 0, 0))), (1, .int a1), (2, .int x6)]) hX dX6_game_54 rfl (by decide) rfl ?_
    rcases gz_lp_o h with ⟨p9, e8, h⟩ | ⟨_, e8, h⟩
    · obtain rfl := gz_in1 h
      exact gz_lv [1, 2, 3, 0] rfl (w_m_game_L55 hX hZ (Or.inl ⟨_, _, rfl, hF⟩) N e8)
    · refine gz_lv [1, 2, 3, 0] rfl (w_m_game_L55 hX hZ (Or.inr ⟨rfl, ?_⟩) N e8)
      refine gz_iconst (v := (-1)) hX dX6_game_176 gk_c_m1 ?_
      obtain ⟨e1, e2⟩ := gz_in2 h
      exact gt_iret hX hZ hF e1 e2 dX6_game_177
  · have h := gz_ifp c3 h
    refine gz_iconst (v := (-1)) hX dX6_game_15 gk_c_m1 ?_
    obtain ⟨e1, e2⟩ := gz_in2 h
    exact gt_iret hX hZ hF e1 e2 dX6_game_16
theorem lw_game_ {i : Nat} (hl : Cond.methodLink RX6 i yX6_game ∈ lw_all) : GoodIn lw_all (wsV RX6 i RX6 yX6_game (ws_ yX6_game cX6_game 8 (some .int))) := lw_V hl q2177 q2178 q153 q2179
theorem nn_game : yX6_game.cls = RX6 ∧ yX6_game.cls ≠ "java/lang/invoke/MethodHandle" ∧ yX6_game.cls ≠ "java/lang/invoke/VarHandle" ∧ (parseMethodDescriptor yX6_game.desc).map (fun d => d.parameters.length) = some 1 := by decide +kernel
def rm_thinks : Room := { frames := 0, cells := 0, slots := 0, locals := 0 }
noncomputable def m_thinks_L2 (N : Nat) : Nat → gz_V → Int32 → Option (gz_V)
  | 0, _, _ => none
  | n + 1, V, v1 => (if 121 ≤ v1 then some V else gz_gd (gz_inb v1 121 = true) (gz_gd (gz_inb v1 121 = true) (gz_let (gz_up V (2, 4, 0) v1.toNatClampNeg (V (2, 1, 0) v1.toNatClampNeg)) (fun V4 => m_thinks_L2 N n V4 (v1 + 1)))))
theorem w_m_thinks_L2 {X : gz_X} {ad : gz_A0} (hX : gz_ok X cX6_thinks RX6 "thinks" 2 rm_thinks none) (hZ : gz_Z X) {N : Nat} {W1 : gz_V} (k : gW X 2 tw_S tw_R ad W1 0 0 26 [(0, .ref (ad (1, 0, 0)))] []) : ∀ (n : Nat) {V : gz_V} {v1 : Int32}, m_thinks_L2 N n V v1 = some W1 → gW X 2 tw_S tw_R ad V 0 0 2 [(0, .ref (ad (1, 0, 0))), (1, .int v1)] [] := by
  intro n
  induction n with
  | zero => intro V v1 h; rw [m_thinks_L2] at h; cases h
  | succ n ih =>
    intro V v1 h
    rw [m_thinks_L2] at h
    refine gz_iload_n (q := 1) hX dX6_thinks_2 rfl rfl ?_
    refine gz_bipush (v := 121) hX dX6_thinks_3 gk_b_121 ?_
    refine gz_icmp_ge (tgt := 26) hX dX6_thinks_5 (by decide) (fun c1 => ?_) (fun c1 => ?_)
    · have h := gz_ifp c1 h
      obtain rfl := gz_in1 h
      exact gz_lv [0] rfl k
    · have h := gz_ifn c1 h
      refine gz_aload_n (q := 0) hX dX6_thinks_8 rfl rfl ?_
      refine tg_waiting hX dX6_thinks_9 ?_
      refine gz_iload_n (q := 1) hX dX6_thinks_12 rfl rfl ?_
      refine gz_aload_n (q := 0) hX dX6_thinks_13 rfl rfl ?_
      refine tg_now hX dX6_thinks_14 ?_
      refine gz_iload_n (q := 1) hX dX6_thinks_17 rfl rfl ?_
      obtain ⟨b2, h⟩ := gz_gd_o h
      refine gz_iald (L := 121) hX tw_S1 (gz_inb_o b2) dX6_thinks_18 ?_
      obtain ⟨b3, h⟩ := gz_gd_o h
      obtain ⟨V4, e5, h⟩ := gz_let_o h
      refine gz_iast (L := 121) hX tw_S4 (by decide) (gz_inb_o b3) dX6_thinks_19 e5 ?_
      refine gz_iinc (q := 1) (lv2 := [(1, .int (v1 + 1)), (0, .ref (ad (1, 0, 0)))]) hX dX6_thinks_20 rfl gk_c_1 (by decide) rfl ?_
      refine gz_goto (tgt := 2) hX dX6_thinks_23 (by decide) ?_
      exact gz_lv [1, 0] rfl (ih h)
noncomputable def m_thinks (N : Nat) (V : gz_V) : Option gz_V := gz_bd (m_thinks_L2 N N V 0) (fun V1 => gz_let (gz_up V1 (1, 0, 0) 5 1) (fun V3 => some V3))
theorem c_thinks {l : Launch} {D : va_G} {aC : Nat → ClassId} {ad : gz_A0} {N : Nat} {V : gz_V} {W1 : gz_V} (h : m_thinks N V = some W1) : gz_Met l yX6_thinks cX6_thinks 2 none rm_thinks D aC ad tw_S V tw_R [.ref (ad (1, 0, 0))] (gz_F1 tw_S tw_R ad W1 none) 0 0 := by
  refine gt_ofW (own := RX6) (mn := "thinks") (lv := [(0, .ref (ad (1, 0, 0)))]) (by decide) rfl rfl (Nat.le_of_ble_eq_true rfl) rfl ?_
  intro X hX hZ hF
  rw [m_thinks] at h
  refine gz_iconst (v := 0) hX dX6_thinks_0 gk_c_0 ?_
  refine gz_istore_n (lv2 := [(1, .int 0), (0, .ref (ad (1, 0, 0)))]) hX dX6_thinks_1 rfl (by decide) rfl ?_
  obtain ⟨V1, e2, h⟩ := gz_bd_o h
  refine gz_lv [1, 0] rfl (w_m_thinks_L2 hX hZ ?_ N e2)
  refine gz_aload_n (q := 0) hX dX6_thinks_26 rfl rfl ?_
  refine gz_iconst (v := 1) hX dX6_thinks_27 gk_c_1 ?_
  obtain ⟨V3, e4, h⟩ := gz_let_o h
  refine tp_isThought hX (by decide) dX6_thinks_28 e4 ?_
  exact gt_vret hX hZ hF (gz_in1 h) dX6_thinks_31
theorem lw_thinks_ {i : Nat} (hl : Cond.methodLink RX6 i yX6_thinks ∈ lw_all) : GoodIn lw_all (wsV RX6 i RX6 yX6_thinks (ws_ yX6_thinks cX6_thinks 2 none)) := lw_V hl q2028 qs119 q153 q2029
theorem nn_thinks : yX6_thinks.cls = RX6 ∧ yX6_thinks.cls ≠ "java/lang/invoke/MethodHandle" ∧ yX6_thinks.cls ≠ "java/lang/invoke/VarHandle" ∧ (parseMethodDescriptor yX6_thinks.desc).map (fun d => d.parameters.length) = some 0 := by decide +kernel
def rm_sumOf : Room := { frames := 0, cells := 0, slots := 0, locals := 0 }
noncomputable def m_sumOf_L5 (N : Nat) (V : gz_V) (v1 : Int32) (v2 : Int32) : Nat → Int32 → Int32 → Option (Int32)
  | 0, _, _ => none
  | n + 1, v3, v4 => (if v2 ≤ v4 then some v3 else gz_gd (gz_inb (v1 + v4) 121 = true) (gz_let (v3 + (V (2, 1, 0) (v1 + v4).toNatClampNeg)) (fun x3 => m_sumOf_L5 N V v1 v2 n x3 (v4 + 1))))
theorem w_m_sumOf_L5 {X : gz_X} {ad : gz_A0} (hX : gz_ok X cX6_sumOf RX6 "sumOf" 5 rm_sumOf (some .int)) (hZ : gz_Z X) {N : Nat} {V : gz_V} {v1 : Int32} {v2 : Int32} {o3 : Int32} (k : gW X 5 tw_S tw_R ad V 0 0 29 [(3, .int o3)] []) : ∀ (n : Nat) {v3 : Int32} {v4 : Int32}, m_sumOf_L5 N V v1 v2 n v3 v4 = some o3 → gW X 5 tw_S tw_R ad V 0 0 5 [(0, .ref (ad (1, 0, 0))), (1, .int v1), (2, .int v2), (3, .int v3), (4, .int v4)] [] := by
  intro n
  induction n with
  | zero => intro v3 v4 h; rw [m_sumOf_L5] at h; cases h
  | succ n ih =>
    intro v3 v4 h
    rw [m_sumOf_L5] at h
    refine gz_iload (q := 4) hX dX6_sumOf_5 rfl ?_
    refine gz_iload_n (q := 2) hX dX6_sumOf_7 rfl rfl ?_
    refine gz_icmp_ge (tgt := 29) hX dX6_sumOf_8 (by decide) (fun c1 => ?_) (fun c1 => ?_)
    · have h := gz_ifp c1 h
      obtain rfl := gz_in1 h
      exact gz_lv [3] rfl k
    · have h := gz_ifn c1 h
      refine gz_iload_n (q := 3) hX dX6_sumOf_11 rfl rfl ?_
      refine gz_aload_n (q := 0) hX dX6_sumOf_12 rfl rfl ?_
      refine tg_now hX dX6_sumOf_13 ?_
      refine gz_iload_n (q := 1) hX dX6_sumOf_16 rfl rfl ?_
      refine gz_iload (q := 4) hX dX6_sumOf_17 rfl ?_
      refine gz_iadd hX dX6_sumOf_19 ?_
      obtain ⟨b2, h⟩ := gz_gd_o h
      refine gz_iald (L := 121) hX tw_S1 (gz_inb_o b2) dX6_sumOf_20 ?_
      refine gz_iadd hX dX6_sumOf_21 ?_
      obtain ⟨x3, e4, h⟩ := gz_let_o h
      refine gz_nm e4 ?_
      refine gz_istore_n (lv2 := [(3, .int x3), (0, .ref (ad (1, 0, 0))), (1, .int v1), (2, .int v2), (4, .int v4)]) hX dX6_sumOf_22 rfl (by decide) rfl ?_
      refine gz_iinc (q := 4) (lv2 := [(4, .int (v4 + 1)), (3, .int x3), (0, .ref (ad (1, 0, 0))), (1, .int v1), (2, .int v2)]) hX dX6_sumOf_23 rfl gk_c_1 (by decide) rfl ?_
      refine gz_goto (tgt := 5) hX dX6_sumOf_26 (by decide) ?_
      exact gz_lv [2, 3, 4, 1, 0] rfl (ih h)
noncomputable def m_sumOf (N : Nat) (V : gz_V) (a1 : Int32) (a2 : Int32) : Option Int32 := gz_bd (m_sumOf_L5 N V a1 a2 N 0 0) (fun x1 => some x1)
theorem c_sumOf {l : Launch} {D : va_G} {aC : Nat → ClassId} {ad : gz_A0} {N : Nat} {V : gz_V} {a1 : Int32} {a2 : Int32} {r : Int32} (h : m_sumOf N V a1 a2 = some r) : gz_Met l yX6_sumOf cX6_sumOf 5 (some .int) rm_sumOf D aC ad tw_S V tw_R [.ref (ad (1, 0, 0)), .int a1, .int a2] (gz_F1 tw_S tw_R ad V (some (.int r))) 0 0 := by
  refine gt_ofW (own := RX6) (mn := "sumOf") (lv := [(0, .ref (ad (1, 0, 0))), (1, .int a1), (2, .int a2)]) (by decide) rfl rfl (Nat.le_of_ble_eq_true rfl) rfl ?_
  intro X hX hZ hF
  rw [m_sumOf] at h
  refine gz_iconst (v := 0) hX dX6_sumOf_0 gk_c_0 ?_
  refine gz_istore_n (lv2 := [(3, .int 0), (0, .ref (ad (1, 0, 0))), (1, .int a1), (2, .int a2)]) hX dX6_sumOf_1 rfl (by decide) rfl ?_
  refine gz_iconst (v := 0) hX dX6_sumOf_2 gk_c_0 ?_
  refine gz_istore (lv2 := [(4, .int 0), (3, .int 0), (0, .ref (ad (1, 0, 0))), (1, .int a1), (2, .int a2)]) hX dX6_sumOf_3 (by decide) rfl ?_
  obtain ⟨x1, e2, h⟩ := gz_bd_o h
  refine gz_lv [2, 3, 4, 1, 0] rfl (w_m_sumOf_L5 hX hZ ?_ N e2)
  refine gz_iload_n (q := 0) hX dX6_sumOf_29 rfl rfl ?_
  exact gt_iret hX hZ hF rfl (gz_in1 h) dX6_sumOf_30
theorem lw_sumOf_ {i : Nat} (hl : Cond.methodLink RX6 i yX6_sumOf ∈ lw_all) : GoodIn lw_all (wsV RX6 i RX6 yX6_sumOf (ws_ yX6_sumOf cX6_sumOf 5 (some .int))) := lw_V hl q2032 qs120 q153 q2033
theorem nn_sumOf : yX6_sumOf.cls = RX6 ∧ yX6_sumOf.cls ≠ "java/lang/invoke/MethodHandle" ∧ yX6_sumOf.cls ≠ "java/lang/invoke/VarHandle" ∧ (parseMethodDescriptor yX6_sumOf.desc).map (fun d => d.parameters.length) = some 2 := by decide +kernel
def rm_goes : Room := { frames := 9, cells := 0, slots := 0, locals := 217 }
noncomputable def m_goes_L34 (N : Nat) (v1 : Int32) (v2 : Int32) : Nat → gz_V → Int32 → Option (gz_V)
  | 0, _, _ => none
  | n + 1, V, v3 => (if v1 ≤ v3 then some V else gz_b2 (m_goesBy N V) (fun V10 r8 => m_goes_L34 N v1 v2 n V10 (v3 + 1)))
theorem w_m_goes_L34 {X : gz_X} {ad : gz_A0} (hX : gz_ok X cX6_goes RX6 "goes" 4 rm_goes (some .int)) (hZ : gz_Z X) {N : Nat} {v1 : Int32} {v2 : Int32} {W1 : gz_V} (k : gW X 4 tw_S tw_R ad W1 0 0 50 [(0, .ref (ad (1, 0, 0))), (2, .int v2)] []) : ∀ (n : Nat) {V : gz_V} {v3 : Int32}, m_goes_L34 N v1 v2 n V v3 = some W1 → gW X 4 tw_S tw_R ad V 0 0 34 [(0, .ref (ad (1, 0, 0))), (1, .int v1), (2, .int v2), (3, .int v3)] [] := by
  intro n
  induction n with
  | zero => intro V v3 h; rw [m_goes_L34] at h; cases h
  | succ n ih =>
    intro V v3 h
    rw [m_goes_L34] at h
    refine gz_iload_n (q := 3) hX dX6_goes_34 rfl rfl ?_
    refine gz_iload_n (q := 1) hX dX6_goes_35 rfl rfl ?_
    refine gz_icmp_ge (tgt := 50) hX dX6_goes_36 (by decide) (fun c7 => ?_) (fun c7 => ?_)
    · have h := gz_ifp c7 h
      obtain rfl := gz_in1 h
      exact gz_lv [0, 2] rfl k
    · have h := gz_ifn c7 h
      refine gz_aload_n (q := 0) hX dX6_goes_39 rfl rfl ?_
      obtain ⟨V10, r8, e9, h⟩ := gz_b2_o h
      refine tc_V (As := []) hX (c_goesBy e9) (lw_goesBy_ q1986) rfl rfl nn_goesBy ⟨Nat.le_of_ble_eq_true rfl, Nat.le_of_ble_eq_true rfl⟩ rfl rfl (Nat.le_of_ble_eq_true rfl) dX6_goes_40 rfl ?_
      refine gz_pop hX dX6_goes_43 rfl ?_
      refine gz_iinc (q := 3) (lv2 := [(3, .int (v3 + 1)), (0, .ref (ad (1, 0, 0))), (1, .int v1), (2, .int v2)]) hX dX6_goes_44 rfl gk_c_1 (by decide) rfl ?_
      refine gz_goto (tgt := 34) hX dX6_goes_47 (by decide) ?_
      exact gz_lv [1, 2, 3, 0] rfl (ih h)
noncomputable def m_goes (N : Nat) (V : gz_V) (a1 : Int32) (a2 : Int32) : Option (gz_V × Int32) := gz_let (gz_up V (1, 0, 0) 0 0) (fun V1 => (if (m_isIn a1 1 60) = 0 then some (V1, (-1)) else (if (m_isIn a2 0 3) = 0 then some (V1, (-1)) else gz_bd (m_thinks N V1) (fun V6 => gz_bd (m_goes_L34 N a1 a2 N V6 0) (fun V7 => gz_bd (if a2 = 0 then some (V7 (2, 1, 0) (3 : Int32).toNatClampNeg) else (if a2 = 1 then some (V7 (2, 1, 0) (4 : Int32).toNatClampNeg) else (if a2 = 2 then gz_bd (m_sumOf N V7 65 (V7 (1, 0, 0) 6)) (fun r17 => some r17) else gz_bd (m_sumOf N V7 111 (V7 (1, 0, 0) 7)) (fun r15 => some r15)))) (fun y9 => gz_bd (m_endsThought N V7) (fun V20 => some (V20, y9))))))))
theorem c_goes {l : Launch} {D : va_G} {aC : Nat → ClassId} {ad : gz_A0} {N : Nat} {V : gz_V} {a1 : Int32} {a2 : Int32} {W1 : gz_V} {r : Int32} (h : m_goes N V a1 a2 = some (W1, r)) : gz_Met l yX6_goes cX6_goes 4 (some .int) rm_goes D aC ad tw_S V tw_R [.ref (ad (1, 0, 0)), .int a1, .int a2] (gz_F1 tw_S tw_R ad W1 (some (.int r))) 0 0 := by
  refine gt_ofW (own := RX6) (mn := "goes") (lv := [(0, .ref (ad (1, 0, 0))), (1, .int a1), (2, .int a2)]) (by decide) rfl rfl (Nat.le_of_ble_eq_true rfl) rfl ?_
  intro X hX hZ hF
  rw [m_goes] at h
  refine gz_aload_n (q := 0) hX dX6_goes_0 rfl rfl ?_
  refine gz_iconst (v := 0) hX dX6_goes_1 gk_c_0 ?_
  obtain ⟨V1, e2, h⟩ := gz_let_o h
  refine tp_told hX dX6_goes_2 e2 ?_
  refine gz_aload_n (q := 0) hX dX6_goes_5 rfl rfl ?_
  refine gz_iload_n (q := 1) hX dX6_goes_6 rfl rfl ?_
  refine gz_iconst (v := 1) hX dX6_goes_7 gk_c_1 ?_
  refine gz_bipush (v := 60) hX dX6_goes_8 gk_b_60 ?_
  refine tc_V (As := [.int a1, .int 1, .int 60]) hX (c_isIn rfl) (lw_isIn_ q1692) rfl rfl nn_isIn ⟨Nat.le_of_ble_eq_true rfl, Nat.le_of_ble_eq_true rfl⟩ rfl rfl (Nat.le_of_ble_eq_true rfl) dX6_goes_10 rfl ?_
  refine gz_if_eq (tgt := 26) hX dX6_goes_13 (by decide) (fun c3 => ?_) (fun c3 => ?_)
  · have h := gz_ifp c3 h
    refine gz_iconst (v := (-1)) hX dX6_goes_26 gk_c_m1 ?_
    obtain ⟨e1, e2⟩ := gz_in2 h
    exact gt_iret hX hZ hF e1 e2 dX6_goes_27
  · have h := gz_ifn c3 h
    refine gz_aload_n (q := 0) hX dX6_goes_16 rfl rfl ?_
    refine gz_iload_n (q := 2) hX dX6_goes_17 rfl rfl ?_
    refine gz_iconst (v := 0) hX dX6_goes_18 gk_c_0 ?_
    refine gz_iconst (v := 3) hX dX6_goes_19 gk_c_3 ?_
    refine tc_V (As := [.int a2, .int 0, .int 3]) hX (c_isIn rfl) (lw_isIn_ q1692) rfl rfl nn_isIn ⟨Nat.le_of_ble_eq_true rfl, Nat.le_of_ble_eq_true rfl⟩ rfl rfl (Nat.le_of_ble_eq_true rfl) dX6_goes_20 rfl ?_
    refine gz_if_ne (tgt := 28) hX dX6_goes_23 (by decide) (fun c4 => ?_) (fun c4 => ?_)
    · have h := gz_ifn c4 h
      refine gz_aload_n (q := 0) hX dX6_goes_28 rfl rfl ?_
      obtain ⟨V6, e5, h⟩ := gz_bd_o h
      refine tc_V (As := []) hX (c_thinks e5) (lw_thinks_ q2026) rfl rfl nn_thinks ⟨Nat.le_of_ble_eq_true rfl, Nat.le_of_ble_eq_true rfl⟩ rfl rfl (Nat.le_of_ble_eq_true rfl) dX6_goes_29 rfl ?_
      refine gz_iconst (v := 0) hX dX6_goes_32 gk_c_0 ?_
      refine gz_istore_n (lv2 := [(3, .int 0), (0, .ref (ad (1, 0, 0))), (1, .int a1), (2, .int a2)]) hX dX6_goes_33 rfl (by decide) rfl ?_
      obtain ⟨V7, e8, h⟩ := gz_bd_o h
      refine gz_lv [1, 2, 3, 0] rfl (w_m_goes_L34 hX hZ ?_ N e8)
      refine gz_iload_n (q := 1) hX dX6_goes_50 rfl rfl ?_
      obtain ⟨y9, g10, h⟩ := gz_bd_o h
      have J11 : gW X 4 tw_S tw_R ad V7 0 0 105 [(0, .ref (ad (1, 0, 0)))] [.int y9] := by
        refine gz_istore_n (lv2 := [(3, .int y9), (0, .ref (ad (1, 0, 0)))]) hX dX6_goes_105 rfl (by decide) rfl ?_
        refine gz_aload_n (q := 1) hX dX6_goes_106 rfl rfl ?_
        obtain ⟨V20, e19, h⟩ := gz_bd_o h
        refine tc_V (As := []) hX (c_endsThought e19) (lw_endsThought_ q2034) rfl rfl nn_endsThought ⟨Nat.le_of_ble_eq_true rfl, Nat.le_of_ble_eq_true rfl⟩ rfl rfl (Nat.le_of_ble_eq_true rfl) dX6_goes_107 rfl ?_
        refine gz_iload_n (q := 0) hX dX6_goes_110 rfl rfl ?_
        obtain ⟨e1, e2⟩ := gz_in2 h
        exact gt_iret hX hZ hF e1 e2 dX6_goes_111
      refine gz_if_ne (tgt := 63) hX dX6_goes_51 (by decide) (fun c12 => ?_) (fun c12 => ?_)
      · have g10 := gz_ifn c12 g10
        refine gz_iload_n (q := 1) hX dX6_goes_63 rfl rfl ?_
        refine gz_iconst (v := 1) hX dX6_goes_64 gk_c_1 ?_
        refine gz_icmp_ne (tgt := 77) hX dX6_goes_65 (by decide) (fun c13 => ?_) (fun c13 => ?_)
        · have g10 := gz_ifn c13 g10
          refine gz_iload_n (q := 1) hX dX6_goes_77 rfl rfl ?_
          refine gz_iconst (v := 2) hX dX6_goes_78 gk_c_2 ?_
          refine gz_icmp_ne (tgt := 95) hX dX6_goes_79 (by decide) (fun c14 => ?_) (fun c14 => ?_)
          · have g10 := gz_ifn c14 g10
            refine gz_aload_n (q := 0) hX dX6_goes_95 rfl rfl ?_
            refine gz_bipush (v := 111) hX dX6_goes_96 gk_b_111 ?_
            refine gz_aload_n (q := 0) hX dX6_goes_98 rfl rfl ?_
            refine tg_horses hX dX6_goes_99 ?_
            obtain ⟨r15, e16, g10⟩ := gz_bd_o g10
            refine tc_V (As := [.int 111, .int (V7 (1, 0, 0) 7)]) hX (c_sumOf e16) (lw_sumOf_ q2030) rfl rfl nn_sumOf ⟨Nat.le_of_ble_eq_true rfl, Nat.le_of_ble_eq_true rfl⟩ rfl rfl (Nat.le_of_ble_eq_true rfl) dX6_goes_102 rfl ?_
            obtain rfl := gz_in1 g10
            exact gz_lv [0] rfl J11
          · have g10 := gz_ifp c14 g10
            refine gz_aload_n (q := 0) hX dX6_goes_82 rfl rfl ?_
            refine gz_bipush (v := 65) hX dX6_goes_83 gk_b_65 ?_
            refine gz_aload_n (q := 0) hX dX6_goes_85 rfl rfl ?_
            refine tg_people hX dX6_goes_86 ?_
            obtain ⟨r17, e18, g10⟩ := gz_bd_o g10
            refine tc_V (As := [.int 65, .int (V7 (1, 0, 0) 6)]) hX (c_sumOf e18) (lw_sumOf_ q2030) rfl rfl nn_sumOf ⟨Nat.le_of_ble_eq_true rfl, Nat.le_of_ble_eq_true rfl⟩ rfl rfl (Nat.le_of_ble_eq_true rfl) dX6_goes_89 rfl ?_
            refine gz_goto (tgt := 105) hX dX6_goes_92 (by decide) ?_
            obtain rfl := gz_in1 g10
            exact gz_lv [0] rfl J11
        · have g10 := gz_ifp c13 g10
          refine gz_aload_n (q := 0) hX dX6_goes_68 rfl rfl ?_
          refine tg_now hX dX6_goes_69 ?_
          refine gz_iconst (v := 4) hX dX6_goes_72 gk_c_4 ?_
          refine gz_iald (L := 121) hX tw_S1 (gz_inb_o (by decide)) dX6_goes_73 ?_
          refine gz_goto (tgt := 105) hX dX6_goes_74 (by decide) ?_
          obtain rfl := gz_in1 g10
          exact gz_lv [0] rfl J11
      · have g10 := gz_ifp c12 g10
        refine gz_aload_n (q := 0) hX dX6_goes_54 rfl rfl ?_
        refine tg_now hX dX6_goes_55 ?_
        refine gz_iconst (v := 3) hX dX6_goes_58 gk_c_3 ?_
        refine gz_iald (L := 121) hX tw_S1 (gz_inb_o (by decide)) dX6_goes_59 ?_
        refine gz_goto (tgt := 105) hX dX6_goes_60 (by decide) ?_
        obtain rfl := gz_in1 g10
        exact gz_lv [0] rfl J11
    · have h := gz_ifp c4 h
      refine gz_iconst (v := (-1)) hX dX6_goes_26 gk_c_m1 ?_
      obtain ⟨e1, e2⟩ := gz_in2 h
      exact gt_iret hX hZ hF e1 e2 dX6_goes_27
theorem lw_goes_ {i : Nat} (hl : Cond.methodLink RX6 i yX6_goes ∈ lw_all) : GoodIn lw_all (wsV RX6 i RX6 yX6_goes (ws_ yX6_goes cX6_goes 4 (some .int))) := lw_V hl q2023 q2024 q153 q2025
theorem nn_goes : yX6_goes.cls = RX6 ∧ yX6_goes.cls ≠ "java/lang/invoke/MethodHandle" ∧ yX6_goes.cls ≠ "java/lang/invoke/VarHandle" ∧ (parseMethodDescriptor yX6_goes.desc).map (fun d => d.parameters.length) = some 2 := by decide +kernel
def rm_hand : Room := { frames := 1, cells := 0, slots := 0, locals := 23 }
noncomputable def m_hand (N : Nat) (V : gz_V) (a1 : Int32) (a2 : Int32) : Option (gz_V × Int32) := gz_let (gz_up V (1, 0, 0) 0 0) (fun V1 => (if (m_isPerson V1 a1) = 0 then some (V1, 0) else (if (m_isIn a2 0 2) = 0 then some (V1, 0) else gz_gd (gz_inb (77 + a1) 121 = true) ((if (V1 (2, 1, 0) (77 + a1).toNatClampNeg) = a2 then some (V1, 0) else gz_bd (m_keepsAhead N V1) (fun V8 => gz_gd (gz_inb (77 + a1) 121 = true) (gz_let (gz_up V8 (2, 1, 0) (77 + a1).toNatClampNeg a2) (fun V10 => some (V10, 1)))))))))
theorem c_hand {l : Launch} {D : va_G} {aC : Nat → ClassId} {ad : gz_A0} {N : Nat} {V : gz_V} {a1 : Int32} {a2 : Int32} {W1 : gz_V} {r : Int32} (h : m_hand N V a1 a2 = some (W1, r)) : gz_Met l yX6_hand cX6_hand 3 (some .boolean) rm_hand D aC ad tw_S V tw_R [.ref (ad (1, 0, 0)), .int a1, .int a2] (gz_F1 tw_S tw_R ad W1 (some (.int r))) 0 0 := by
  refine gt_ofW (own := RX6) (mn := "hand") (lv := [(0, .ref (ad (1, 0, 0))), (1, .int a1), (2, .int a2)]) (by decide) rfl rfl (Nat.le_of_ble_eq_true rfl) rfl ?_
  intro X hX hZ hF
  rw [m_hand] at h
  refine gz_aload_n (q := 0) hX dX6_hand_0 rfl rfl ?_
  refine gz_iconst (v := 0) hX dX6_hand_1 gk_c_0 ?_
  obtain ⟨V1, e2, h⟩ := gz_let_o h
  refine tp_told hX dX6_hand_2 e2 ?_
  refine gz_aload_n (q := 0) hX dX6_hand_5 rfl rfl ?_
  refine gz_iload_n (q := 1) hX dX6_hand_6 rfl rfl ?_
  refine tc_V (As := [.int a1]) hX (c_isPerson rfl) (lw_isPerson_ q1708) rfl rfl nn_isPerson ⟨Nat.le_of_ble_eq_true rfl, Nat.le_of_ble_eq_true rfl⟩ rfl rfl (Nat.le_of_ble_eq_true rfl) dX6_hand_7 rfl ?_
  refine gz_if_eq (tgt := 36) hX dX6_hand_10 (by decide) (fun c3 => ?_) (fun c3 => ?_)
  · have h := gz_ifp c3 h
    refine gz_iconst (v := 0) hX dX6_hand_36 gk_c_0 ?_
    obtain ⟨e1, e2⟩ := gz_in2 h
    exact gt_zret hX hZ rfl hF e1 e2 dX6_hand_37
  · have h := gz_ifn c3 h
    refine gz_aload_n (q := 0) hX dX6_hand_13 rfl rfl ?_
    refine gz_iload_n (q := 2) hX dX6_hand_14 rfl rfl ?_
    refine gz_iconst (v := 0) hX dX6_hand_15 gk_c_0 ?_
    refine gz_iconst (v := 2) hX dX6_hand_16 gk_c_2 ?_
    refine tc_V (As := [.int a2, .int 0, .int 2]) hX (c_isIn rfl) (lw_isIn_ q1692) rfl rfl nn_isIn ⟨Nat.le_of_ble_eq_true rfl, Nat.le_of_ble_eq_true rfl⟩ rfl rfl (Nat.le_of_ble_eq_true rfl) dX6_hand_17 rfl ?_
    refine gz_if_eq (tgt := 36) hX dX6_hand_20 (by decide) (fun c4 => ?_) (fun c4 => ?_)
    · have h := gz_ifp c4 h
      refine gz_iconst (v := 0) hX dX6_hand_36 gk_c_0 ?_
      obtain ⟨e1, e2⟩ := gz_in2 h
      exact gt_zret hX hZ rfl hF e1 e2 dX6_hand_37
    · have h := gz_ifn c4 h
      refine gz_aload_n (q := 0) hX dX6_hand_23 rfl rfl ?_
      refine tg_now hX dX6_hand_24 ?_
      refine gz_bipush (v := 77) hX dX6_hand_27 gk_b_77 ?_
      refine gz_iload_n (q := 1) hX dX6_hand_29 rfl rfl ?_
      refine gz_iadd hX dX6_hand_30 ?_
      obtain ⟨b5, h⟩ := gz_gd_o h
      refine gz_iald (L := 121) hX tw_S1 (gz_inb_o b5) dX6_hand_31 ?_
      refine gz_iload_n (q := 2) hX dX6_hand_32 rfl rfl ?_
      refine gz_icmp_ne (tgt := 38) hX dX6_hand_33 (by decide) (fun c6 => ?_) (fun c6 => ?_)
      · have h := gz_ifn c6 h
        refine gz_aload_n (q := 0) hX dX6_hand_38 rfl rfl ?_
        obtain ⟨V8, e7, h⟩ := gz_bd_o h
        refine tc_V (As := []) hX (c_keepsAhead e7) (lw_keepsAhead_ q1920) rfl rfl nn_keepsAhead ⟨Nat.le_of_ble_eq_true rfl, Nat.le_of_ble_eq_true rfl⟩ rfl rfl (Nat.le_of_ble_eq_true rfl) dX6_hand_39 rfl ?_
        refine gz_aload_n (q := 0) hX dX6_hand_42 rfl rfl ?_
        refine tg_now hX dX6_hand_43 ?_
        refine gz_bipush (v := 77) hX dX6_hand_46 gk_b_77 ?_
        refine gz_iload_n (q := 1) hX dX6_hand_48 rfl rfl ?_
        refine gz_iadd hX dX6_hand_49 ?_
        refine gz_iload_n (q := 2) hX dX6_hand_50 rfl rfl ?_
        obtain ⟨b9, h⟩ := gz_gd_o h
        obtain ⟨V10, e11, h⟩ := gz_let_o h
        refine gz_iast (L := 121) hX tw_S1 (by decide) (gz_inb_o b9) dX6_hand_51 e11 ?_
        refine gz_iconst (v := 1) hX dX6_hand_52 gk_c_1 ?_
        obtain ⟨e1, e2⟩ := gz_in2 h
        exact gt_zret hX hZ rfl hF e1 e2 dX6_hand_53
      · have h := gz_ifp c6 h
        refine gz_iconst (v := 0) hX dX6_hand_36 gk_c_0 ?_
        obtain ⟨e1, e2⟩ := gz_in2 h
        exact gt_zret hX hZ rfl hF e1 e2 dX6_hand_37
theorem lw_hand_ {i : Nat} (hl : Cond.methodLink RX6 i yX6_hand ∈ lw_all) : GoodIn lw_all (wsV RX6 i RX6 yX6_hand (ws_ yX6_hand cX6_hand 3 (some .boolean))) := lw_V hl q1979 q1980 q153 q1981
theorem nn_hand : yX6_hand.cls = RX6 ∧ yX6_hand.cls ≠ "java/lang/invoke/MethodHandle" ∧ yX6_hand.cls ≠ "java/lang/invoke/VarHandle" ∧ (parseMethodDescriptor yX6_hand.desc).map (fun d => d.parameters.length) = some 2 := by decide +kernel
def rm_hasMost : Room := { frames := 1, cells := 0, slots := 0, locals := 22 }
noncomputable def m_hasMost_L2 (N : Nat) (V : gz_V) (v1 : Int32) (v2 : Int32) : Nat → Int32 → Option ((Int32) ⊕ (Unit))
  | 0, _ => none
  | n + 1, v3 => (if (V (1, 0, 0) 6) ≤ v3 then some (.inr ()) else (if v3 = v1 then m_hasMost_L2 N V v1 v2 n (v3 + 1) else gz_bd (m_traitOf V v3 v2) (fun r3 => gz_bd (m_traitOf V v1 v2) (fun r5 => (if r3 < r5 then m_hasMost_L2 N V v1 v2 n (v3 + 1) else some (.inl 0))))))
theorem w_m_hasMost_L2 {X : gz_X} {ad : gz_A0} (hX : gz_ok X cX6_hasMost RX6 "hasMost" 4 rm_hasMost (some .boolean)) (hZ : gz_Z X) {N : Nat} {V : gz_V} {v1 : Int32} {v2 : Int32} {out : (Int32) ⊕ (Unit)} (hout : (∃ (r : Int32), out = .inl r ∧ gx_F X tw_S V tw_R ad (some (.int r))) ∨ (out = .inr () ∧ gW X 4 tw_S tw_R ad V 0 0 38 [] [])) : ∀ (n : Nat) {v3 : Int32}, m_hasMost_L2 N V v1 v2 n v3 = some out → gW X 4 tw_S tw_R ad V 0 0 2 [(0, .ref (ad (1, 0, 0))), (1, .int v1), (2, .int v2), (3, .int v3)] [] := by
  intro n
  induction n with
  | zero => intro v3 h; rw [m_hasMost_L2] at h; cases h
  | succ n ih =>
    intro v3 h
    rw [m_hasMost_L2] at h
    refine gz_iload_n (q := 3) hX dX6_hasMost_2 rfl rfl ?_
    refine gz_aload_n (q := 0) hX dX6_hasMost_3 rfl rfl ?_
    refine tg_people hX dX6_hasMost_4 ?_
    refine gz_icmp_ge (tgt := 38) hX dX6_hasMost_7 (by decide) (fun c1 => ?_) (fun c1 => ?_)
    · have h := gz_ifp c1 h
      obtain rfl := gz_in1 h
      obtain ⟨_, e0, _⟩ | ⟨e0, k⟩ := hout
      · cases e0
      · cases e0
        exact gz_lv [] rfl k
    · have h := gz_ifn c1 h
      refine gz_iload_n (q := 3) hX dX6_hasMost_10 rfl rfl ?_
      refine gz_iload_n (q := 1) hX dX6_hasMost_11 rfl rfl ?_
      refine gz_icmp_eq (tgt := 32) hX dX6_hasMost_12 (by decide) (fun c2 => ?_) (fun c2 => ?_)
      · have h := gz_ifp c2 h
        refine gz_iinc (q := 3) (lv2 := [(3, .int (v3 + 1)), (0, .ref (ad (1, 0, 0))), (1, .int v1), (2, .int v2)]) hX dX6_hasMost_32 rfl gk_c_1 (by decide) rfl ?_
        refine gz_goto (tgt := 2) hX dX6_hasMost_35 (by decide) ?_
        exact gz_lv [1, 2, 3, 0] rfl (ih h)
      · have h := gz_ifn c2 h
        refine gz_aload_n (q := 0) hX dX6_hasMost_15 rfl rfl ?_
        refine gz_iload_n (q := 3) hX dX6_hasMost_16 rfl rfl ?_
        refine gz_iload_n (q := 2) hX dX6_hasMost_17 rfl rfl ?_
        obtain ⟨r3, e4, h⟩ := gz_bd_o h
        refine tc_V (As := [.int v3, .int v2]) hX (c_traitOf e4) (lw_traitOf_ q1896) rfl rfl nn_traitOf ⟨Nat.le_of_ble_eq_true rfl, Nat.le_of_ble_eq_true rfl⟩ rfl rfl (Nat.le_of_ble_eq_true rfl) dX6_hasMost_18 rfl ?_
        refine gz_aload_n (q := 0) hX dX6_hasMost_21 rfl rfl ?_
        refine gz_iload_n (q := 1) hX dX6_hasMost_22 rfl rfl ?_
        refine gz_iload_n (q := 2) hX dX6_hasMost_23 rfl rfl ?_
        obtain ⟨r5, e6, h⟩ := gz_bd_o h
        refine tc_V (As := [.int v1, .int v2]) hX (c_traitOf e6) (lw_traitOf_ q1896) rfl rfl nn_traitOf ⟨Nat.le_of_ble_eq_true rfl, Nat.le_of_ble_eq_true rfl⟩ rfl rfl (Nat.le_of_ble_eq_true rfl) dX6_hasMost_24 rfl ?_
        refine gz_icmp_lt (tgt := 32) hX dX6_hasMost_27 (by decide) (fun c7 => ?_) (fun c7 => ?_)
        · have h := gz_ifp c7 h
          refine gz_iinc (q := 3) (lv2 := [(3, .int (v3 + 1)), (0, .ref (ad (1, 0, 0))), (1, .int v1), (2, .int v2)]) hX dX6_hasMost_32 rfl gk_c_1 (by decide) rfl ?_
          refine gz_goto (tgt := 2) hX dX6_hasMost_35 (by decide) ?_
          exact gz_lv [1, 2, 3, 0] rfl (ih h)
        · have h := gz_ifn c7 h
          refine gz_iconst (v := 0) hX dX6_hasMost_30 gk_c_0 ?_
          obtain rfl := gz_in1 h
          obtain ⟨_, e0, hF⟩ | ⟨e0, _⟩ := hout
          · cases e0
            exact gt_zret hX hZ rfl hF rfl rfl dX6_hasMost_31
          · cases e0
noncomputable def m_hasMost (N : Nat) (V : gz_V) (a1 : Int32) (a2 : Int32) : Option Int32 := gz_lp (m_hasMost_L2 N V a1 a2 N 0) some (fun _ => some 1)
theorem c_hasMost {l : Launch} {D : va_G} {aC : Nat → ClassId} {ad : gz_A0} {N : Nat} {V : gz_V} {a1 : Int32} {a2 : Int32} {r : Int32} (h : m_hasMost N V a1 a2 = some r) : gz_Met l yX6_hasMost cX6_hasMost 4 (some .boolean) rm_hasMost D aC ad tw_S V tw_R [.ref (ad (1, 0, 0)), .int a1, .int a2] (gz_F1 tw_S tw_R ad V (some (.int r))) 0 0 := by
  refine gt_ofW (own := RX6) (mn := "hasMost") (lv := [(0, .ref (ad (1, 0, 0))), (1, .int a1), (2, .int a2)]) (by decide) rfl rfl (Nat.le_of_ble_eq_true rfl) rfl ?_
  intro X hX hZ hF
  rw [m_hasMost] at h
  refine gz_iconst (v := 0) hX dX6_hasMost_0 gk_c_0 ?_
  refine gz_istore_n (lv2 := [(3, .int 0), (0, .ref (ad (1, 0, 0))), (1, .int a1), (2, .int a2)]) hX dX6_hasMost_1 rfl (by decide) rfl ?_
  rcases gz_lp_o h with ⟨p2, e1, h⟩ | ⟨_, e1, h⟩
  · obtain rfl := gz_in1 h
    exact gz_lv [1, 2, 3, 0] rfl (w_m_hasMost_L2 hX hZ (Or.inl ⟨_, rfl, hF⟩) N e1)
  · refine gz_lv [1, 2, 3, 0] rfl (w_m_hasMost_L2 hX hZ (Or.inr ⟨rfl, ?_⟩) N e1)
    refine gz_iconst (v := 1) hX dX6_hasMost_38 gk_c_1 ?_
    exact gt_zret hX hZ rfl hF rfl (gz_in1 h) dX6_hasMost_39
theorem lw_hasMost_ {i : Nat} (hl : Cond.methodLink RX6 i yX6_hasMost ∈ lw_all) : GoodIn lw_all (wsV RX6 i RX6 yX6_hasMost (ws_ yX6_hasMost cX6_hasMost 4 (some .boolean))) := lw_V hl q2166 qs137 q153 q2167
theorem nn_hasMost : yX6_hasMost.cls = RX6 ∧ yX6_hasMost.cls ≠ "java/lang/invoke/MethodHandle" ∧ yX6_hasMost.cls ≠ "java/lang/invoke/VarHandle" ∧ (parseMethodDescriptor yX6_hasMost.desc).map (fun d => d.parameters.length) = some 2 := by decide +kernel
theorem gk_b_30 : (Int8.ofInt 30).toInt32 = 30 := by decide
def rm_herd : Room := { frames := 1, cells := 0, slots := 0, locals := 23 }
noncomputable def m_herd (V : gz_V) (a1 : Int32) : Option (gz_V × Int32) := gz_let (gz_up V (1, 0, 0) 0 0) (fun V1 => (if a1 = (-1) then gz_let (gz_up V1 (1, 0, 0) 59 0) (fun V11 => some (V11, 0)) else (if (m_isIn a1 1 30) = 0 then some (V1, (-1)) else (if (V1 (1, 0, 0) 59) = 7 then some (V1, (-1)) else gz_gd (gz_inb (V1 (1, 0, 0) 59) 7 = true) (gz_let (gz_up V1 (2, 60, 0) (V1 (1, 0, 0) 59).toNatClampNeg a1) (fun V7 => gz_let (gz_up V7 (1, 0, 0) 59 ((V7 (1, 0, 0) 59) + 1)) (fun V9 => some (V9, (V9 (1, 0, 0) 59)))))))))
theorem c_herd {l : Launch} {D : va_G} {aC : Nat → ClassId} {ad : gz_A0} {V : gz_V} {a1 : Int32} {W1 : gz_V} {r : Int32} (h : m_herd V a1 = some (W1, r)) : gz_Met l yX6_herd cX6_herd 2 (some .int) rm_herd D aC ad tw_S V tw_R [.ref (ad (1, 0, 0)), .int a1] (gz_F1 tw_S tw_R ad W1 (some (.int r))) 0 0 := by
  refine gt_ofW (own := RX6) (mn := "herd") (lv := [(0, .ref (ad (1, 0, 0))), (1, .int a1)]) (by decide) rfl rfl (Nat.le_of_ble_eq_true rfl) rfl ?_
  intro X hX hZ hF
  rw [m_herd] at h
  refine gz_aload_n (q := 0) hX dX6_herd_0 rfl rfl ?_
  refine gz_iconst (v := 0) hX dX6_herd_1 gk_c_0 ?_
  obtain ⟨V1, e2, h⟩ := gz_let_o h
  refine tp_told hX dX6_herd_2 e2 ?_
  refine gz_iload_n (q := 1) hX dX6_herd_5 rfl rfl ?_
  refine gz_iconst (v := (-1)) hX dX6_herd_6 gk_c_m1 ?_
  refine gz_icmp_ne (tgt := 17) hX dX6_herd_7 (by decide) (fun c3 => ?_) (fun c3 => ?_)
  · have h := gz_ifn c3 h
    refine gz_aload_n (q := 0) hX dX6_herd_17 rfl rfl ?_
    refine gz_iload_n (q := 1) hX dX6_herd_18 rfl rfl ?_
    refine gz_iconst (v := 1) hX dX6_herd_19 gk_c_1 ?_
    refine gz_bipush (v := 30) hX dX6_herd_20 gk_b_30 ?_
    refine tc_V (As := [.int a1, .int 1, .int 30]) hX (c_isIn rfl) (lw_isIn_ q1692) rfl rfl nn_isIn ⟨Nat.le_of_ble_eq_true rfl, Nat.le_of_ble_eq_true rfl⟩ rfl rfl (Nat.le_of_ble_eq_true rfl) dX6_herd_22 rfl ?_
    refine gz_if_eq (tgt := 37) hX dX6_herd_25 (by decide) (fun c4 => ?_) (fun c4 => ?_)
    · have h := gz_ifp c4 h
      refine gz_iconst (v := (-1)) hX dX6_herd_37 gk_c_m1 ?_
      obtain ⟨e1, e2⟩ := gz_in2 h
      exact gt_iret hX hZ hF e1 e2 dX6_herd_38
    · have h := gz_ifn c4 h
      refine gz_aload_n (q := 0) hX dX6_herd_28 rfl rfl ?_
      refine tg_herdMany hX dX6_herd_29 ?_
      refine gz_bipush (v := 7) hX dX6_herd_32 gk_b_7 ?_
      refine gz_icmp_ne (tgt := 39) hX dX6_herd_34 (by decide) (fun c5 => ?_) (fun c5 => ?_)
      · have h := gz_ifn c5 h
        refine gz_aload_n (q := 0) hX dX6_herd_39 rfl rfl ?_
        refine tg_herds hX dX6_herd_40 ?_
        refine gz_aload_n (q := 0) hX dX6_herd_43 rfl rfl ?_
        refine tg_herdMany hX dX6_herd_44 ?_
        refine gz_iload_n (q := 1) hX dX6_herd_47 rfl rfl ?_
        obtain ⟨b6, h⟩ := gz_gd_o h
        obtain ⟨V7, e8, h⟩ := gz_let_o h
        refine gz_iast (L := 7) hX tw_S60 (by decide) (gz_inb_o b6) dX6_herd_48 e8 ?_
        refine gz_aload_n (q := 0) hX dX6_herd_49 rfl rfl ?_
        refine gz_aload_n (q := 0) hX dX6_herd_50 rfl rfl ?_
        refine tg_herdMany hX dX6_herd_51 ?_
        refine gz_iconst (v := 1) hX dX6_herd_54 gk_c_1 ?_
        refine gz_iadd hX dX6_herd_55 ?_
        obtain ⟨V9, e10, h⟩ := gz_let_o h
        refine tp_herdMany hX dX6_herd_56 e10 ?_
        refine gz_aload_n (q := 0) hX dX6_herd_59 rfl rfl ?_
        refine tg_herdMany hX dX6_herd_60 ?_
        obtain ⟨e1, e2⟩ := gz_in2 h
        exact gt_iret hX hZ hF e1 e2 dX6_herd_63
      · have h := gz_ifp c5 h
        refine gz_iconst (v := (-1)) hX dX6_herd_37 gk_c_m1 ?_
        obtain ⟨e1, e2⟩ := gz_in2 h
        exact gt_iret hX hZ hF e1 e2 dX6_herd_38
  · have h := gz_ifp c3 h
    refine gz_aload_n (q := 0) hX dX6_herd_10 rfl rfl ?_
    refine gz_iconst (v := 0) hX dX6_herd_11 gk_c_0 ?_
    obtain ⟨V11, e12, h⟩ := gz_let_o h
    refine tp_herdMany hX dX6_herd_12 e12 ?_
    refine gz_iconst (v := 0) hX dX6_herd_15 gk_c_0 ?_
    obtain ⟨e1, e2⟩ := gz_in2 h
    exact gt_iret hX hZ hF e1 e2 dX6_herd_16
theorem lw_herd_ {i : Nat} (hl : Cond.methodLink RX6 i yX6_herd ∈ lw_all) : GoodIn lw_all (wsV RX6 i RX6 yX6_herd (ws_ yX6_herd cX6_herd 2 (some .int))) := lw_V hl q2149 q2150 q153 q2151
theorem nn_herd : yX6_herd.cls = RX6 ∧ yX6_herd.cls ≠ "java/lang/invoke/MethodHandle" ∧ yX6_herd.cls ≠ "java/lang/invoke/VarHandle" ∧ (parseMethodDescriptor yX6_herd.desc).map (fun d => d.parameters.length) = some 1 := by decide +kernel
def rm_holds : Room := { frames := 5, cells := 0, slots := 0, locals := 116 }
noncomputable def m_holds (N : Nat) (V : gz_V) (a1 : Int32) (a2 : Int32) (a3 : Int32) : Option (gz_V × Int32) := gz_let (gz_up V (1, 0, 0) 0 0) (fun V1 => (if (m_areTwo V1 a1 a2 a3) = 0 then some (V1, (-1)) else gz_bd (m_isBy V1 a3 0 (-1)) (fun V5 => gz_b2 (m_holdsOf N V5 a2 a1) (fun V8 r6 => some (V8, r6)))))
theorem c_holds {l : Launch} {D : va_G} {aC : Nat → ClassId} {ad : gz_A0} {N : Nat} {V : gz_V} {a1 : Int32} {a2 : Int32} {a3 : Int32} {W1 : gz_V} {r : Int32} (h : m_holds N V a1 a2 a3 = some (W1, r)) : gz_Met l yX6_holds cX6_holds 4 (some .int) rm_holds D aC ad tw_S V tw_R [.ref (ad (1, 0, 0)), .int a1, .int a2, .int a3] (gz_F1 tw_S tw_R ad W1 (some (.int r))) 0 0 := by
  refine gt_ofW (own := RX6) (mn := "holds") (lv := [(0, .ref (ad (1, 0, 0))), (1, .int a1), (2, .int a2), (3, .int a3)]) (by decide) rfl rfl (Nat.le_of_ble_eq_true rfl) rfl ?_
  intro X hX hZ hF
  rw [m_holds] at h
  refine gz_aload_n (q := 0) hX dX6_holds_0 rfl rfl ?_
  refine gz_iconst (v := 0) hX dX6_holds_1 gk_c_0 ?_
  obtain ⟨V1, e2, h⟩ := gz_let_o h
  refine tp_told hX dX6_holds_2 e2 ?_
  refine gz_aload_n (q := 0) hX dX6_holds_5 rfl rfl ?_
  refine gz_iload_n (q := 1) hX dX6_holds_6 rfl rfl ?_
  refine gz_iload_n (q := 2) hX dX6_holds_7 rfl rfl ?_
  refine gz_iload_n (q := 3) hX dX6_holds_8 rfl rfl ?_
  refine tc_V (As := [.int a1, .int a2, .int a3]) hX (c_areTwo rfl) (lw_areTwo_ q2006) rfl rfl nn_areTwo ⟨Nat.le_of_ble_eq_true rfl, Nat.le_of_ble_eq_true rfl⟩ rfl rfl (Nat.le_of_ble_eq_true rfl) dX6_holds_9 rfl ?_
  refine gz_if_ne (tgt := 17) hX dX6_holds_12 (by decide) (fun c3 => ?_) (fun c3 => ?_)
  · have h := gz_ifn c3 h
    refine gz_aload_n (q := 0) hX dX6_holds_17 rfl rfl ?_
    refine gz_iload_n (q := 3) hX dX6_holds_18 rfl rfl ?_
    refine gz_iconst (v := 0) hX dX6_holds_19 gk_c_0 ?_
    refine gz_iconst (v := (-1)) hX dX6_holds_20 gk_c_m1 ?_
    obtain ⟨V5, e4, h⟩ := gz_bd_o h
    refine tc_V (As := [.int a3, .int 0, .int (-1)]) hX (c_isBy e4) (lw_isBy_ q1884) rfl rfl nn_isBy ⟨Nat.le_of_ble_eq_true rfl, Nat.le_of_ble_eq_true rfl⟩ rfl rfl (Nat.le_of_ble_eq_true rfl) dX6_holds_21 rfl ?_
    refine gz_aload_n (q := 0) hX dX6_holds_24 rfl rfl ?_
    refine gz_iload_n (q := 2) hX dX6_holds_25 rfl rfl ?_
    refine gz_iload_n (q := 1) hX dX6_holds_26 rfl rfl ?_
    obtain ⟨V8, r6, e7, h⟩ := gz_b2_o h
    refine tc_V (As := [.int a2, .int a1]) hX (c_holdsOf e7) (lw_holdsOf_ q1960) rfl rfl nn_holdsOf ⟨Nat.le_of_ble_eq_true rfl, Nat.le_of_ble_eq_true rfl⟩ rfl rfl (Nat.le_of_ble_eq_true rfl) dX6_holds_27 rfl ?_
    obtain ⟨e1, e2⟩ := gz_in2 h
    exact gt_iret hX hZ hF e1 e2 dX6_holds_30
  · have h := gz_ifp c3 h
    refine gz_iconst (v := (-1)) hX dX6_holds_15 gk_c_m1 ?_
    obtain ⟨e1, e2⟩ := gz_in2 h
    exact gt_iret hX hZ hF e1 e2 dX6_holds_16
theorem lw_holds_ {i : Nat} (hl : Cond.methodLink RX6 i yX6_holds ∈ lw_all) : GoodIn lw_all (wsV RX6 i RX6 yX6_holds (ws_ yX6_holds cX6_holds 4 (some .int))) := lw_V hl q2011 q2012 q153 q2013
theorem nn_holds : yX6_holds.cls = RX6 ∧ yX6_holds.cls ≠ "java/lang/invoke/MethodHandle" ∧ yX6_holds.cls ≠ "java/lang/invoke/VarHandle" ∧ (parseMethodDescriptor yX6_holds.desc).map (fun d => d.parameters.length) = some 3 := by decide +kernel
def rm_horse : Room := { frames := 1, cells := 0, slots := 0, locals := 23 }
noncomputable def m_horse (V : gz_V) (a1 : Int32) (a2 : Int32) (a3 : Int32) : Option (gz_V × Int32) := gz_let (gz_up V (1, 0, 0) 0 0) (fun V1 => (if (m_isPerson V1 a1) = 0 then some (V1, (-1)) else (if (m_isIn a2 0 999) = 0 then some (V1, (-1)) else (if (m_isIn a3 0 9) = 0 then some (V1, (-1)) else (if (V1 (1, 0, 0) 7) = 10 then some (V1, (-1)) else gz_gd (gz_inb (101 + (V1 (1, 0, 0) 7)) 121 = true) (gz_let (gz_up V1 (2, 1, 0) (101 + (V1 (1, 0, 0) 7)).toNatClampNeg a1) (fun V8 => gz_gd (gz_inb (111 + (V8 (1, 0, 0) 7)) 121 = true) (gz_let (gz_up V8 (2, 1, 0) (111 + (V8 (1, 0, 0) 7)).toNatClampNeg 0) (fun V11 => gz_gd (gz_inb (V11 (1, 0, 0) 7) 10 = true) (gz_let (gz_up V11 (2, 8, 0) (V11 (1, 0, 0) 7).toNatClampNeg a2) (fun V14 => gz_gd (gz_inb (V14 (1, 0, 0) 7) 10 = true) (gz_let (gz_up V14 (2, 9, 0) (V14 (1, 0, 0) 7).toNatClampNeg a3) (fun V17 => gz_let (gz_up V17 (1, 0, 0) 7 ((V17 (1, 0, 0) 7) + 1)) (fun V19 => gz_let (gz_up V19 (1, 0, 0) 3 0) (fun V21 => some (V21, ((V21 (1, 0, 0) 7) - 1)))))))))))))))))
theorem c_horse {l : Launch} {D : va_G} {aC : Nat → ClassId} {ad : gz_A0} {V : gz_V} {a1 : Int32} {a2 : Int32} {a3 : Int32} {W1 : gz_V} {r : Int32} (h : m_horse V a1 a2 a3 = some (W1, r)) : gz_Met l yX6_horse cX6_horse 4 (some .int) rm_horse D aC ad tw_S V tw_R [.ref (ad (1, 0, 0)), .int a1, .int a2, .int a3] (gz_F1 tw_S tw_R ad W1 (some (.int r))) 0 0 := by
  refine gt_ofW (own := RX6) (mn := "horse") (lv := [(0, .ref (ad (1, 0, 0))), (1, .int a1), (2, .int a2), (3, .int a3)]) (by decide) rfl rfl (Nat.le_of_ble_eq_true rfl) rfl ?_
  intro X hX hZ hF
  rw [m_horse] at h
  refine gz_aload_n (q := 0) hX dX6_horse_0 rfl rfl ?_
  refine gz_iconst (v := 0) hX dX6_horse_1 gk_c_0 ?_
  obtain ⟨V1, e2, h⟩ := gz_let_o h
  refine tp_told hX dX6_horse_2 e2 ?_
  refine gz_aload_n (q := 0) hX dX6_horse_5 rfl rfl ?_
  refine gz_iload_n (q := 1) hX dX6_horse_6 rfl rfl ?_
  refine tc_V (As := [.int a1]) hX (c_isPerson rfl) (lw_isPerson_ q1708) rfl rfl nn_isPerson ⟨Nat.le_of_ble_eq_true rfl, Nat.le_of_ble_eq_true rfl⟩ rfl rfl (Nat.le_of_ble_eq_true rfl) dX6_horse_7 rfl ?_
  refine gz_if_eq (tgt := 45) hX dX6_horse_10 (by decide) (fun c3 => ?_) (fun c3 => ?_)
  · have h := gz_ifp c3 h
    refine gz_iconst (v := (-1)) hX dX6_horse_45 gk_c_m1 ?_
    obtain ⟨e1, e2⟩ := gz_in2 h
    exact gt_iret hX hZ hF e1 e2 dX6_horse_46
  · have h := gz_ifn c3 h
    refine gz_aload_n (q := 0) hX dX6_horse_13 rfl rfl ?_
    refine gz_iload_n (q := 2) hX dX6_horse_14 rfl rfl ?_
    refine gz_iconst (v := 0) hX dX6_horse_15 gk_c_0 ?_
    refine gz_sipush (v := 999) hX dX6_horse_16 gk_s_999 ?_
    refine tc_V (As := [.int a2, .int 0, .int 999]) hX (c_isIn rfl) (lw_isIn_ q1692) rfl rfl nn_isIn ⟨Nat.le_of_ble_eq_true rfl, Nat.le_of_ble_eq_true rfl⟩ rfl rfl (Nat.le_of_ble_eq_true rfl) dX6_horse_19 rfl ?_
    refine gz_if_eq (tgt := 45) hX dX6_horse_22 (by decide) (fun c4 => ?_) (fun c4 => ?_)
    · have h := gz_ifp c4 h
      refine gz_iconst (v := (-1)) hX dX6_horse_45 gk_c_m1 ?_
      obtain ⟨e1, e2⟩ := gz_in2 h
      exact gt_iret hX hZ hF e1 e2 dX6_horse_46
    · have h := gz_ifn c4 h
      refine gz_aload_n (q := 0) hX dX6_horse_25 rfl rfl ?_
      refine gz_iload_n (q := 3) hX dX6_horse_26 rfl rfl ?_
      refine gz_iconst (v := 0) hX dX6_horse_27 gk_c_0 ?_
      refine gz_bipush (v := 9) hX dX6_horse_28 gk_b_9 ?_
      refine tc_V (As := [.int a3, .int 0, .int 9]) hX (c_isIn rfl) (lw_isIn_ q1692) rfl rfl nn_isIn ⟨Nat.le_of_ble_eq_true rfl, Nat.le_of_ble_eq_true rfl⟩ rfl rfl (Nat.le_of_ble_eq_true rfl) dX6_horse_30 rfl ?_
      refine gz_if_eq (tgt := 45) hX dX6_horse_33 (by decide) (fun c5 => ?_) (fun c5 => ?_)
      · have h := gz_ifp c5 h
        refine gz_iconst (v := (-1)) hX dX6_horse_45 gk_c_m1 ?_
        obtain ⟨e1, e2⟩ := gz_in2 h
        exact gt_iret hX hZ hF e1 e2 dX6_horse_46
      · have h := gz_ifn c5 h
        refine gz_aload_n (q := 0) hX dX6_horse_36 rfl rfl ?_
        refine tg_horses hX dX6_horse_37 ?_
        refine gz_bipush (v := 10) hX dX6_horse_40 gk_b_10 ?_
        refine gz_icmp_ne (tgt := 47) hX dX6_horse_42 (by decide) (fun c6 => ?_) (fun c6 => ?_)
        · have h := gz_ifn c6 h
          refine gz_aload_n (q := 0) hX dX6_horse_47 rfl rfl ?_
          refine tg_now hX dX6_horse_48 ?_
          refine gz_bipush (v := 101) hX dX6_horse_51 gk_b_101 ?_
          refine gz_aload_n (q := 0) hX dX6_horse_53 rfl rfl ?_
          refine tg_horses hX dX6_horse_54 ?_
          refine gz_iadd hX dX6_horse_57 ?_
          refine gz_iload_n (q := 1) hX dX6_horse_58 rfl rfl ?_
          obtain ⟨b7, h⟩ := gz_gd_o h
          obtain ⟨V8, e9, h⟩ := gz_let_o h
          refine gz_iast (L := 121) hX tw_S1 (by decide) (gz_inb_o b7) dX6_horse_59 e9 ?_
          refine gz_aload_n (q := 0) hX dX6_horse_60 rfl rfl ?_
          refine tg_now hX dX6_horse_61 ?_
          refine gz_bipush (v := 111) hX dX6_horse_64 gk_b_111 ?_
          refine gz_aload_n (q := 0) hX dX6_horse_66 rfl rfl ?_
          refine tg_horses hX dX6_horse_67 ?_
          refine gz_iadd hX dX6_horse_70 ?_
          refine gz_iconst (v := 0) hX dX6_horse_71 gk_c_0 ?_
          obtain ⟨b10, h⟩ := gz_gd_o h
          obtain ⟨V11, e12, h⟩ := gz_let_o h
          refine gz_iast (L := 121) hX tw_S1 (by decide) (gz_inb_o b10) dX6_horse_72 e12 ?_
          refine gz_aload_n (q := 0) hX dX6_horse_73 rfl rfl ?_
          refine tg_worth hX dX6_horse_74 ?_
          refine gz_aload_n (q := 0) hX dX6_horse_77 rfl rfl ?_
          refine tg_horses hX dX6_horse_78 ?_
          refine gz_iload_n (q := 2) hX dX6_horse_81 rfl rfl ?_
          obtain ⟨b13, h⟩ := gz_gd_o h
          obtain ⟨V14, e15, h⟩ := gz_let_o h
          refine gz_iast (L := 10) hX tw_S8 (by decide) (gz_inb_o b13) dX6_horse_82 e15 ?_
          refine gz_aload_n (q := 0) hX dX6_horse_83 rfl rfl ?_
          refine tg_spirit hX dX6_horse_84 ?_
          refine gz_aload_n (q := 0) hX dX6_horse_87 rfl rfl ?_
          refine tg_horses hX dX6_horse_88 ?_
          refine gz_iload_n (q := 3) hX dX6_horse_91 rfl rfl ?_
          obtain ⟨b16, h⟩ := gz_gd_o h
          obtain ⟨V17, e18, h⟩ := gz_let_o h
          refine gz_iast (L := 10) hX tw_S9 (by decide) (gz_inb_o b16) dX6_horse_92 e18 ?_
          refine gz_aload_n (q := 0) hX dX6_horse_93 rfl rfl ?_
          refine gz_aload_n (q := 0) hX dX6_horse_94 rfl rfl ?_
          refine tg_horses hX dX6_horse_95 ?_
          refine gz_iconst (v := 1) hX dX6_horse_98 gk_c_1 ?_
          refine gz_iadd hX dX6_horse_99 ?_
          obtain ⟨V19, e20, h⟩ := gz_let_o h
          refine tp_horses hX dX6_horse_100 e20 ?_
          refine gz_aload_n (q := 0) hX dX6_horse_103 rfl rfl ?_
          refine gz_iconst (v := 0) hX dX6_horse_104 gk_c_0 ?_
          obtain ⟨V21, e22, h⟩ := gz_let_o h
          refine tp_undoable hX dX6_horse_105 e22 ?_
          refine gz_aload_n (q := 0) hX dX6_horse_108 rfl rfl ?_
          refine tg_horses hX dX6_horse_109 ?_
          refine gz_iconst (v := 1) hX dX6_horse_112 gk_c_1 ?_
          refine gz_isub hX dX6_horse_113 ?_
          obtain ⟨e1, e2⟩ := gz_in2 h
          exact gt_iret hX hZ hF e1 e2 dX6_horse_114
        · have h := gz_ifp c6 h
          refine gz_iconst (v := (-1)) hX dX6_horse_45 gk_c_m1 ?_
          obtain ⟨e1, e2⟩ := gz_in2 h
          exact gt_iret hX hZ hF e1 e2 dX6_horse_46
theorem lw_horse_ {i : Nat} (hl : Cond.methodLink RX6 i yX6_horse ∈ lw_all) : GoodIn lw_all (wsV RX6 i RX6 yX6_horse (ws_ yX6_horse cX6_horse 4 (some .int))) := lw_V hl q1705 q1706 q153 q1707
theorem nn_horse : yX6_horse.cls = RX6 ∧ yX6_horse.cls ≠ "java/lang/invoke/MethodHandle" ∧ yX6_horse.cls ≠ "java/lang/invoke/VarHandle" ∧ (parseMethodDescriptor yX6_horse.desc).map (fun d => d.parameters.length) = some 3 := by decide +kernel
