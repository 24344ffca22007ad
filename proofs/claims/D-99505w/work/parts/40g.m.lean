/-! THE TWIN, walked. Printed by wip/D-99505w/gen/mkx6.py -/
set_option maxRecDepth 100000
def rm_readUnit : Room := { frames := 3, cells := 0, slots := 0, locals := 65 }
noncomputable def m_readUnit (N : Nat) (V : gz_V) : Option (gz_V × Int32) := gz_let (if (V (1, 0, 0) 15) = 2 then (if (m_canAsk (V (1, 0, 0) 16)) = 0 then (0 : Int32) else (1 : Int32)) else (0 : Int32)) (fun y1 => (if y1 = 0 then (if (V (1, 0, 0) 15) = 3 then gz_let (if y1 = 0 then (0 : Int32) else (1 : Int32)) (fun y20 => gz_let (if y1 = 0 then (V (1, 0, 0) 16) else ((V (1, 0, 0) 16) - 7)) (fun y24 => gz_bd (m_emits V y20 y24) (fun V29 => gz_bd (m_reads N V29) (fun V31 => some (V31, 0))))) else gz_b2 (m_errs V 1) (fun V34 r32 => some (V34, r32))) else gz_let (if y1 = 0 then (0 : Int32) else (1 : Int32)) (fun y7 => gz_let (if y1 = 0 then (V (1, 0, 0) 16) else ((V (1, 0, 0) 16) - 7)) (fun y11 => gz_bd (m_emits V y7 y11) (fun V16 => gz_bd (m_reads N V16) (fun V18 => some (V18, 0)))))))
theorem c_readUnit {l : Launch} {D : va_G} {aC : Nat → ClassId} {ad : gz_A0} {N : Nat} {V : gz_V} {W1 : gz_V} {r : Int32} (h : m_readUnit N V = some (W1, r)) : gz_Met l yX6_readUnit cX6_readUnit 2 (some .int) rm_readUnit D aC ad tw_S V tw_R [.ref (ad (1, 0, 0))] (gz_F1 tw_S tw_R ad W1 (some (.int r))) 0 0 := by
  refine gt_ofW (own := RX6) (mn := "readUnit") (lv := [(0, .ref (ad (1, 0, 0)))]) (by decide) rfl rfl (Nat.le_of_ble_eq_true rfl) rfl ?_
  intro X hX hZ hF
  rw [m_readUnit] at h
  refine gz_aload_n (q := 0) hX dX6_readUnit_0 rfl rfl ?_
  refine tg_token hX dX6_readUnit_1 ?_
  refine gz_iconst (v := 2) hX dX6_readUnit_4 gk_c_2 ?_
  obtain ⟨y1, g2, h⟩ := gz_let_o h
  have J3 : gW X 2 tw_S tw_R ad V 0 0 24 [(0, .ref (ad (1, 0, 0)))] [.int y1] := by
    refine gz_istore_n (lv2 := [(1, .int y1), (0, .ref (ad (1, 0, 0)))]) hX dX6_readUnit_24 rfl (by decide) rfl ?_
    refine gz_iload_n (q := 0) hX dX6_readUnit_25 rfl rfl ?_
    refine gz_if_ne (tgt := 43) hX dX6_readUnit_26 (by decide) (fun c6 => ?_) (fun c6 => ?_)
    · have h := gz_ifn c6 h
      refine gz_aload_n (q := 1) hX dX6_readUnit_43 rfl rfl ?_
      refine gz_iload_n (q := 0) hX dX6_readUnit_44 rfl rfl ?_
      obtain ⟨y7, g8, h⟩ := gz_let_o h
      have J9 : gW X 2 tw_S tw_R ad V 0 0 53 [(0, .ref (ad (1, 0, 0))), (1, .int y1)] [.int y7, .ref (ad (1, 0, 0))] := by
        refine gz_iload_n (q := 1) hX dX6_readUnit_53 rfl rfl ?_
        obtain ⟨y11, g12, h⟩ := gz_let_o h
        have J13 : gW X 2 tw_S tw_R ad V 0 0 71 [(0, .ref (ad (1, 0, 0)))] [.int y11, .int y7, .ref (ad (1, 0, 0))] := by
          obtain ⟨V16, e15, h⟩ := gz_bd_o h
          refine tc_V (As := [.int y7, .int y11]) hX (c_emits e15) (lw_emits_ q1840) rfl rfl nn_emits ⟨Nat.le_of_ble_eq_true rfl, Nat.le_of_ble_eq_true rfl⟩ rfl rfl (Nat.le_of_ble_eq_true rfl) dX6_readUnit_71 rfl ?_
          refine gz_aload_n (q := 0) hX dX6_readUnit_74 rfl rfl ?_
          obtain ⟨V18, e17, h⟩ := gz_bd_o h
          refine tc_V (As := []) hX (c_reads e17) (lw_reads_ q1744) rfl rfl nn_reads ⟨Nat.le_of_ble_eq_true rfl, Nat.le_of_ble_eq_true rfl⟩ rfl rfl (Nat.le_of_ble_eq_true rfl) dX6_readUnit_75 rfl ?_
          refine gz_iconst (v := 0) hX dX6_readUnit_78 gk_c_0 ?_
          obtain ⟨e1, e2⟩ := gz_in2 h
          exact gt_iret hX hZ hF e1 e2 dX6_readUnit_79
        refine gz_if_eq (tgt := 67) hX dX6_readUnit_54 (by decide) (fun c14 => ?_) (fun c14 => ?_)
        · have g12 := gz_ifp c14 g12
          refine gz_aload_n (q := 0) hX dX6_readUnit_67 rfl rfl ?_
          refine tg_value hX dX6_readUnit_68 ?_
          obtain rfl := g12
          exact gz_lv [0] rfl J13
        · have g12 := gz_ifn c14 g12
          refine gz_aload_n (q := 0) hX dX6_readUnit_57 rfl rfl ?_
          refine tg_value hX dX6_readUnit_58 ?_
          refine gz_bipush (v := 7) hX dX6_readUnit_61 gk_b_7 ?_
          refine gz_isub hX dX6_readUnit_63 ?_
          refine gz_goto (tgt := 71) hX dX6_readUnit_64 (by decide) ?_
          obtain rfl := g12
          exact gz_lv [0] rfl J13
      refine gz_if_eq (tgt := 52) hX dX6_readUnit_45 (by decide) (fun c10 => ?_) (fun c10 => ?_)
      · have g8 := gz_ifp c10 g8
        refine gz_iconst (v := 0) hX dX6_readUnit_52 gk_c_0 ?_
        obtain rfl := g8
        exact gz_lv [1, 0] rfl J9
      · have g8 := gz_ifn c10 g8
        refine gz_iconst (v := 1) hX dX6_readUnit_48 gk_c_1 ?_
        refine gz_goto (tgt := 53) hX dX6_readUnit_49 (by decide) ?_
        obtain rfl := g8
        exact gz_lv [1, 0] rfl J9
    · have h := gz_ifp c6 h
      refine gz_aload_n (q := 1) hX dX6_readUnit_29 rfl rfl ?_
      refine tg_token hX dX6_readUnit_30 ?_
      refine gz_iconst (v := 3) hX dX6_readUnit_33 gk_c_3 ?_
      refine gz_icmp_eq (tgt := 43) hX dX6_readUnit_34 (by decide) (fun c19 => ?_) (fun c19 => ?_)
      · have h := gz_ifp c19 h
        refine gz_aload_n (q := 1) hX dX6_readUnit_43 rfl rfl ?_
        refine gz_iload_n (q := 0) hX dX6_readUnit_44 rfl rfl ?_
        obtain ⟨y20, g21, h⟩ := gz_let_o h
        have J22 : gW X 2 tw_S tw_R ad V 0 0 53 [(0, .ref (ad (1, 0, 0))), (1, .int y1)] [.int y20, .ref (ad (1, 0, 0))] := by
          refine gz_iload_n (q := 1) hX dX6_readUnit_53 rfl rfl ?_
          obtain ⟨y24, g25, h⟩ := gz_let_o h
          have J26 : gW X 2 tw_S tw_R ad V 0 0 71 [(0, .ref (ad (1, 0, 0)))] [.int y24, .int y20, .ref (ad (1, 0, 0))] := by
            obtain ⟨V29, e28, h⟩ := gz_bd_o h
            refine tc_V (As := [.int y20, .int y24]) hX (c_emits e28) (lw_emits_ q1840) rfl rfl nn_emits ⟨Nat.le_of_ble_eq_true rfl, Nat.le_of_ble_eq_true rfl⟩ rfl rfl (Nat.le_of_ble_eq_true rfl) dX6_readUnit_71 rfl ?_
            refine gz_aload_n (q := 0) hX dX6_readUnit_74 rfl rfl ?_
            obtain ⟨V31, e30, h⟩ := gz_bd_o h
            refine tc_V (As := []) hX (c_reads e30) (lw_reads_ q1744) rfl rfl nn_reads ⟨Nat.le_of_ble_eq_true rfl, Nat.le_of_ble_eq_true rfl⟩ rfl rfl (Nat.le_of_ble_eq_true rfl) dX6_readUnit_75 rfl ?_
            refine gz_iconst (v := 0) hX dX6_readUnit_78 gk_c_0 ?_
            obtain ⟨e1, e2⟩ := gz_in2 h
            exact gt_iret hX hZ hF e1 e2 dX6_readUnit_79
          refine gz_if_eq (tgt := 67) hX dX6_readUnit_54 (by decide) (fun c27 => ?_) (fun c27 => ?_)
          · have g25 := gz_ifp c27 g25
            refine gz_aload_n (q := 0) hX dX6_readUnit_67 rfl rfl ?_
            refine tg_value hX dX6_readUnit_68 ?_
            obtain rfl := g25
            exact gz_lv [0] rfl J26
          · have g25 := gz_ifn c27 g25
            refine gz_aload_n (q := 0) hX dX6_readUnit_57 rfl rfl ?_
            refine tg_value hX dX6_readUnit_58 ?_
            refine gz_bipush (v := 7) hX dX6_readUnit_61 gk_b_7 ?_
            refine gz_isub hX dX6_readUnit_63 ?_
            refine gz_goto (tgt := 71) hX dX6_readUnit_64 (by decide) ?_
            obtain rfl := g25
            exact gz_lv [0] rfl J26
        refine gz_if_eq (tgt := 52) hX dX6_readUnit_45 (by decide) (fun c23 => ?_) (fun c23 => ?_)
        · have g21 := gz_ifp c23 g21
          refine gz_iconst (v := 0) hX dX6_readUnit_52 gk_c_0 ?_
          obtain rfl := g21
          exact gz_lv [1, 0] rfl J22
        · have g21 := gz_ifn c23 g21
          refine gz_iconst (v := 1) hX dX6_readUnit_48 gk_c_1 ?_
          refine gz_goto (tgt := 53) hX dX6_readUnit_49 (by decide) ?_
          obtain rfl := g21
          exact gz_lv [1, 0] rfl J22
      · have h := gz_ifn c19 h
        refine gz_aload_n (q := 1) hX dX6_readUnit_37 rfl rfl ?_
        refine gz_iconst (v := 1) hX dX6_readUnit_38 gk_c_1 ?_
        obtain ⟨V34, r32, e33, h⟩ := gz_b2_o h
        refine tc_V (As := [.int 1]) hX (c_errs e33) (lw_errs_ q1776) rfl rfl nn_errs ⟨Nat.le_of_ble_eq_true rfl, Nat.le_of_ble_eq_true rfl⟩ rfl rfl (Nat.le_of_ble_eq_true rfl) dX6_readUnit_39 rfl ?_
        obtain ⟨e1, e2⟩ := gz_in2 h
        exact gt_iret hX hZ hF e1 e2 dX6_readUnit_42
  refine gz_icmp_ne (tgt := 23) hX dX6_readUnit_5 (by decide) (fun c4 => ?_) (fun c4 => ?_)
  · have g2 := gz_ifn c4 g2
    refine gz_iconst (v := 0) hX dX6_readUnit_23 gk_c_0 ?_
    obtain rfl := g2
    exact gz_lv [0] rfl J3
  · have g2 := gz_ifp c4 g2
    refine gz_aload_n (q := 0) hX dX6_readUnit_8 rfl rfl ?_
    refine gz_aload_n (q := 0) hX dX6_readUnit_9 rfl rfl ?_
    refine tg_value hX dX6_readUnit_10 ?_
    refine tc_V (As := [.int (V (1, 0, 0) 16)]) hX (c_canAsk rfl) (lw_canAsk_ q1836) rfl rfl nn_canAsk ⟨Nat.le_of_ble_eq_true rfl, Nat.le_of_ble_eq_true rfl⟩ rfl rfl (Nat.le_of_ble_eq_true rfl) dX6_readUnit_13 rfl ?_
    refine gz_if_eq (tgt := 23) hX dX6_readUnit_16 (by decide) (fun c5 => ?_) (fun c5 => ?_)
    · have g2 := gz_ifp c5 g2
      refine gz_iconst (v := 0) hX dX6_readUnit_23 gk_c_0 ?_
      obtain rfl := g2
      exact gz_lv [0] rfl J3
    · have g2 := gz_ifn c5 g2
      refine gz_iconst (v := 1) hX dX6_readUnit_19 gk_c_1 ?_
      refine gz_goto (tgt := 24) hX dX6_readUnit_20 (by decide) ?_
      obtain rfl := g2
      exact gz_lv [0] rfl J3
theorem lw_readUnit_ {i : Nat} (hl : Cond.methodLink RX6 i yX6_readUnit ∈ lw_all) : GoodIn lw_all (wsV RX6 i RX6 yX6_readUnit (ws_ yX6_readUnit cX6_readUnit 2 (some .int))) := lw_V hl q1834 qs83 q153 q1835
theorem nn_readUnit : yX6_readUnit.cls = RX6 ∧ yX6_readUnit.cls ≠ "java/lang/invoke/MethodHandle" ∧ yX6_readUnit.cls ≠ "java/lang/invoke/VarHandle" ∧ (parseMethodDescriptor yX6_readUnit.desc).map (fun d => d.parameters.length) = some 0 := by decide +kernel
def rm_readProduct : Room := { frames := 4, cells := 0, slots := 0, locals := 86 }
noncomputable def m_readProduct_L10 (N : Nat) : Nat → gz_V → Option ((gz_V × Int32) ⊕ (gz_V))
  | 0, _ => none
  | n + 1, V => (if (m_isSign V 42) = 0 then (if (m_isSign V 47) = 0 then some (.inr V) else gz_let (m_isSign V 42) (fun x66 => gz_bd (m_reads N V) (fun V69 => (if x66 = 0 then (if (V69 (1, 0, 0) 15) = 3 then (if x66 = 0 then (if (V69 (1, 0, 0) 16) = 0 then gz_b2 (m_errs V69 2) (fun V121 r119 => some (.inl (V121, r119))) else gz_b2 (m_readUnit N V69) (fun V111 r109 => (if r109 = (-1) then some (.inl (V111, (-1))) else gz_let (if x66 = 0 then (5 : Int32) else (4 : Int32)) (fun y113 => gz_bd (m_emits V111 y113 0) (fun V118 => m_readProduct_L10 N n V118))))) else gz_b2 (m_readUnit N V69) (fun V100 r98 => (if r98 = (-1) then some (.inl (V100, (-1))) else gz_let (if x66 = 0 then (5 : Int32) else (4 : Int32)) (fun y102 => gz_bd (m_emits V100 y102 0) (fun V107 => m_readProduct_L10 N n V107))))) else gz_b2 (m_errs V69 1) (fun V124 r122 => some (.inl (V124, r122)))) else (if x66 = 0 then (if (V69 (1, 0, 0) 16) = 0 then gz_b2 (m_errs V69 2) (fun V95 r93 => some (.inl (V95, r93))) else gz_b2 (m_readUnit N V69) (fun V85 r83 => (if r83 = (-1) then some (.inl (V85, (-1))) else gz_let (if x66 = 0 then (5 : Int32) else (4 : Int32)) (fun y87 => gz_bd (m_emits V85 y87 0) (fun V92 => m_readProduct_L10 N n V92))))) else gz_b2 (m_readUnit N V69) (fun V74 r72 => (if r72 = (-1) then some (.inl (V74, (-1))) else gz_let (if x66 = 0 then (5 : Int32) else (4 : Int32)) (fun y76 => gz_bd (m_emits V74 y76 0) (fun V81 => m_readProduct_L10 N n V81))))))))) else gz_let (m_isSign V 42) (fun x6 => gz_bd (m_reads N V) (fun V9 => (if x6 = 0 then (if (V9 (1, 0, 0) 15) = 3 then (if x6 = 0 then (if (V9 (1, 0, 0) 16) = 0 then gz_b2 (m_errs V9 2) (fun V61 r59 => some (.inl (V61, r59))) else gz_b2 (m_readUnit N V9) (fun V51 r49 => (if r49 = (-1) then some (.inl (V51, (-1))) else gz_let (if x6 = 0 then (5 : Int32) else (4 : Int32)) (fun y53 => gz_bd (m_emits V51 y53 0) (fun V58 => m_readProduct_L10 N n V58))))) else gz_b2 (m_readUnit N V9) (fun V40 r38 => (if r38 = (-1) then some (.inl (V40, (-1))) else gz_let (if x6 = 0 then (5 : Int32) else (4 : Int32)) (fun y42 => gz_bd (m_emits V40 y42 0) (fun V47 => m_readProduct_L10 N n V47))))) else gz_b2 (m_errs V9 1) (fun V64 r62 => some (.inl (V64, r62)))) else (if x6 = 0 then (if (V9 (1, 0, 0) 16) = 0 then gz_b2 (m_errs V9 2) (fun V35 r33 => some (.inl (V35, r33))) else gz_b2 (m_readUnit N V9) (fun V25 r23 => (if r23 = (-1) then some (.inl (V25, (-1))) else gz_let (if x6 = 0 then (5 : Int32) else (4 : Int32)) (fun y27 => gz_bd (m_emits V25 y27 0) (fun V32 => m_readProduct_L10 N n V32))))) else gz_b2 (m_readUnit N V9) (fun V14 r12 => (if r12 = (-1) then some (.inl (V14, (-1))) else gz_let (if x6 = 0 then (5 : Int32) else (4 : Int32)) (fun y16 => gz_bd (m_emits V14 y16 0) (fun V21 => m_readProduct_L10 N n V21)))))))))
theorem w_m_readProduct_L10 {X : gz_X} {ad : gz_A0} (hX : gz_ok X cX6_readProduct RX6 "readProduct" 2 rm_readProduct (some .int)) (hZ : gz_Z X) {N : Nat} {out : (gz_V × Int32) ⊕ (gz_V)} (hout : (∃ (W2 : gz_V) (r : Int32), out = .inl (W2, r) ∧ gx_F X tw_S W2 tw_R ad (some (.int r))) ∨ (∃ (W1 : gz_V), out = .inr W1 ∧ gW X 2 tw_S tw_R ad W1 0 0 101 [] [])) : ∀ (n : Nat) {V : gz_V}, m_readProduct_L10 N n V = some out → gW X 2 tw_S tw_R ad V 0 0 10 [(0, .ref (ad (1, 0, 0)))] [] := by
  intro n
  induction n with
  | zero => intro V h; rw [m_readProduct_L10] at h; cases h
  | succ n ih =>
    intro V h
    rw [m_readProduct_L10] at h
    refine gz_aload_n (q := 0) hX dX6_readProduct_10 rfl rfl ?_
    refine gz_bipush (v := 42) hX dX6_readProduct_11 gk_b_42 ?_
    refine tc_V (As := [.int 42]) hX (c_isSign rfl) (lw_isSign_ q1796) rfl rfl nn_isSign ⟨Nat.le_of_ble_eq_true rfl, Nat.le_of_ble_eq_true rfl⟩ rfl rfl (Nat.le_of_ble_eq_true rfl) dX6_readProduct_13 rfl ?_
    refine gz_if_ne (tgt := 28) hX dX6_readProduct_16 (by decide) (fun c5 => ?_) (fun c5 => ?_)
    · have h := gz_ifn c5 h
      refine gz_aload_n (q := 0) hX dX6_readProduct_28 rfl rfl ?_
      refine gz_bipush (v := 42) hX dX6_readProduct_29 gk_b_42 ?_
      refine tc_V (As := [.int 42]) hX (c_isSign rfl) (lw_isSign_ q1796) rfl rfl nn_isSign ⟨Nat.le_of_ble_eq_true rfl, Nat.le_of_ble_eq_true rfl⟩ rfl rfl (Nat.le_of_ble_eq_true rfl) dX6_readProduct_31 rfl ?_
      obtain ⟨x6, e7, h⟩ := gz_let_o h
      refine gz_nm e7 ?_
      refine gz_istore_n (lv2 := [(1, .int x6), (0, .ref (ad (1, 0, 0)))]) hX dX6_readProduct_34 rfl (by decide) rfl ?_
      refine gz_aload_n (q := 1) hX dX6_readProduct_35 rfl rfl ?_
      obtain ⟨V9, e8, h⟩ := gz_bd_o h
      refine tc_V (As := []) hX (c_reads e8) (lw_reads_ q1744) rfl rfl nn_reads ⟨Nat.le_of_ble_eq_true rfl, Nat.le_of_ble_eq_true rfl⟩ rfl rfl (Nat.le_of_ble_eq_true rfl) dX6_readProduct_36 rfl ?_
      refine gz_iload_n (q := 0) hX dX6_readProduct_39 rfl rfl ?_
      refine gz_if_ne (tgt := 57) hX dX6_readProduct_40 (by decide) (fun c10 => ?_) (fun c10 => ?_)
      · have h := gz_ifn c10 h
        refine gz_iload_n (q := 0) hX dX6_readProduct_57 rfl rfl ?_
        refine gz_if_ne (tgt := 74) hX dX6_readProduct_58 (by decide) (fun c11 => ?_) (fun c11 => ?_)
        · have h := gz_ifn c11 h
          refine gz_aload_n (q := 1) hX dX6_readProduct_74 rfl rfl ?_
          obtain ⟨V14, r12, e13, h⟩ := gz_b2_o h
          refine tc_V (As := []) hX (c_readUnit e13) (lw_readUnit_ q1832) rfl rfl nn_readUnit ⟨Nat.le_of_ble_eq_true rfl, Nat.le_of_ble_eq_true rfl⟩ rfl rfl (Nat.le_of_ble_eq_true rfl) dX6_readProduct_75 rfl ?_
          refine gz_iconst (v := (-1)) hX dX6_readProduct_78 gk_c_m1 ?_
          refine gz_icmp_ne (tgt := 84) hX dX6_readProduct_79 (by decide) (fun c15 => ?_) (fun c15 => ?_)
          · have h := gz_ifn c15 h
            refine gz_aload_n (q := 1) hX dX6_readProduct_84 rfl rfl ?_
            refine gz_iload_n (q := 0) hX dX6_readProduct_85 rfl rfl ?_
            obtain ⟨y16, g17, h⟩ := gz_let_o h
            have J18 : gW X 2 tw_S tw_R ad V14 0 0 94 [(0, .ref (ad (1, 0, 0)))] [.int y16, .ref (ad (1, 0, 0))] := by
              refine gz_iconst (v := 0) hX dX6_readProduct_94 gk_c_0 ?_
              obtain ⟨V21, e20, h⟩ := gz_bd_o h
              refine tc_V (As := [.int y16, .int 0]) hX (c_emits e20) (lw_emits_ q1840) rfl rfl nn_emits ⟨Nat.le_of_ble_eq_true rfl, Nat.le_of_ble_eq_true rfl⟩ rfl rfl (Nat.le_of_ble_eq_true rfl) dX6_readProduct_95 rfl ?_
              refine gz_goto (tgt := 10) hX dX6_readProduct_98 (by decide) ?_
              exact gz_lv [0] rfl (ih h)
            refine gz_if_eq (tgt := 93) hX dX6_readProduct_86 (by decide) (fun c19 => ?_) (fun c19 => ?_)
            · have g17 := gz_ifp c19 g17
              refine gz_iconst (v := 5) hX dX6_readProduct_93 gk_c_5 ?_
              obtain rfl := g17
              exact gz_lv [1] rfl J18
            · have g17 := gz_ifn c19 g17
              refine gz_iconst (v := 4) hX dX6_readProduct_89 gk_c_4 ?_
              refine gz_goto (tgt := 94) hX dX6_readProduct_90 (by decide) ?_
              obtain rfl := g17
              exact gz_lv [1] rfl J18
          · have h := gz_ifp c15 h
            refine gz_iconst (v := (-1)) hX dX6_readProduct_82 gk_c_m1 ?_
            obtain rfl := gz_in1 h
            obtain ⟨_, _, e0, hF⟩ | ⟨_, e0, _⟩ := hout
            · cases e0
              exact gt_iret hX hZ hF rfl rfl dX6_readProduct_83
            · cases e0
        · have h := gz_ifp c11 h
          refine gz_aload_n (q := 1) hX dX6_readProduct_61 rfl rfl ?_
          refine tg_value hX dX6_readProduct_62 ?_
          refine gz_if_ne (tgt := 74) hX dX6_readProduct_65 (by decide) (fun c22 => ?_) (fun c22 => ?_)
          · have h := gz_ifn c22 h
            refine gz_aload_n (q := 1) hX dX6_readProduct_74 rfl rfl ?_
            obtain ⟨V25, r23, e24, h⟩ := gz_b2_o h
            refine tc_V (As := []) hX (c_readUnit e24) (lw_readUnit_ q1832) rfl rfl nn_readUnit ⟨Nat.le_of_ble_eq_true rfl, Nat.le_of_ble_eq_true rfl⟩ rfl rfl (Nat.le_of_ble_eq_true rfl) dX6_readProduct_75 rfl ?_
            refine gz_iconst (v := (-1)) hX dX6_readProduct_78 gk_c_m1 ?_
            refine gz_icmp_ne (tgt := 84) hX dX6_readProduct_79 (by decide) (fun c26 => ?_) (fun c26 => ?_)
            · have h := gz_ifn c26 h
              refine gz_aload_n (q := 1) hX dX6_readProduct_84 rfl rfl ?_
              refine gz_iload_n (q := 0) hX dX6_readProduct_85 rfl rfl ?_
              obtain ⟨y27, g28, h⟩ := gz_let_o h
              have J29 : gW X 2 tw_S tw_R ad V25 0 0 94 [(0, .ref (ad (1, 0, 0)))] [.int y27, .ref (ad (1, 0, 0))] := by
                refine gz_iconst (v := 0) hX dX6_readProduct_94 gk_c_0 ?_
                obtain ⟨V32, e31, h⟩ := gz_bd_o h
                refine tc_V (As := [.int y27, .int 0]) hX (c_emits e31) (lw_emits_ q1840) rfl rfl nn_emits ⟨Nat.le_of_ble_eq_true rfl, Nat.le_of_ble_eq_true rfl⟩ rfl rfl (Nat.le_of_ble_eq_true rfl) dX6_readProduct_95 rfl ?_
                refine gz_goto (tgt := 10) hX dX6_readProduct_98 (by decide) ?_
                exact gz_lv [0] rfl (ih h)
              refine gz_if_eq (tgt := 93) hX dX6_readProduct_86 (by decide) (fun c30 => ?_) (fun c30 => ?_)
              · have g28 := gz_ifp c30 g28
                refine gz_iconst (v := 5) hX dX6_readProduct_93 gk_c_5 ?_
                obtain rfl := g28
                exact gz_lv [1] rfl J29
              · have g28 := gz_ifn c30 g28
                refine gz_iconst (v := 4) hX dX6_readProduct_89 gk_c_4 ?_
                refine gz_goto (tgt := 94) hX dX6_readProduct_90 (by decide) ?_
                obtain rfl := g28
                exact gz_lv [1] rfl J29
            · have h := gz_ifp c26 h
              refine gz_iconst (v := (-1)) hX dX6_readProduct_82 gk_c_m1 ?_
              obtain rfl := gz_in1 h
              obtain ⟨_, _, e0, hF⟩ | ⟨_, e0, _⟩ := hout
              · cases e0
                exact gt_iret hX hZ hF rfl rfl dX6_readProduct_83
              · cases e0
          · have h := gz_ifp c22 h
            refine gz_aload_n (q := 1) hX dX6_readProduct_68 rfl rfl ?_
            refine gz_iconst (v := 2) hX dX6_readProduct_69 gk_c_2 ?_
            obtain ⟨V35, r33, e34, h⟩ := gz_b2_o h
            refine tc_V (As := [.int 2]) hX (c_errs e34) (lw_errs_ q1776) rfl rfl nn_errs ⟨Nat.le_of_ble_eq_true rfl, Nat.le_of_ble_eq_true rfl⟩ rfl rfl (Nat.le_of_ble_eq_true rfl) dX6_readProduct_70 rfl ?_
            obtain rfl := gz_in1 h
            obtain ⟨_, _, e0, hF⟩ | ⟨_, e0, _⟩ := hout
            · cases e0
              exact gt_iret hX hZ hF rfl rfl dX6_readProduct_73
            · cases e0
      · have h := gz_ifp c10 h
        refine gz_aload_n (q := 1) hX dX6_readProduct_43 rfl rfl ?_
        refine tg_token hX dX6_readProduct_44 ?_
        refine gz_iconst (v := 3) hX dX6_readProduct_47 gk_c_3 ?_
        refine gz_icmp_eq (tgt := 57) hX dX6_readProduct_48 (by decide) (fun c36 => ?_) (fun c36 => ?_)
        · have h := gz_ifp c36 h
          refine gz_iload_n (q := 0) hX dX6_readProduct_57 rfl rfl ?_
          refine gz_if_ne (tgt := 74) hX dX6_readProduct_58 (by decide) (fun c37 => ?_) (fun c37 => ?_)
          · have h := gz_ifn c37 h
            refine gz_aload_n (q := 1) hX dX6_readProduct_74 rfl rfl ?_
            obtain ⟨V40, r38, e39, h⟩ := gz_b2_o h
            refine tc_V (As := []) hX (c_readUnit e39) (lw_readUnit_ q1832) rfl rfl nn_readUnit ⟨Nat.le_of_ble_eq_true rfl, Nat.le_of_ble_eq_true rfl⟩ rfl rfl (Nat.le_of_ble_eq_true rfl) dX6_readProduct_75 rfl ?_
            refine gz_iconst (v := (-1)) hX dX6_readProduct_78 gk_c_m1 ?_
            refine gz_icmp_ne (tgt := 84) hX dX6_readProduct_79 (by decide) (fun c41 => ?_) (fun c41 => ?_)
            · have h := gz_ifn c41 h
              refine gz_aload_n (q := 1) hX dX6_readProduct_84 rfl rfl ?_
              refine gz_iload_n (q := 0) hX dX6_readProduct_85 rfl rfl ?_
              obtain ⟨y42, g43, h⟩ := gz_let_o h
              have J44 : gW X 2 tw_S tw_R ad V40 0 0 94 [(0, .ref (ad (1, 0, 0)))] [.int y42, .ref (ad (1, 0, 0))] := by
                refine gz_iconst (v := 0) hX dX6_readProduct_94 gk_c_0 ?_
                obtain ⟨V47, e46, h⟩ := gz_bd_o h
                refine tc_V (As := [.int y42, .int 0]) hX (c_emits e46) (lw_emits_ q1840) rfl rfl nn_emits ⟨Nat.le_of_ble_eq_true rfl, Nat.le_of_ble_eq_true rfl⟩ rfl rfl (Nat.le_of_ble_eq_true rfl) dX6_readProduct_95 rfl ?_
                refine gz_goto (tgt := 10) hX dX6_readProduct_98 (by decide) ?_
                exact gz_lv [0] rfl (ih h)
              refine gz_if_eq (tgt := 93) hX dX6_readProduct_86 (by decide) (fun c45 => ?_) (fun c45 => ?_)
              · have g43 := gz_ifp c45 g43
                refine gz_iconst (v := 5) hX dX6_readProduct_93 gk_c_5 ?_
                obtain rfl := g43
                exact gz_lv [1] rfl J44
              · have g43 := gz_ifn c45 g43
                refine gz_iconst (v := 4) hX dX6_readProduct_89 gk_c_4 ?_
                refine gz_goto (tgt := 94) hX dX6_readProduct_90 (by decide) ?_
                obtain rfl := g43
                exact gz_lv [1] rfl J44
            · have h := gz_ifp c41 h
              refine gz_iconst (v := (-1)) hX dX6_readProduct_82 gk_c_m1 ?_
              obtain rfl := gz_in1 h
              obtain ⟨_, _, e0, hF⟩ | ⟨_, e0, _⟩ := hout
              · cases e0
                exact gt_iret hX hZ hF rfl rfl dX6_readProduct_83
              · cases e0
          · have h := gz_ifp c37 h
            refine gz_aload_n (q := 1) hX dX6_readProduct_61 rfl rfl ?_
            refine tg_value hX dX6_readProduct_62 ?_
            refine gz_if_ne (tgt := 74) hX dX6_readProduct_65 (by decide) (fun c48 => ?_) (fun c48 => ?_)
            · have h := gz_ifn c48 h
              refine gz_aload_n (q := 1) hX dX6_readProduct_74 rfl rfl ?_
              obtain ⟨V51, r49, e50, h⟩ := gz_b2_o h
              refine tc_V (As := []) hX (c_readUnit e50) (lw_readUnit_ q1832) rfl rfl nn_readUnit ⟨Nat.le_of_ble_eq_true rfl, Nat.le_of_ble_eq_true rfl⟩ rfl rfl (Nat.le_of_ble_eq_true rfl) dX6_readProduct_75 rfl ?_
              refine gz_iconst (v := (-1)) hX dX6_readProduct_78 gk_c_m1 ?_
              refine gz_icmp_ne (tgt := 84) hX dX6_readProduct_79 (by decide) (fun c52 => ?_) (fun c52 => ?_)
              · have h := gz_ifn c52 h
                refine gz_aload_n (q := 1) hX dX6_readProduct_84 rfl rfl ?_
                refine gz_iload_n (q := 0) hX dX6_readProduct_85 rfl rfl ?_
                obtain ⟨y53, g54, h⟩ := gz_let_o h
                have J55 : gW X 2 tw_S tw_R ad V51 0 0 94 [(0, .ref (ad (1, 0, 0)))] [.int y53, .ref (ad (1, 0, 0))] := by
                  refine gz_iconst (v := 0) hX dX6_readProduct_94 gk_c_0 ?_
                  obtain ⟨V58, e57, h⟩ := gz_bd_o h
                  refine tc_V (As := [.int y53, .int 0]) hX (c_emits e57) (lw_emits_ q1840) rfl rfl nn_emits ⟨Nat.le_of_ble_eq_true rfl, Nat.le_of_ble_eq_true rfl⟩ rfl rfl (Nat.le_of_ble_eq_true rfl) dX6_readProduct_95 rfl ?_
                  refine gz_goto (tgt := 10) hX dX6_readProduct_98 (by decide) ?_
                  exact gz_lv [0] rfl (ih h)
                refine gz_if_eq (tgt := 93) hX dX6_readProduct_86 (by decide) (fun c56 => ?_) (fun c56 => ?_)
                · have g54 := gz_ifp c56 g54
                  refine gz_iconst (v := 5) hX dX6_readProduct_93 gk_c_5 ?_
                  obtain rfl := g54
                  exact gz_lv [1] rfl J55
                · have g54 := gz_ifn c56 g54
                  refine gz_iconst (v := 4) hX dX6_readProduct_89 gk_c_4 ?_
                  refine gz_goto (tgt := 94) hX dX6_readProduct_90 (by decide) ?_
                  obtain rfl := g54
                  exact gz_lv [1] rfl J55
              · have h := gz_ifp c52 h
                refine gz_iconst (v := (-1)) hX dX6_readProduct_82 gk_c_m1 ?_
                obtain rfl := gz_in1 h
                obtain ⟨_, _, e0, hF⟩ | ⟨_, e0, _⟩ := hout
                · cases e0
                  exact gt_iret hX hZ hF rfl rfl dX6_readProduct_83
                · cases e0
            · have h := gz_ifp c48 h
              refine gz_aload_n (q := 1) hX dX6_readProduct_68 rfl rfl ?_
              refine gz_iconst (v := 2) hX dX6_readProduct_69 gk_c_2 ?_
              obtain ⟨V61, r59, e60, h⟩ := gz_b2_o h
              refine tc_V (As := [.int 2]) hX (c_errs e60) (lw_errs_ q1776) rfl rfl nn_errs ⟨Nat.le_of_ble_eq_true rfl, Nat.le_of_ble_eq_true rfl⟩ rfl rfl (Nat.le_of_ble_eq_true rfl) dX6_readProduct_70 rfl ?_
              obtain rfl := gz_in1 h
              obtain ⟨_, _, e0, hF⟩ | ⟨_, e0, _⟩ := hout
              · cases e0
                exact gt_iret hX hZ hF rfl rfl dX6_readProduct_73
              · cases e0
        · have h := gz_ifn c36 h
          refine gz_aload_n (q := 1) hX dX6_readProduct_51 rfl rfl ?_
          refine gz_iconst (v := 1) hX dX6_readProduct_52 gk_c_1 ?_
          obtain ⟨V64, r62, e63, h⟩ := gz_b2_o h
          refine tc_V (As := [.int 1]) hX (c_errs e63) (lw_errs_ q1776) rfl rfl nn_errs ⟨Nat.le_of_ble_eq_true rfl, Nat.le_of_ble_eq_true rfl⟩ rfl rfl (Nat.le_of_ble_eq_true rfl) dX6_readProduct_53 rfl ?_
          obtain rfl := gz_in1 h
          obtain ⟨_, _, e0, hF⟩ | ⟨_, e0, _⟩ := hout
          · cases e0
            exact gt_iret hX hZ hF rfl rfl dX6_readProduct_56
          · cases e0
    · have h := gz_ifp c5 h
      refine gz_aload_n (q := 0) hX dX6_readProduct_19 rfl rfl ?_
      refine gz_bipush (v := 47) hX dX6_readProduct_20 gk_b_47 ?_
      refine tc_V (As := [.int 47]) hX (c_isSign rfl) (lw_isSign_ q1796) rfl rfl nn_isSign ⟨Nat.le_of_ble_eq_true rfl, Nat.le_of_ble_eq_true rfl⟩ rfl rfl (Nat.le_of_ble_eq_true rfl) dX6_readProduct_22 rfl ?_
      refine gz_if_eq (tgt := 101) hX dX6_readProduct_25 (by decide) (fun c65 => ?_) (fun c65 => ?_)
      · have h := gz_ifp c65 h
        obtain rfl := gz_in1 h
        obtain ⟨_, _, e0, _⟩ | ⟨_, e0, k⟩ := hout
        · cases e0
        · cases e0
          exact gz_lv [] rfl k
      · have h := gz_ifn c65 h
        refine gz_aload_n (q := 0) hX dX6_readProduct_28 rfl rfl ?_
        refine gz_bipush (v := 42) hX dX6_readProduct_29 gk_b_42 ?_
        refine tc_V (As := [.int 42]) hX (c_isSign rfl) (lw_isSign_ q1796) rfl rfl nn_isSign ⟨Nat.le_of_ble_eq_true rfl, Nat.le_of_ble_eq_true rfl⟩ rfl rfl (Nat.le_of_ble_eq_true rfl) dX6_readProduct_31 rfl ?_
        obtain ⟨x66, e67, h⟩ := gz_let_o h
        refine gz_nm e67 ?_
        refine gz_istore_n (lv2 := [(1, .int x66), (0, .ref (ad (1, 0, 0)))]) hX dX6_readProduct_34 rfl (by decide) rfl ?_
        refine gz_aload_n (q := 1) hX dX6_readProduct_35 rfl rfl ?_
        obtain ⟨V69, e68, h⟩ := gz_bd_o h
        refine tc_V (As := []) hX (c_reads e68) (lw_reads_ q1744) rfl rfl nn_reads ⟨Nat.le_of_ble_eq_true rfl, Nat.le_of_ble_eq_true rfl⟩ rfl rfl (Nat.le_of_ble_eq_true rfl) dX6_readProduct_36 rfl ?_
        refine gz_iload_n (q := 0) hX dX6_readProduct_39 rfl rfl ?_
        refine gz_if_ne (tgt := 57) hX dX6_readProduct_40 (by decide) (fun c70 => ?_) (fun c70 => ?_)
        · have h := gz_ifn c70 h
          refine gz_iload_n (q := 0) hX dX6_readProduct_57 rfl rfl ?_
          refine gz_if_ne (tgt := 74) hX dX6_readProduct_58 (by decide) (fun c71 => ?_) (fun c71 => ?_)
          · have h := gz_ifn c71 h
            refine gz_aload_n (q := 1) hX dX6_readProduct_74 rfl rfl ?_
            obtain ⟨V74, r72, e73, h⟩ := gz_b2_o h
            refine tc_V (As := []) hX (c_readUnit e73) (lw_readUnit_ q1832) rfl rfl nn_readUnit ⟨Nat.le_of_ble_eq_true rfl, Nat.le_of_ble_eq_true rfl⟩ rfl rfl (Nat.le_of_ble_eq_true rfl) dX6_readProduct_75 rfl ?_
            refine gz_iconst (v := (-1)) hX dX6_readProduct_78 gk_c_m1 ?_
            refine gz_icmp_ne (tgt := 84) hX dX6_readProduct_79 (by decide) (fun c75 => ?_) (fun c75 => ?_)
            · have h := gz_ifn c75 h
              refine gz_aload_n (q := 1) hX dX6_readProduct_84 rfl rfl ?_
              refine gz_iload_n (q := 0) hX dX6_readProduct_85 rfl rfl ?_
              obtain ⟨y76, g77, h⟩ := gz_let_o h
              have J78 : gW X 2 tw_S tw_R ad V74 0 0 94 [(0, .ref (ad (1, 0, 0)))] [.int y76, .ref (ad (1, 0, 0))] := by
                refine gz_iconst (v := 0) hX dX6_readProduct_94 gk_c_0 ?_
                obtain ⟨V81, e80, h⟩ := gz_bd_o h
                refine tc_V (As := [.int y76, .int 0]) hX (c_emits e80) (lw_emits_ q1840) rfl rfl nn_emits ⟨Nat.le_of_ble_eq_true rfl, Nat.le_of_ble_eq_true rfl⟩ rfl rfl (Nat.le_of_ble_eq_true rfl) dX6_readProduct_95 rfl ?_
                refine gz_goto (tgt := 10) hX dX6_readProduct_98 (by decide) ?_
                exact gz_lv [0] rfl (ih h)
              refine gz_if_eq (tgt := 93) hX dX6_readProduct_86 (by decide) (fun c79 => ?_) (fun c79 => ?_)
              · have g77 := gz_ifp c79 g77
                refine gz_iconst (v := 5) hX dX6_readProduct_93 gk_c_5 ?_
                obtain rfl := g77
                exact gz_lv [1] rfl J78
              · have g77 := gz_ifn c79 g77
                refine gz_iconst (v := 4) hX dX6_readProduct_89 gk_c_4 ?_
                refine gz_goto (tgt := 94) hX dX6_readProduct_90 (by decide) ?_
                obtain rfl := g77
                exact gz_lv [1] rfl J78
            · have h := gz_ifp c75 h
              refine gz_iconst (v := (-1)) hX dX6_readProduct_82 gk_c_m1 ?_
              obtain rfl := gz_in1 h
              obtain ⟨_, _, e0, hF⟩ | ⟨_, e0, _⟩ := hout
              · cases e0
                exact gt_iret hX hZ hF rfl rfl dX6_readProduct_83
              · cases e0
          · have h := gz_ifp c71 h
            refine gz_aload_n (q := 1) hX dX6_readProduct_61 rfl rfl ?_
            refine tg_value hX dX6_readProduct_62 ?_
            refine gz_if_ne (tgt := 74) hX dX6_readProduct_65 (by decide) (fun c82 => ?_) (fun c82 => ?_)
            · have h := gz_ifn c82 h
              refine gz_aload_n (q := 1) hX dX6_readProduct_74 rfl rfl ?_
              obtain ⟨V85, r83, e84, h⟩ := gz_b2_o h
              refine tc_V (As := []) hX (c_readUnit e84) (lw_readUnit_ q1832) rfl rfl nn_readUnit ⟨Nat.le_of_ble_eq_true rfl, Nat.le_of_ble_eq_true rfl⟩ rfl rfl (Nat.le_of_ble_eq_true rfl) dX6_readProduct_75 rfl ?_
              refine gz_iconst (v := (-1)) hX dX6_readProduct_78 gk_c_m1 ?_
              refine gz_icmp_ne (tgt := 84) hX dX6_readProduct_79 (by decide) (fun c86 => ?_) (fun c86 => ?_)
              · have h := gz_ifn c86 h
                refine gz_aload_n (q := 1) hX dX6_readProduct_84 rfl rfl ?_
                refine gz_iload_n (q := 0) hX dX6_readProduct_85 rfl rfl ?_
                obtain ⟨y87, g88, h⟩ := gz_let_o h
                have J89 : gW X 2 tw_S tw_R ad V85 0 0 94 [(0, .ref (ad (1, 0, 0)))] [.int y87, .ref (ad (1, 0, 0))] := by
                  refine gz_iconst (v := 0) hX dX6_readProduct_94 gk_c_0 ?_
                  obtain ⟨V92, e91, h⟩ := gz_bd_o h
                  refine tc_V (As := [.int y87, .int 0]) hX (c_emits e91) (lw_emits_ q1840) rfl rfl nn_emits ⟨Nat.le_of_ble_eq_true rfl, Nat.le_of_ble_eq_true rfl⟩ rfl rfl (Nat.le_of_ble_eq_true rfl) dX6_readProduct_95 rfl ?_
                  refine gz_goto (tgt := 10) hX dX6_readProduct_98 (by decide) ?_
                  exact gz_lv [0] rfl (ih h)
                refine gz_if_eq (tgt := 93) hX dX6_readProduct_86 (by decide) (fun c90 => ?_) (fun c90 => ?_)
                · have g88 := gz_ifp c90 g88
                  refine gz_iconst (v := 5) hX dX6_readProduct_93 gk_c_5 ?_
                  obtain rfl := g88
                  exact gz_lv [1] rfl J89
                · have g88 := gz_ifn c90 g88
                  refine gz_iconst (v := 4) hX dX6_readProduct_89 gk_c_4 ?_
                  refine gz_goto (tgt := 94) hX dX6_readProduct_90 (by decide) ?_
                  obtain rfl := g88
                  exact gz_lv [1] rfl J89
              · have h := gz_ifp c86 h
                refine gz_iconst (v := (-1)) hX dX6_readProduct_82 gk_c_m1 ?_
                obtain rfl := gz_in1 h
                obtain ⟨_, _, e0, hF⟩ | ⟨_, e0, _⟩ := hout
                · cases e0
                  exact gt_iret hX hZ hF rfl rfl dX6_readProduct_83
                · cases e0
            · have h := gz_ifp c82 h
              refine gz_aload_n (q := 1) hX dX6_readProduct_68 rfl rfl ?_
              refine gz_iconst (v := 2) hX dX6_readProduct_69 gk_c_2 ?_
              obtain ⟨V95, r93, e94, h⟩ := gz_b2_o h
              refine tc_V (As := [.int 2]) hX (c_errs e94) (lw_errs_ q1776) rfl rfl nn_errs ⟨Nat.le_of_ble_eq_true rfl, Nat.le_of_ble_eq_true rfl⟩ rfl rfl (Nat.le_of_ble_eq_true rfl) dX6_readProduct_70 rfl ?_
              obtain rfl := gz_in1 h
              obtain ⟨_, _, e0, hF⟩ | ⟨_, e0, _⟩ := hout
              · cases e0
                exact gt_iret hX hZ hF rfl rfl dX6_readProduct_73
              · cases e0
        · have h := gz_ifp c70 h
          refine gz_aload_n (q := 1) hX dX6_readProduct_43 rfl rfl ?_
          refine tg_token hX dX6_readProduct_44 ?_
          refine gz_iconst (v := 3) hX dX6_readProduct_47 gk_c_3 ?_
          refine gz_icmp_eq (tgt := 57) hX dX6_readProduct_48 (by decide) (fun c96 => ?_) (fun c96 => ?_)
          · have h := gz_ifp c96 h
            refine gz_iload_n (q := 0) hX dX6_readProduct_57 rfl rfl ?_
            refine gz_if_ne (tgt := 74) hX dX6_readProduct_58 (by decide) (fun c97 => ?_) (fun c97 => ?_)
            · have h := gz_ifn c97 h
              refine gz_aload_n (q := 1) hX dX6_readProduct_74 rfl rfl ?_
              obtain ⟨V100, r98, e99, h⟩ := gz_b2_o h
              refine tc_V (As := []) hX (c_readUnit e99) (lw_readUnit_ q1832) rfl rfl nn_readUnit ⟨Nat.le_of_ble_eq_true rfl, Nat.le_of_ble_eq_true rfl⟩ rfl rfl (Nat.le_of_ble_eq_true rfl) dX6_readProduct_75 rfl ?_
              refine gz_iconst (v := (-1)) hX dX6_readProduct_78 gk_c_m1 ?_
              refine gz_icmp_ne (tgt := 84) hX dX6_readProduct_79 (by decide) (fun c101 => ?_) (fun c101 => ?_)
              · have h := gz_ifn c101 h
                refine gz_aload_n (q := 1) hX dX6_readProduct_84 rfl rfl ?_
                refine gz_iload_n (q := 0) hX dX6_readProduct_85 rfl rfl ?_
                obtain ⟨y102, g103, h⟩ := gz_let_o h
                have J104 : gW X 2 tw_S tw_R ad V100 0 0 94 [(0, .ref (ad (1, 0, 0)))] [.int y102, .ref (ad (1, 0, 0))] := by
                  refine gz_iconst (v := 0) hX dX6_readProduct_94 gk_c_0 ?_
                  obtain ⟨V107, e106, h⟩ := gz_bd_o h
                  refine tc_V (As := [.int y102, .int 0]) hX (c_emits e106) (lw_emits_ q1840) rfl rfl nn_emits ⟨Nat.le_of_ble_eq_true rfl, Nat.le_of_ble_eq_true rfl⟩ rfl rfl (Nat.le_of_ble_eq_true rfl) dX6_readProduct_95 rfl ?_
                  refine gz_goto (tgt := 10) hX dX6_readProduct_98 (by decide) ?_
                  exact gz_lv [0] rfl (ih h)
                refine gz_if_eq (tgt := 93) hX dX6_readProduct_86 (by decide) (fun c105 => ?_) (fun c105 => ?_)
                · have g103 := gz_ifp c105 g103
                  refine gz_iconst (v := 5) hX dX6_readProduct_93 gk_c_5 ?_
                  obtain rfl := g103
                  exact gz_lv [1] rfl J104
                · have g103 := gz_ifn c105 g103
                  refine gz_iconst (v := 4) hX dX6_readProduct_89 gk_c_4 ?_
                  refine gz_goto (tgt := 94) hX dX6_readProduct_90 (by decide) ?_
                  obtain rfl := g103
                  exact gz_lv [1] rfl J104
              · have h := gz_ifp c101 h
                refine gz_iconst (v := (-1)) hX dX6_readProduct_82 gk_c_m1 ?_
                obtain rfl := gz_in1 h
                obtain ⟨_, _, e0, hF⟩ | ⟨_, e0, _⟩ := hout
                · cases e0
                  exact gt_iret hX hZ hF rfl rfl dX6_readProduct_83
                · cases e0
            · have h := gz_ifp c97 h
              refine gz_aload_n (q := 1) hX dX6_readProduct_61 rfl rfl ?_
              refine tg_value hX dX6_readProduct_62 ?_
              refine gz_if_ne (tgt := 74) hX dX6_readProduct_65 (by decide) (fun c108 => ?_) (fun c108 => ?_)
              · have h := gz_ifn c108 h
                refine gz_aload_n (q := 1) hX dX6_readProduct_74 rfl rfl ?_
                obtain ⟨V111, r109, e110, h⟩ := gz_b2_o h
                refine tc_V (As := []) hX (c_readUnit e110) (lw_readUnit_ q1832) rfl rfl nn_readUnit ⟨Nat.le_of_ble_eq_true rfl, Nat.le_of_ble_eq_true rfl⟩ rfl rfl (Nat.le_of_ble_eq_true rfl) dX6_readProduct_75 rfl ?_
                refine gz_iconst (v := (-1)) hX dX6_readProduct_78 gk_c_m1 ?_
                refine gz_icmp_ne (tgt := 84) hX dX6_readProduct_79 (by decide) (fun c112 => ?_) (fun c112 => ?_)
                · have h := gz_ifn c112 h
                  refine gz_aload_n (q := 1) hX dX6_readProduct_84 rfl rfl ?_
                  refine gz_iload_n (q := 0) hX dX6_readProduct_85 rfl rfl ?_
                  obtain ⟨y113, g114, h⟩ := gz_let_o h
                  have J115 : gW X 2 tw_S tw_R ad V111 0 0 94 [(0, .ref (ad (1, 0, 0)))] [.int y113, .ref (ad (1, 0, 0))] := by
                    refine gz_iconst (v := 0) hX dX6_readProduct_94 gk_c_0 ?_
                    obtain ⟨V118, e117, h⟩ := gz_bd_o h
                    refine tc_V (As := [.int y113, .int 0]) hX (c_emits e117) (lw_emits_ q1840) rfl rfl nn_emits ⟨Nat.le_of_ble_eq_true rfl, Nat.le_of_ble_eq_true rfl⟩ rfl rfl (Nat.le_of_ble_eq_true rfl) dX6_readProduct_95 rfl ?_
                    refine gz_goto (tgt := 10) hX dX6_readProduct_98 (by decide) ?_
                    exact gz_lv [0] rfl (ih h)
                  refine gz_if_eq (tgt := 93) hX dX6_readProduct_86 (by decide) (fun c116 => ?_) (fun c116 => ?_)
                  · have g114 := gz_ifp c116 g114
                    refine gz_iconst (v := 5) hX dX6_readProduct_93 gk_c_5 ?_
                    obtain rfl := g114
                    exact gz_lv [1] rfl J115
                  · have g114 := gz_ifn c116 g114
                    refine gz_iconst (v := 4) hX dX6_readProduct_89 gk_c_4 ?_
                    refine gz_goto (tgt := 94) hX dX6_readProduct_90 (by decide) ?_
                    obtain rfl := g114
                    exact gz_lv [1] rfl J115
                · have h := gz_ifp c112 h
                  refine gz_iconst (v := (-1)) hX dX6_readProduct_82 gk_c_m1 ?_
                  obtain rfl := gz_in1 h
                  obtain ⟨_, _, e0, hF⟩ | ⟨_, e0, _⟩ := hout
                  · cases e0
                    exact gt_iret hX hZ hF rfl rfl dX6_readProduct_83
                  · cases e0
              · have h := gz_ifp c108 h
                refine gz_aload_n (q := 1) hX dX6_readProduct_68 rfl rfl ?_
                refine gz_iconst (v := 2) hX dX6_readProduct_69 gk_c_2 ?_
                obtain ⟨V121, r119, e120, h⟩ := gz_b2_o h
                refine tc_V (As := [.int 2]) hX (c_errs e120) (lw_errs_ q1776) rfl rfl nn_errs ⟨Nat.le_of_ble_eq_true rfl, Nat.le_of_ble_eq_true rfl⟩ rfl rfl (Nat.le_of_ble_eq_true rfl) dX6_readProduct_70 rfl ?_
                obtain rfl := gz_in1 h
                obtain ⟨_, _, e0, hF⟩ | ⟨_, e0, _⟩ := hout
                · cases e0
                  exact gt_iret hX hZ hF rfl rfl dX6_readProduct_73
                · cases e0
          · have h := gz_ifn c96 h
            refine gz_aload_n (q := 1) hX dX6_readProduct_51 rfl rfl ?_
            refine gz_iconst (v := 1) hX dX6_readProduct_52 gk_c_1 ?_
            obtain ⟨V124, r122, e123, h⟩ := gz_b2_o h
            refine tc_V (As := [.int 1]) hX (c_errs e123) (lw_errs_ q1776) rfl rfl nn_errs ⟨Nat.le_of_ble_eq_true rfl, Nat.le_of_ble_eq_true rfl⟩ rfl rfl (Nat.le_of_ble_eq_true rfl) dX6_readProduct_53 rfl ?_
            obtain rfl := gz_in1 h
            obtain ⟨_, _, e0, hF⟩ | ⟨_, e0, _⟩ := hout
            · cases e0
              exact gt_iret hX hZ hF rfl rfl dX6_readProduct_56
            · cases e0
noncomputable def m_readProduct (N : Nat) (V : gz_V) : Option (gz_V × Int32) := gz_b2 (m_readUnit N V) (fun V3 r1 => (if r1 = (-1) then some (V3, (-1)) else gz_lp (m_readProduct_L10 N N V3) some (fun V5 => some (V5, 0))))
theorem c_readProduct {l : Launch} {D : va_G} {aC : Nat → ClassId} {ad : gz_A0} {N : Nat} {V : gz_V} {W1 : gz_V} {r : Int32} (h : m_readProduct N V = some (W1, r)) : gz_Met l yX6_readProduct cX6_readProduct 2 (some .int) rm_readProduct D aC ad tw_S V tw_R [.ref (ad (1, 0, 0))] (gz_F1 tw_S tw_R ad W1 (some (.int r))) 0 0 := by
  refine gt_ofW (own := RX6) (mn := "readProduct") (lv := [(0, .ref (ad (1, 0, 0)))]) (by decide) rfl rfl (Nat.le_of_ble_eq_true rfl) rfl ?_
  intro X hX hZ hF
  rw [m_readProduct] at h
  refine gz_aload_n (q := 0) hX dX6_readProduct_0 rfl rfl ?_
  obtain ⟨V3, r1, e2, h⟩ := gz_b2_o h
  refine tc_V (As := []) hX (c_readUnit e2) (lw_readUnit_ q1832) rfl rfl nn_readUnit ⟨Nat.le_of_ble_eq_true rfl, Nat.le_of_ble_eq_true rfl⟩ rfl rfl (Nat.le_of_ble_eq_true rfl) dX6_readProduct_1 rfl ?_
  refine gz_iconst (v := (-1)) hX dX6_readProduct_4 gk_c_m1 ?_
  refine gz_icmp_ne (tgt := 10) hX dX6_readProduct_5 (by decide) (fun c4 => ?_) (fun c4 => ?_)
  · have h := gz_ifn c4 h
    rcases gz_lp_o h with ⟨p7, e6, h⟩ | ⟨V5, e6, h⟩
    · obtain rfl := gz_in1 h
      exact gz_lv [0] rfl (w_m_readProduct_L10 hX hZ (Or.inl ⟨_, _, rfl, hF⟩) N e6)
    · refine gz_lv [0] rfl (w_m_readProduct_L10 hX hZ (Or.inr ⟨V5, rfl, ?_⟩) N e6)
      refine gz_iconst (v := 0) hX dX6_readProduct_101 gk_c_0 ?_
      obtain ⟨e1, e2⟩ := gz_in2 h
      exact gt_iret hX hZ hF e1 e2 dX6_readProduct_102
  · have h := gz_ifp c4 h
    refine gz_iconst (v := (-1)) hX dX6_readProduct_8 gk_c_m1 ?_
    obtain ⟨e1, e2⟩ := gz_in2 h
    exact gt_iret hX hZ hF e1 e2 dX6_readProduct_9
theorem lw_readProduct_ {i : Nat} (hl : Cond.methodLink RX6 i yX6_readProduct ∈ lw_all) : GoodIn lw_all (wsV RX6 i RX6 yX6_readProduct (ws_ yX6_readProduct cX6_readProduct 2 (some .int))) := lw_V hl q1830 qs82 q153 q1831
theorem nn_readProduct : yX6_readProduct.cls = RX6 ∧ yX6_readProduct.cls ≠ "java/lang/invoke/MethodHandle" ∧ yX6_readProduct.cls ≠ "java/lang/invoke/VarHandle" ∧ (parseMethodDescriptor yX6_readProduct.desc).map (fun d => d.parameters.length) = some 0 := by decide +kernel
def rm_readSum : Room := { frames := 5, cells := 0, slots := 0, locals := 107 }
noncomputable def m_readSum_L10 (N : Nat) : Nat → gz_V → Option ((gz_V × Int32) ⊕ (gz_V))
  | 0, _ => none
  | n + 1, V => (if (m_isSign V 43) = 0 then (if (m_isSign V 45) = 0 then some (.inr V) else gz_let (if (V (1, 0, 0) 16) = 43 then (2 : Int32) else (3 : Int32)) (fun y19 => gz_bd (m_reads N V) (fun V24 => gz_b2 (m_readProduct N V24) (fun V27 r25 => (if r25 = (-1) then some (.inl (V27, (-1))) else gz_bd (m_emits V27 y19 0) (fun V30 => m_readSum_L10 N n V30)))))) else gz_let (if (V (1, 0, 0) 16) = 43 then (2 : Int32) else (3 : Int32)) (fun y6 => gz_bd (m_reads N V) (fun V11 => gz_b2 (m_readProduct N V11) (fun V14 r12 => (if r12 = (-1) then some (.inl (V14, (-1))) else gz_bd (m_emits V14 y6 0) (fun V17 => m_readSum_L10 N n V17))))))
theorem w_m_readSum_L10 {X : gz_X} {ad : gz_A0} (hX : gz_ok X cX6_readSum RX6 "readSum" 2 rm_readSum (some .int)) (hZ : gz_Z X) {N : Nat} {out : (gz_V × Int32) ⊕ (gz_V)} (hout : (∃ (W2 : gz_V) (r : Int32), out = .inl (W2, r) ∧ gx_F X tw_S W2 tw_R ad (some (.int r))) ∨ (∃ (W1 : gz_V), out = .inr W1 ∧ gW X 2 tw_S tw_R ad W1 0 0 66 [] [])) : ∀ (n : Nat) {V : gz_V}, m_readSum_L10 N n V = some out → gW X 2 tw_S tw_R ad V 0 0 10 [(0, .ref (ad (1, 0, 0)))] [] := by
  intro n
  induction n with
  | zero => intro V h; rw [m_readSum_L10] at h; cases h
  | succ n ih =>
    intro V h
    rw [m_readSum_L10] at h
    refine gz_aload_n (q := 0) hX dX6_readSum_10 rfl rfl ?_
    refine gz_bipush (v := 43) hX dX6_readSum_11 gk_b_43 ?_
    refine tc_V (As := [.int 43]) hX (c_isSign rfl) (lw_isSign_ q1796) rfl rfl nn_isSign ⟨Nat.le_of_ble_eq_true rfl, Nat.le_of_ble_eq_true rfl⟩ rfl rfl (Nat.le_of_ble_eq_true rfl) dX6_readSum_13 rfl ?_
    refine gz_if_ne (tgt := 28) hX dX6_readSum_16 (by decide) (fun c5 => ?_) (fun c5 => ?_)
    · have h := gz_ifn c5 h
      refine gz_aload_n (q := 0) hX dX6_readSum_28 rfl rfl ?_
      refine tg_value hX dX6_readSum_29 ?_
      refine gz_bipush (v := 43) hX dX6_readSum_32 gk_b_43 ?_
      obtain ⟨y6, g7, h⟩ := gz_let_o h
      have J8 : gW X 2 tw_S tw_R ad V 0 0 42 [(0, .ref (ad (1, 0, 0)))] [.int y6] := by
        refine gz_istore_n (lv2 := [(1, .int y6), (0, .ref (ad (1, 0, 0)))]) hX dX6_readSum_42 rfl (by decide) rfl ?_
        refine gz_aload_n (q := 1) hX dX6_readSum_43 rfl rfl ?_
        obtain ⟨V11, e10, h⟩ := gz_bd_o h
        refine tc_V (As := []) hX (c_reads e10) (lw_reads_ q1744) rfl rfl nn_reads ⟨Nat.le_of_ble_eq_true rfl, Nat.le_of_ble_eq_true rfl⟩ rfl rfl (Nat.le_of_ble_eq_true rfl) dX6_readSum_44 rfl ?_
        refine gz_aload_n (q := 1) hX dX6_readSum_47 rfl rfl ?_
        obtain ⟨V14, r12, e13, h⟩ := gz_b2_o h
        refine tc_V (As := []) hX (c_readProduct e13) (lw_readProduct_ q1828) rfl rfl nn_readProduct ⟨Nat.le_of_ble_eq_true rfl, Nat.le_of_ble_eq_true rfl⟩ rfl rfl (Nat.le_of_ble_eq_true rfl) dX6_readSum_48 rfl ?_
        refine gz_iconst (v := (-1)) hX dX6_readSum_51 gk_c_m1 ?_
        refine gz_icmp_ne (tgt := 57) hX dX6_readSum_52 (by decide) (fun c15 => ?_) (fun c15 => ?_)
        · have h := gz_ifn c15 h
          refine gz_aload_n (q := 1) hX dX6_readSum_57 rfl rfl ?_
          refine gz_iload_n (q := 0) hX dX6_readSum_58 rfl rfl ?_
          refine gz_iconst (v := 0) hX dX6_readSum_59 gk_c_0 ?_
          obtain ⟨V17, e16, h⟩ := gz_bd_o h
          refine tc_V (As := [.int y6, .int 0]) hX (c_emits e16) (lw_emits_ q1840) rfl rfl nn_emits ⟨Nat.le_of_ble_eq_true rfl, Nat.le_of_ble_eq_true rfl⟩ rfl rfl (Nat.le_of_ble_eq_true rfl) dX6_readSum_60 rfl ?_
          refine gz_goto (tgt := 10) hX dX6_readSum_63 (by decide) ?_
          exact gz_lv [1] rfl (ih h)
        · have h := gz_ifp c15 h
          refine gz_iconst (v := (-1)) hX dX6_readSum_55 gk_c_m1 ?_
          obtain rfl := gz_in1 h
          obtain ⟨_, _, e0, hF⟩ | ⟨_, e0, _⟩ := hout
          · cases e0
            exact gt_iret hX hZ hF rfl rfl dX6_readSum_56
          · cases e0
      refine gz_icmp_ne (tgt := 41) hX dX6_readSum_34 (by decide) (fun c9 => ?_) (fun c9 => ?_)
      · have g7 := gz_ifn c9 g7
        refine gz_iconst (v := 3) hX dX6_readSum_41 gk_c_3 ?_
        obtain rfl := g7
        exact gz_lv [0] rfl J8
      · have g7 := gz_ifp c9 g7
        refine gz_iconst (v := 2) hX dX6_readSum_37 gk_c_2 ?_
        refine gz_goto (tgt := 42) hX dX6_readSum_38 (by decide) ?_
        obtain rfl := g7
        exact gz_lv [0] rfl J8
    · have h := gz_ifp c5 h
      refine gz_aload_n (q := 0) hX dX6_readSum_19 rfl rfl ?_
      refine gz_bipush (v := 45) hX dX6_readSum_20 gk_b_45 ?_
      refine tc_V (As := [.int 45]) hX (c_isSign rfl) (lw_isSign_ q1796) rfl rfl nn_isSign ⟨Nat.le_of_ble_eq_true rfl, Nat.le_of_ble_eq_true rfl⟩ rfl rfl (Nat.le_of_ble_eq_true rfl) dX6_readSum_22 rfl ?_
      refine gz_if_eq (tgt := 66) hX dX6_readSum_25 (by decide) (fun c18 => ?_) (fun c18 => ?_)
      · have h := gz_ifp c18 h
        obtain rfl := gz_in1 h
        obtain ⟨_, _, e0, _⟩ | ⟨_, e0, k⟩ := hout
        · cases e0
        · cases e0
          exact gz_lv [] rfl k
      · have h := gz_ifn c18 h
        refine gz_aload_n (q := 0) hX dX6_readSum_28 rfl rfl ?_
        refine tg_value hX dX6_readSum_29 ?_
        refine gz_bipush (v := 43) hX dX6_readSum_32 gk_b_43 ?_
        obtain ⟨y19, g20, h⟩ := gz_let_o h
        have J21 : gW X 2 tw_S tw_R ad V 0 0 42 [(0, .ref (ad (1, 0, 0)))] [.int y19] := by
          refine gz_istore_n (lv2 := [(1, .int y19), (0, .ref (ad (1, 0, 0)))]) hX dX6_readSum_42 rfl (by decide) rfl ?_
          refine gz_aload_n (q := 1) hX dX6_readSum_43 rfl rfl ?_
          obtain ⟨V24, e23, h⟩ := gz_bd_o h
          refine tc_V (As := []) hX (c_reads e23) (lw_reads_ q1744) rfl rfl nn_reads ⟨Nat.le_of_ble_eq_true rfl, Nat.le_of_ble_eq_true rfl⟩ rfl rfl (Nat.le_of_ble_eq_true rfl) dX6_readSum_44 rfl ?_
          refine gz_aload_n (q := 1) hX dX6_readSum_47 rfl rfl ?_
          obtain ⟨V27, r25, e26, h⟩ := gz_b2_o h
          refine tc_V (As := []) hX (c_readProduct e26) (lw_readProduct_ q1828) rfl rfl nn_readProduct ⟨Nat.le_of_ble_eq_true rfl, Nat.le_of_ble_eq_true rfl⟩ rfl rfl (Nat.le_of_ble_eq_true rfl) dX6_readSum_48 rfl ?_
          refine gz_iconst (v := (-1)) hX dX6_readSum_51 gk_c_m1 ?_
          refine gz_icmp_ne (tgt := 57) hX dX6_readSum_52 (by decide) (fun c28 => ?_) (fun c28 => ?_)
          · have h := gz_ifn c28 h
            refine gz_aload_n (q := 1) hX dX6_readSum_57 rfl rfl ?_
            refine gz_iload_n (q := 0) hX dX6_readSum_58 rfl rfl ?_
            refine gz_iconst (v := 0) hX dX6_readSum_59 gk_c_0 ?_
            obtain ⟨V30, e29, h⟩ := gz_bd_o h
            refine tc_V (As := [.int y19, .int 0]) hX (c_emits e29) (lw_emits_ q1840) rfl rfl nn_emits ⟨Nat.le_of_ble_eq_true rfl, Nat.le_of_ble_eq_true rfl⟩ rfl rfl (Nat.le_of_ble_eq_true rfl) dX6_readSum_60 rfl ?_
            refine gz_goto (tgt := 10) hX dX6_readSum_63 (by decide) ?_
            exact gz_lv [1] rfl (ih h)
          · have h := gz_ifp c28 h
            refine gz_iconst (v := (-1)) hX dX6_readSum_55 gk_c_m1 ?_
            obtain rfl := gz_in1 h
            obtain ⟨_, _, e0, hF⟩ | ⟨_, e0, _⟩ := hout
            · cases e0
              exact gt_iret hX hZ hF rfl rfl dX6_readSum_56
            · cases e0
        refine gz_icmp_ne (tgt := 41) hX dX6_readSum_34 (by decide) (fun c22 => ?_) (fun c22 => ?_)
        · have g20 := gz_ifn c22 g20
          refine gz_iconst (v := 3) hX dX6_readSum_41 gk_c_3 ?_
          obtain rfl := g20
          exact gz_lv [0] rfl J21
        · have g20 := gz_ifp c22 g20
          refine gz_iconst (v := 2) hX dX6_readSum_37 gk_c_2 ?_
          refine gz_goto (tgt := 42) hX dX6_readSum_38 (by decide) ?_
          obtain rfl := g20
          exact gz_lv [0] rfl J21
noncomputable def m_readSum (N : Nat) (V : gz_V) : Option (gz_V × Int32) := gz_b2 (m_readProduct N V) (fun V3 r1 => (if r1 = (-1) then some (V3, (-1)) else gz_lp (m_readSum_L10 N N V3) some (fun V5 => some (V5, 0))))
theorem c_readSum {l : Launch} {D : va_G} {aC : Nat → ClassId} {ad : gz_A0} {N : Nat} {V : gz_V} {W1 : gz_V} {r : Int32} (h : m_readSum N V = some (W1, r)) : gz_Met l yX6_readSum cX6_readSum 2 (some .int) rm_readSum D aC ad tw_S V tw_R [.ref (ad (1, 0, 0))] (gz_F1 tw_S tw_R ad W1 (some (.int r))) 0 0 := by
  refine gt_ofW (own := RX6) (mn := "readSum") (lv := [(0, .ref (ad (1, 0, 0)))]) (by decide) rfl rfl (Nat.le_of_ble_eq_true rfl) rfl ?_
  intro X hX hZ hF
  rw [m_readSum] at h
  refine gz_aload_n (q := 0) hX dX6_readSum_0 rfl rfl ?_
  obtain ⟨V3, r1, e2, h⟩ := gz_b2_o h
  refine tc_V (As := []) hX (c_readProduct e2) (lw_readProduct_ q1828) rfl rfl nn_readProduct ⟨Nat.le_of_ble_eq_true rfl, Nat.le_of_ble_eq_true rfl⟩ rfl rfl (Nat.le_of_ble_eq_true rfl) dX6_readSum_1 rfl ?_
  refine gz_iconst (v := (-1)) hX dX6_readSum_4 gk_c_m1 ?_
  refine gz_icmp_ne (tgt := 10) hX dX6_readSum_5 (by decide) (fun c4 => ?_) (fun c4 => ?_)
  · have h := gz_ifn c4 h
    rcases gz_lp_o h with ⟨p7, e6, h⟩ | ⟨V5, e6, h⟩
    · obtain rfl := gz_in1 h
      exact gz_lv [0] rfl (w_m_readSum_L10 hX hZ (Or.inl ⟨_, _, rfl, hF⟩) N e6)
    · refine gz_lv [0] rfl (w_m_readSum_L10 hX hZ (Or.inr ⟨V5, rfl, ?_⟩) N e6)
      refine gz_iconst (v := 0) hX dX6_readSum_66 gk_c_0 ?_
      obtain ⟨e1, e2⟩ := gz_in2 h
      exact gt_iret hX hZ hF e1 e2 dX6_readSum_67
  · have h := gz_ifp c4 h
    refine gz_iconst (v := (-1)) hX dX6_readSum_8 gk_c_m1 ?_
    obtain ⟨e1, e2⟩ := gz_in2 h
    exact gt_iret hX hZ hF e1 e2 dX6_readSum_9
theorem lw_readSum_ {i : Nat} (hl : Cond.methodLink RX6 i yX6_readSum ∈ lw_all) : GoodIn lw_all (wsV RX6 i RX6 yX6_readSum (ws_ yX6_readSum cX6_readSum 2 (some .int))) := lw_V hl q1826 qs81 q153 q1827
theorem nn_readSum : yX6_readSum.cls = RX6 ∧ yX6_readSum.cls ≠ "java/lang/invoke/MethodHandle" ∧ yX6_readSum.cls ≠ "java/lang/invoke/VarHandle" ∧ (parseMethodDescriptor yX6_readSum.desc).map (fun d => d.parameters.length) = some 0 := by decide +kernel
def rm_readCompared : Room := { frames := 6, cells := 0, slots := 0, locals := 128 }
noncomputable def m_readCompared (N : Nat) (V : gz_V) : Option (gz_V × Int32) := gz_b2 (m_readSum N V) (fun V3 r1 => (if r1 = (-1) then some (V3, (-1)) else (if (m_isSign V3 60) = 0 then (if (m_isSign V3 61) = 0 then (if (m_isSign V3 62) = 0 then gz_b2 (m_errs V3 1) (fun V49 r47 => some (V49, r47)) else gz_let (if (V3 (1, 0, 0) 16) = 60 then (6 : Int32) else (if (V3 (1, 0, 0) 16) = 61 then (7 : Int32) else (8 : Int32))) (fun y34 => gz_bd (m_reads N V3) (fun V40 => gz_b2 (m_readSum N V40) (fun V43 r41 => (if r41 = (-1) then some (V43, (-1)) else gz_bd (m_emits V43 y34 0) (fun V46 => some (V46, 0))))))) else gz_let (if (V3 (1, 0, 0) 16) = 60 then (6 : Int32) else (if (V3 (1, 0, 0) 16) = 61 then (7 : Int32) else (8 : Int32))) (fun y20 => gz_bd (m_reads N V3) (fun V26 => gz_b2 (m_readSum N V26) (fun V29 r27 => (if r27 = (-1) then some (V29, (-1)) else gz_bd (m_emits V29 y20 0) (fun V32 => some (V32, 0))))))) else gz_let (if (V3 (1, 0, 0) 16) = 60 then (6 : Int32) else (if (V3 (1, 0, 0) 16) = 61 then (7 : Int32) else (8 : Int32))) (fun y6 => gz_bd (m_reads N V3) (fun V12 => gz_b2 (m_readSum N V12) (fun V15 r13 => (if r13 = (-1) then some (V15, (-1)) else gz_bd (m_emits V15 y6 0) (fun V18 => some (V18, 0)))))))))
theorem c_readCompared {l : Launch} {D : va_G} {aC : Nat → ClassId} {ad : gz_A0} {N : Nat} {V : gz_V} {W1 : gz_V} {r : Int32} (h : m_readCompared N V = some (W1, r)) : gz_Met l yX6_readCompared cX6_readCompared 2 (some .int) rm_readCompared D aC ad tw_S V tw_R [.ref (ad (1, 0, 0))] (gz_F1 tw_S tw_R ad W1 (some (.int r))) 0 0 := by
  refine gt_ofW (own := RX6) (mn := "readCompared") (lv := [(0, .ref (ad (1, 0, 0)))]) (by decide) rfl rfl (Nat.le_of_ble_eq_true rfl) rfl ?_
  intro X hX hZ hF
  rw [m_readCompared] at h
  refine gz_aload_n (q := 0) hX dX6_readCompared_0 rfl rfl ?_
  obtain ⟨V3, r1, e2, h⟩ := gz_b2_o h
  refine tc_V (As := []) hX (c_readSum e2) (lw_readSum_ q1824) rfl rfl nn_readSum ⟨Nat.le_of_ble_eq_true rfl, Nat.le_of_ble_eq_true rfl⟩ rfl rfl (Nat.le_of_ble_eq_true rfl) dX6_readCompared_1 rfl ?_
  refine gz_iconst (v := (-1)) hX dX6_readCompared_4 gk_c_m1 ?_
  refine gz_icmp_ne (tgt := 10) hX dX6_readCompared_5 (by decide) (fun c4 => ?_) (fun c4 => ?_)
  · have h := gz_ifn c4 h
    refine gz_aload_n (q := 0) hX dX6_readCompared_10 rfl rfl ?_
    refine gz_bipush (v := 60) hX dX6_readCompared_11 gk_b_60 ?_
    refine tc_V (As := [.int 60]) hX (c_isSign rfl) (lw_isSign_ q1796) rfl rfl nn_isSign ⟨Nat.le_of_ble_eq_true rfl, Nat.le_of_ble_eq_true rfl⟩ rfl rfl (Nat.le_of_ble_eq_true rfl) dX6_readCompared_13 rfl ?_
    refine gz_if_ne (tgt := 43) hX dX6_readCompared_16 (by decide) (fun c5 => ?_) (fun c5 => ?_)
    · have h := gz_ifn c5 h
      refine gz_aload_n (q := 0) hX dX6_readCompared_43 rfl rfl ?_
      refine tg_value hX dX6_readCompared_44 ?_
      refine gz_bipush (v := 60) hX dX6_readCompared_47 gk_b_60 ?_
      obtain ⟨y6, g7, h⟩ := gz_let_o h
      have J8 : gW X 2 tw_S tw_R ad V3 0 0 73 [(0, .ref (ad (1, 0, 0)))] [.int y6] := by
        refine gz_istore_n (lv2 := [(1, .int y6), (0, .ref (ad (1, 0, 0)))]) hX dX6_readCompared_73 rfl (by decide) rfl ?_
        refine gz_aload_n (q := 1) hX dX6_readCompared_74 rfl rfl ?_
        obtain ⟨V12, e11, h⟩ := gz_bd_o h
        refine tc_V (As := []) hX (c_reads e11) (lw_reads_ q1744) rfl rfl nn_reads ⟨Nat.le_of_ble_eq_true rfl, Nat.le_of_ble_eq_true rfl⟩ rfl rfl (Nat.le_of_ble_eq_true rfl) dX6_readCompared_75 rfl ?_
        refine gz_aload_n (q := 1) hX dX6_readCompared_78 rfl rfl ?_
        obtain ⟨V15, r13, e14, h⟩ := gz_b2_o h
        refine tc_V (As := []) hX (c_readSum e14) (lw_readSum_ q1824) rfl rfl nn_readSum ⟨Nat.le_of_ble_eq_true rfl, Nat.le_of_ble_eq_true rfl⟩ rfl rfl (Nat.le_of_ble_eq_true rfl) dX6_readCompared_79 rfl ?_
        refine gz_iconst (v := (-1)) hX dX6_readCompared_82 gk_c_m1 ?_
        refine gz_icmp_ne (tgt := 88) hX dX6_readCompared_83 (by decide) (fun c16 => ?_) (fun c16 => ?_)
        · have h := gz_ifn c16 h
          refine gz_aload_n (q := 1) hX dX6_readCompared_88 rfl rfl ?_
          refine gz_iload_n (q := 0) hX dX6_readCompared_89 rfl rfl ?_
          refine gz_iconst (v := 0) hX dX6_readCompared_90 gk_c_0 ?_
          obtain ⟨V18, e17, h⟩ := gz_bd_o h
          refine tc_V (As := [.int y6, .int 0]) hX (c_emits e17) (lw_emits_ q1840) rfl rfl nn_emits ⟨Nat.le_of_ble_eq_true rfl, Nat.le_of_ble_eq_true rfl⟩ rfl rfl (Nat.le_of_ble_eq_true rfl) dX6_readCompared_91 rfl ?_
          refine gz_iconst (v := 0) hX dX6_readCompared_94 gk_c_0 ?_
          obtain ⟨e1, e2⟩ := gz_in2 h
          exact gt_iret hX hZ hF e1 e2 dX6_readCompared_95
        · have h := gz_ifp c16 h
          refine gz_iconst (v := (-1)) hX dX6_readCompared_86 gk_c_m1 ?_
          obtain ⟨e1, e2⟩ := gz_in2 h
          exact gt_iret hX hZ hF e1 e2 dX6_readCompared_87
      refine gz_icmp_ne (tgt := 57) hX dX6_readCompared_49 (by decide) (fun c9 => ?_) (fun c9 => ?_)
      · have g7 := gz_ifn c9 g7
        refine gz_aload_n (q := 0) hX dX6_readCompared_57 rfl rfl ?_
        refine tg_value hX dX6_readCompared_58 ?_
        refine gz_bipush (v := 61) hX dX6_readCompared_61 gk_b_61 ?_
        refine gz_icmp_ne (tgt := 71) hX dX6_readCompared_63 (by decide) (fun c10 => ?_) (fun c10 => ?_)
        · have g7 := gz_ifn c10 g7
          refine gz_bipush (v := 8) hX dX6_readCompared_71 gk_b_8 ?_
          obtain rfl := g7
          exact gz_lv [0] rfl J8
        · have g7 := gz_ifp c10 g7
          refine gz_bipush (v := 7) hX dX6_readCompared_66 gk_b_7 ?_
          refine gz_goto (tgt := 73) hX dX6_readCompared_68 (by decide) ?_
          obtain rfl := g7
          exact gz_lv [0] rfl J8
      · have g7 := gz_ifp c9 g7
        refine gz_bipush (v := 6) hX dX6_readCompared_52 gk_b_6 ?_
        refine gz_goto (tgt := 73) hX dX6_readCompared_54 (by decide) ?_
        obtain rfl := g7
        exact gz_lv [0] rfl J8
    · have h := gz_ifp c5 h
      refine gz_aload_n (q := 0) hX dX6_readCompared_19 rfl rfl ?_
      refine gz_bipush (v := 61) hX dX6_readCompared_20 gk_b_61 ?_
      refine tc_V (As := [.int 61]) hX (c_isSign rfl) (lw_isSign_ q1796) rfl rfl nn_isSign ⟨Nat.le_of_ble_eq_true rfl, Nat.le_of_ble_eq_true rfl⟩ rfl rfl (Nat.le_of_ble_eq_true rfl) dX6_readCompared_22 rfl ?_
      refine gz_if_ne (tgt := 43) hX dX6_readCompared_25 (by decide) (fun c19 => ?_) (fun c19 => ?_)
      · have h := gz_ifn c19 h
        refine gz_aload_n (q := 0) hX dX6_readCompared_43 rfl rfl ?_
        refine tg_value hX dX6_readCompared_44 ?_
        refine gz_bipush (v := 60) hX dX6_readCompared_47 gk_b_60 ?_
        obtain ⟨y20, g21, h⟩ := gz_let_o h
        have J22 : gW X 2 tw_S tw_R ad V3 0 0 73 [(0, .ref (ad (1, 0, 0)))] [.int y20] := by
          refine gz_istore_n (lv2 := [(1, .int y20), (0, .ref (ad (1, 0, 0)))]) hX dX6_readCompared_73 rfl (by decide) rfl ?_
          refine gz_aload_n (q := 1) hX dX6_readCompared_74 rfl rfl ?_
          obtain ⟨V26, e25, h⟩ := gz_bd_o h
          refine tc_V (As := []) hX (c_reads e25) (lw_reads_ q1744) rfl rfl nn_reads ⟨Nat.le_of_ble_eq_true rfl, Nat.le_of_ble_eq_true rfl⟩ rfl rfl (Nat.le_of_ble_eq_true rfl) dX6_readCompared_75 rfl ?_
          refine gz_aload_n (q := 1) hX dX6_readCompared_78 rfl rfl ?_
          obtain ⟨V29, r27, e28, h⟩ := gz_b2_o h
          refine tc_V (As := []) hX (c_readSum e28) (lw_readSum_ q1824) rfl rfl nn_readSum ⟨Nat.le_of_ble_eq_true rfl, Nat.le_of_ble_eq_true rfl⟩ rfl rfl (Nat.le_of_ble_eq_true rfl) dX6_readCompared_79 rfl ?_
          refine gz_iconst (v := (-1)) hX dX6_readCompared_82 gk_c_m1 ?_
          refine gz_icmp_ne (tgt := 88) hX dX6_readCompared_83 (by decide) (fun c30 => ?_) (fun c30 => ?_)
          · have h := gz_ifn c30 h
            refine gz_aload_n (q := 1) hX dX6_readCompared_88 rfl rfl ?_
            refine gz_iload_n (q := 0) hX dX6_readCompared_89 rfl rfl ?_
            refine gz_iconst (v := 0) hX dX6_readCompared_90 gk_c_0 ?_
            obtain ⟨V32, e31, h⟩ := gz_bd_o h
            refine tc_V (As := [.int y20, .int 0]) hX (c_emits e31) (lw_emits_ q1840) rfl rfl nn_emits ⟨Nat.le_of_ble_eq_true rfl, Nat.le_of_ble_eq_true rfl⟩ rfl rfl (Nat.le_of_ble_eq_true rfl) dX6_readCompared_91 rfl ?_
            refine gz_iconst (v := 0) hX dX6_readCompared_94 gk_c_0 ?_
            obtain ⟨e1, e2⟩ := gz_in2 h
            exact gt_iret hX hZ hF e1 e2 dX6_readCompared_95
          · have h := gz_ifp c30 h
            refine gz_iconst (v := (-1)) hX dX6_readCompared_86 gk_c_m1 ?_
            obtain ⟨e1, e2⟩ := gz_in2 h
            exact gt_iret hX hZ hF e1 e2 dX6_readCompared_87
        refine gz_icmp_ne (tgt := 57) hX dX6_readCompared_49 (by decide) (fun c23 => ?_) (fun c23 => ?_)
        · have g21 := gz_ifn c23 g21
          refine gz_aload_n (q := 0) hX dX6_readCompared_57 rfl rfl ?_
          refine tg_value hX dX6_readCompared_58 ?_
          refine gz_bipush (v := 61) hX dX6_readCompared_61 gk_b_61 ?_
          refine gz_icmp_ne (tgt := 71) hX dX6_readCompared_63 (by decide) (fun c24 => ?_) (fun c24 => ?_)
          · have g21 := gz_ifn c24 g21
            refine gz_bipush (v := 8) hX dX6_readCompared_71 gk_b_8 ?_
            obtain rfl := g21
            exact gz_lv [0] rfl J22
          · have g21 := gz_ifp c24 g21
            refine gz_bipush (v := 7) hX dX6_readCompared_66 gk_b_7 ?_
            refine gz_goto (tgt := 73) hX dX6_readCompared_68 (by decide) ?_
            obtain rfl := g21
            exact gz_lv [0] rfl J22
        · have g21 := gz_ifp c23 g21
          refine gz_bipush (v := 6) hX dX6_readCompared_52 gk_b_6 ?_
          refine gz_goto (tgt := 73) hX dX6_readCompared_54 (by decide) ?_
          obtain rfl := g21
          exact gz_lv [0] rfl J22
      · have h := gz_ifp c19 h
        refine gz_aload_n (q := 0) hX dX6_readCompared_28 rfl rfl ?_
        refine gz_bipush (v := 62) hX dX6_readCompared_29 gk_b_62 ?_
        refine tc_V (As := [.int 62]) hX (c_isSign rfl) (lw_isSign_ q1796) rfl rfl nn_isSign ⟨Nat.le_of_ble_eq_true rfl, Nat.le_of_ble_eq_true rfl⟩ rfl rfl (Nat.le_of_ble_eq_true rfl) dX6_readCompared_31 rfl ?_
        refine gz_if_ne (tgt := 43) hX dX6_readCompared_34 (by decide) (fun c33 => ?_) (fun c33 => ?_)
        · have h := gz_ifn c33 h
          refine gz_aload_n (q := 0) hX dX6_readCompared_43 rfl rfl ?_
          refine tg_value hX dX6_readCompared_44 ?_
          refine gz_bipush (v := 60) hX dX6_readCompared_47 gk_b_60 ?_
          obtain ⟨y34, g35, h⟩ := gz_let_o h
          have J36 : gW X 2 tw_S tw_R ad V3 0 0 73 [(0, .ref (ad (1, 0, 0)))] [.int y34] := by
            refine gz_istore_n (lv2 := [(1, .int y34), (0, .ref (ad (1, 0, 0)))]) hX dX6_readCompared_73 rfl (by decide) rfl ?_
            refine gz_aload_n (q := 1) hX dX6_readCompared_74 rfl rfl ?_
            obtain ⟨V40, e39, h⟩ := gz_bd_o h
            refine tc_V (As := []) hX (c_reads e39) (lw_reads_ q1744) rfl rfl nn_reads ⟨Nat.le_of_ble_eq_true rfl, Nat.le_of_ble_eq_true rfl⟩ rfl rfl (Nat.le_of_ble_eq_true rfl) dX6_readCompared_75 rfl ?_
            refine gz_aload_n (q := 1) hX dX6_readCompared_78 rfl rfl ?_
            obtain ⟨V43, r41, e42, h⟩ := gz_b2_o h
            refine tc_V (As := []) hX (c_readSum e42) (lw_readSum_ q1824) rfl rfl nn_readSum ⟨Nat.le_of_ble_eq_true rfl, Nat.le_of_ble_eq_true rfl⟩ rfl rfl (Nat.le_of_ble_eq_true rfl) dX6_readCompared_79 rfl ?_
            refine gz_iconst (v := (-1)) hX dX6_readCompared_82 gk_c_m1 ?_
            refine gz_icmp_ne (tgt := 88) hX dX6_readCompared_83 (by decide) (fun c44 => ?_) (fun c44 => ?_)
            · have h := gz_ifn c44 h
              refine gz_aload_n (q := 1) hX dX6_readCompared_88 rfl rfl ?_
              refine gz_iload_n (q := 0) hX dX6_readCompared_89 rfl rfl ?_
              refine gz_iconst (v := 0) hX dX6_readCompared_90 gk_c_0 ?_
              obtain ⟨V46, e45, h⟩ := gz_bd_o h
              refine tc_V (As := [.int y34, .int 0]) hX (c_emits e45) (lw_emits_ q1840) rfl rfl nn_emits ⟨Nat.le_of_ble_eq_true rfl, Nat.le_of_ble_eq_true rfl⟩ rfl rfl (Nat.le_of_ble_eq_true rfl) dX6_readCompared_91 rfl ?_
              refine gz_iconst (v := 0) hX dX6_readCompared_94 gk_c_0 ?_
              obtain ⟨e1, e2⟩ := gz_in2 h
              exact gt_iret hX hZ hF e1 e2 dX6_readCompared_95
            · have h := gz_ifp c44 h
              refine gz_iconst (v := (-1)) hX dX6_readCompared_86 gk_c_m1 ?_
              obtain ⟨e1, e2⟩ := gz_in2 h
              exact gt_iret hX hZ hF e1 e2 dX6_readCompared_87
          refine gz_icmp_ne (tgt := 57) hX dX6_readCompared_49 (by decide) (fun c37 => ?_) (fun c37 => ?_)
          · have g35 := gz_ifn c37 g35
            refine gz_aload_n (q := 0) hX dX6_readCompared_57 rfl rfl ?_
            refine tg_value hX dX6_readCompared_58 ?_
            refine gz_bipush (v := 61) hX dX6_readCompared_61 gk_b_61 ?_
            refine gz_icmp_ne (tgt := 71) hX dX6_readCompared_63 (by decide) (fun c38 => ?_) (fun c38 => ?_)
            · have g35 := gz_ifn c38 g35
              refine gz_bipush (v := 8) hX dX6_readCompared_71 gk_b_8 ?_
              obtain rfl := g35
              exact gz_lv [0] rfl J36
            · have g35 := gz_ifp c38 g35
              refine gz_bipush (v := 7) hX dX6_readCompared_66 gk_b_7 ?_
              refine gz_goto (tgt := 73) hX dX6_readCompared_68 (by decide) ?_
              obtain rfl := g35
              exact gz_lv [0] rfl J36
          · have g35 := gz_ifp c37 g35
            refine gz_bipush (v := 6) hX dX6_readCompared_52 gk_b_6 ?_
            refine gz_goto (tgt := 73) hX dX6_readCompared_54 (by decide) ?_
            obtain rfl := g35
            exact gz_lv [0] rfl J36
        · have h := gz_ifp c33 h
          refine gz_aload_n (q := 0) hX dX6_readCompared_37 rfl rfl ?_
          refine gz_iconst (v := 1) hX dX6_readCompared_38 gk_c_1 ?_
          obtain ⟨V49, r47, e48, h⟩ := gz_b2_o h
          refine tc_V (As := [.int 1]) hX (c_errs e48) (lw_errs_ q1776) rfl rfl nn_errs ⟨Nat.le_of_ble_eq_true rfl, Nat.le_of_ble_eq_true rfl⟩ rfl rfl (Nat.le_of_ble_eq_true rfl) dX6_readCompared_39 rfl ?_
          obtain ⟨e1, e2⟩ := gz_in2 h
          exact gt_iret hX hZ hF e1 e2 dX6_readCompared_42
  · have h := gz_ifp c4 h
    refine gz_iconst (v := (-1)) hX dX6_readCompared_8 gk_c_m1 ?_
    obtain ⟨e1, e2⟩ := gz_in2 h
    exact gt_iret hX hZ hF e1 e2 dX6_readCompared_9
theorem lw_readCompared_ {i : Nat} (hl : Cond.methodLink RX6 i yX6_readCompared ∈ lw_all) : GoodIn lw_all (wsV RX6 i RX6 yX6_readCompared (ws_ yX6_readCompared cX6_readCompared 2 (some .int))) := lw_V hl q1854 qs88 q153 q1855
theorem nn_readCompared : yX6_readCompared.cls = RX6 ∧ yX6_readCompared.cls ≠ "java/lang/invoke/MethodHandle" ∧ yX6_readCompared.cls ≠ "java/lang/invoke/VarHandle" ∧ (parseMethodDescriptor yX6_readCompared.desc).map (fun d => d.parameters.length) = some 0 := by decide +kernel
def rm_settles : Room := { frames := 1, cells := 0, slots := 0, locals := 22 }
noncomputable def m_settles_L0 (N : Nat) (v1 : Int32) : Nat → gz_V → Option (gz_V)
  | 0, _ => none
  | n + 1, V => (if (V (1, 0, 0) 29) ≤ 0 then some V else gz_gd (gz_inb ((V (1, 0, 0) 29) - 1) 40 = true) ((if (V (2, 28, 0) ((V (1, 0, 0) 29) - 1).toNatClampNeg) = v1 then gz_let (gz_up V (1, 0, 0) 29 ((V (1, 0, 0) 29) - 1)) (fun V4 => gz_bd (m_emits V4 v1 0) (fun V7 => (if v1 = 9 then gz_let (gz_up V7 (1, 0, 0) 27 ((V7 (1, 0, 0) 27) - 1)) (fun V9 => m_settles_L0 N v1 n V9) else m_settles_L0 N v1 n V7))) else some V)))
theorem w_m_settles_L0 {X : gz_X} {ad : gz_A0} (hX : gz_ok X cX6_settles RX6 "settles" 2 rm_settles none) (hZ : gz_Z X) {N : Nat} {v1 : Int32} {W1 : gz_V} (k : gW X 2 tw_S tw_R ad W1 0 0 57 [] []) : ∀ (n : Nat) {V : gz_V}, m_settles_L0 N v1 n V = some W1 → gW X 2 tw_S tw_R ad V 0 0 0 [(0, .ref (ad (1, 0, 0))), (1, .int v1)] [] := by
  intro n
  induction n with
  | zero => intro V h; rw [m_settles_L0] at h; cases h
  | succ n ih =>
    intro V h
    rw [m_settles_L0] at h
    refine gz_aload_n (q := 0) hX dX6_settles_0 rfl rfl ?_
    refine tg_pendings hX dX6_settles_1 ?_
    refine gz_if_le (tgt := 57) hX dX6_settles_4 (by decide) (fun c1 => ?_) (fun c1 => ?_)
    · have h := gz_ifp c1 h
      obtain rfl := gz_in1 h
      exact gz_lv [] rfl k
    · have h := gz_ifn c1 h
      refine gz_aload_n (q := 0) hX dX6_settles_7 rfl rfl ?_
      refine tg_pending hX dX6_settles_8 ?_
      refine gz_aload_n (q := 0) hX dX6_settles_11 rfl rfl ?_
      refine tg_pendings hX dX6_settles_12 ?_
      refine gz_iconst (v := 1) hX dX6_settles_15 gk_c_1 ?_
      refine gz_isub hX dX6_settles_16 ?_
      obtain ⟨b2, h⟩ := gz_gd_o h
      refine gz_iald (L := 40) hX tw_S28 (gz_inb_o b2) dX6_settles_17 ?_
      refine gz_iload_n (q := 1) hX dX6_settles_18 rfl rfl ?_
      refine gz_icmp_ne (tgt := 57) hX dX6_settles_19 (by decide) (fun c3 => ?_) (fun c3 => ?_)
      · have h := gz_ifn c3 h
        obtain rfl := gz_in1 h
        exact gz_lv [] rfl k
      · have h := gz_ifp c3 h
        refine gz_aload_n (q := 0) hX dX6_settles_22 rfl rfl ?_
        refine gz_aload_n (q := 0) hX dX6_settles_23 rfl rfl ?_
        refine tg_pendings hX dX6_settles_24 ?_
        refine gz_iconst (v := 1) hX dX6_settles_27 gk_c_1 ?_
        refine gz_isub hX dX6_settles_28 ?_
        obtain ⟨V4, e5, h⟩ := gz_let_o h
        refine tp_pendings hX dX6_settles_29 e5 ?_
        refine gz_aload_n (q := 0) hX dX6_settles_32 rfl rfl ?_
        refine gz_iload_n (q := 1) hX dX6_settles_33 rfl rfl ?_
        refine gz_iconst (v := 0) hX dX6_settles_34 gk_c_0 ?_
        obtain ⟨V7, e6, h⟩ := gz_bd_o h
        refine tc_V (As := [.int v1, .int 0]) hX (c_emits e6) (lw_emits_ q1840) rfl rfl nn_emits ⟨Nat.le_of_ble_eq_true rfl, Nat.le_of_ble_eq_true rfl⟩ rfl rfl (Nat.le_of_ble_eq_true rfl) dX6_settles_35 rfl ?_
        refine gz_iload_n (q := 1) hX dX6_settles_38 rfl rfl ?_
        refine gz_bipush (v := 9) hX dX6_settles_39 gk_b_9 ?_
        refine gz_icmp_ne (tgt := 0) hX dX6_settles_41 (by decide) (fun c8 => ?_) (fun c8 => ?_)
        · have h := gz_ifn c8 h
          exact gz_lv [0, 1] rfl (ih h)
        · have h := gz_ifp c8 h
          refine gz_aload_n (q := 0) hX dX6_settles_44 rfl rfl ?_
          refine gz_aload_n (q := 0) hX dX6_settles_45 rfl rfl ?_
          refine tg_open hX dX6_settles_46 ?_
          refine gz_iconst (v := 1) hX dX6_settles_49 gk_c_1 ?_
          refine gz_isub hX dX6_settles_50 ?_
          obtain ⟨V9, e10, h⟩ := gz_let_o h
          refine tp_open hX dX6_settles_51 e10 ?_
          refine gz_goto (tgt := 0) hX dX6_settles_54 (by decide) ?_
          exact gz_lv [0, 1] rfl (ih h)
noncomputable def m_settles (N : Nat) (V : gz_V) (a1 : Int32) : Option gz_V := gz_bd (m_settles_L0 N a1 N V) (fun V1 => some V1)
theorem c_settles {l : Launch} {D : va_G} {aC : Nat → ClassId} {ad : gz_A0} {N : Nat} {V : gz_V} {a1 : Int32} {W1 : gz_V} (h : m_settles N V a1 = some W1) : gz_Met l yX6_settles cX6_settles 2 none rm_settles D aC ad tw_S V tw_R [.ref (ad (1, 0, 0)), .int a1] (gz_F1 tw_S tw_R ad W1 none) 0 0 := by
  refine gt_ofW (own := RX6) (mn := "settles") (lv := [(0, .ref (ad (1, 0, 0))), (1, .int a1)]) (by decide) rfl rfl (Nat.le_of_ble_eq_true rfl) rfl ?_
  intro X hX hZ hF
  rw [m_settles] at h
  obtain ⟨V1, e2, h⟩ := gz_bd_o h
  refine gz_lv [0, 1] rfl (w_m_settles_L0 hX hZ ?_ N e2)
  exact gt_vret hX hZ hF (gz_in1 h) dX6_settles_57
theorem lw_settles_ {i : Nat} (hl : Cond.methodLink RX6 i yX6_settles ∈ lw_all) : GoodIn lw_all (wsV RX6 i RX6 yX6_settles (ws_ yX6_settles cX6_settles 2 none)) := lw_V hl q1858 qs89 q153 q1859
theorem nn_settles : yX6_settles.cls = RX6 ∧ yX6_settles.cls ≠ "java/lang/invoke/MethodHandle" ∧ yX6_settles.cls ≠ "java/lang/invoke/VarHandle" ∧ (parseMethodDescriptor yX6_settles.desc).map (fun d => d.parameters.length) = some 1 := by decide +kernel
def rm_readAny : Room := { frames := 7, cells := 0, slots := 0, locals := 149 }
noncomputable def m_readAny_L9 (N : Nat) : Nat → gz_V → Int32 → Int32 → Option (gz_V × Int32)
  | 0, _, _, _ => none
  | n + 1, V, v1, v2 => (if v2 = 0 then (if (m_isWord V 5) = 0 then (if (m_isWord V 4) = 0 then gz_bd (m_settles N V 10) (fun V7 => gz_bd (m_settles N V7 11) (fun V9 => (if v1 = 0 then some (V9, 0) else (if (m_isSign V9 41) = 0 then gz_b2 (m_errs V9 1) (fun V24 r22 => some (V24, r22)) else gz_let (gz_up V9 (1, 0, 0) 29 ((V9 (1, 0, 0) 29) - 1)) (fun V12 => gz_let (v1 - 1) (fun x14 => gz_let (gz_up V12 (1, 0, 0) 27 ((V12 (1, 0, 0) 27) - 1)) (fun V16 => gz_bd (m_settles N V16 9) (fun V19 => gz_bd (m_reads N V19) (fun V21 => m_readAny_L9 N n V21 x14 v2))))))))) else gz_bd (m_settles N V 10) (fun V26 => gz_bd (m_settles N V26 11) (fun V28 => gz_bd (m_waits V28 11) (fun V30 => gz_bd (m_reads N V30) (fun V32 => m_readAny_L9 N n V32 v1 1))))) else gz_bd (m_settles N V 10) (fun V34 => gz_bd (m_waits V34 10) (fun V36 => gz_bd (m_reads N V36) (fun V38 => m_readAny_L9 N n V38 v1 1)))) else gz_let (m_isWord V 6) (fun x39 => (if x39 = 0 then (if (m_isSign V 40) = 0 then gz_b2 (m_readCompared N V) (fun V65 r63 => (if r63 = (-1) then some (V65, (-1)) else gz_bd (m_settles N V65 9) (fun V68 => m_readAny_L9 N n V68 v1 0))) else (if (V (1, 0, 0) 27) = 8 then gz_b2 (m_errs V 3) (fun V88 r86 => some (V88, r86)) else gz_let (gz_up V (1, 0, 0) 27 ((V (1, 0, 0) 27) + 1)) (fun V70 => gz_let (if x39 = 0 then gz_let (v1 + 1) (fun x76 => x76) else v1) (fun y72 => gz_let (if x39 = 0 then (12 : Int32) else (9 : Int32)) (fun y78 => gz_bd (m_waits V70 y78) (fun V83 => gz_bd (m_reads N V83) (fun V85 => m_readAny_L9 N n V85 y72 v2))))))) else (if (V (1, 0, 0) 27) = 8 then gz_b2 (m_errs V 3) (fun V61 r59 => some (V61, r59)) else gz_let (gz_up V (1, 0, 0) 27 ((V (1, 0, 0) 27) + 1)) (fun V43 => gz_let (if x39 = 0 then gz_let (v1 + 1) (fun x49 => x49) else v1) (fun y45 => gz_let (if x39 = 0 then (12 : Int32) else (9 : Int32)) (fun y51 => gz_bd (m_waits V43 y51) (fun V56 => gz_bd (m_reads N V56) (fun V58 => m_readAny_L9 N n V58 y45 v2)))))))))
theorem w_m_readAny_L9 {X : gz_X} {ad : gz_A0} (hX : gz_ok X cX6_readAny RX6 "readAny" 4 rm_readAny (some .int)) (hZ : gz_Z X) {N : Nat} {W2 : gz_V} {r : Int32} (hF : gx_F X tw_S W2 tw_R ad (some (.int r))) : ∀ (n : Nat) {V : gz_V} {v1 : Int32} {v2 : Int32}, m_readAny_L9 N n V v1 v2 = some (W2, r) → gW X 4 tw_S tw_R ad V 0 0 9 [(0, .ref (ad (1, 0, 0))), (1, .int v1), (2, .int v2)] [] := by
  intro n
  induction n with
  | zero => intro V v1 v2 h; rw [m_readAny_L9] at h; cases h
  | succ n ih =>
    intro V v1 v2 h
    rw [m_readAny_L9] at h
    refine gz_iload_n (q := 2) hX dX6_readAny_9 rfl rfl ?_
    refine gz_if_eq (tgt := 109) hX dX6_readAny_10 (by decide) (fun c3 => ?_) (fun c3 => ?_)
    · have h := gz_ifp c3 h
      refine gz_aload_n (q := 0) hX dX6_readAny_109 rfl rfl ?_
      refine gz_iconst (v := 5) hX dX6_readAny_110 gk_c_5 ?_
      refine tc_V (As := [.int 5]) hX (c_isWord rfl) (lw_isWord_ q1772) rfl rfl nn_isWord ⟨Nat.le_of_ble_eq_true rfl, Nat.le_of_ble_eq_true rfl⟩ rfl rfl (Nat.le_of_ble_eq_true rfl) dX6_readAny_111 rfl ?_
      refine gz_if_eq (tgt := 138) hX dX6_readAny_114 (by decide) (fun c4 => ?_) (fun c4 => ?_)
      · have h := gz_ifp c4 h
        refine gz_aload_n (q := 0) hX dX6_readAny_138 rfl rfl ?_
        refine gz_iconst (v := 4) hX dX6_readAny_139 gk_c_4 ?_
        refine tc_V (As := [.int 4]) hX (c_isWord rfl) (lw_isWord_ q1772) rfl rfl nn_isWord ⟨Nat.le_of_ble_eq_true rfl, Nat.le_of_ble_eq_true rfl⟩ rfl rfl (Nat.le_of_ble_eq_true rfl) dX6_readAny_140 rfl ?_
        refine gz_if_eq (tgt := 173) hX dX6_readAny_143 (by decide) (fun c5 => ?_) (fun c5 => ?_)
        · have h := gz_ifp c5 h
          refine gz_aload_n (q := 0) hX dX6_readAny_173 rfl rfl ?_
          refine gz_bipush (v := 10) hX dX6_readAny_174 gk_b_10 ?_
          obtain ⟨V7, e6, h⟩ := gz_bd_o h
          refine tc_V (As := [.int 10]) hX (c_settles e6) (lw_settles_ q1856) rfl rfl nn_settles ⟨Nat.le_of_ble_eq_true rfl, Nat.le_of_ble_eq_true rfl⟩ rfl rfl (Nat.le_of_ble_eq_true rfl) dX6_readAny_176 rfl ?_
          refine gz_aload_n (q := 0) hX dX6_readAny_179 rfl rfl ?_
          refine gz_bipush (v := 11) hX dX6_readAny_180 gk_b_11 ?_
          obtain ⟨V9, e8, h⟩ := gz_bd_o h
          refine tc_V (As := [.int 11]) hX (c_settles e8) (lw_settles_ q1856) rfl rfl nn_settles ⟨Nat.le_of_ble_eq_true rfl, Nat.le_of_ble_eq_true rfl⟩ rfl rfl (Nat.le_of_ble_eq_true rfl) dX6_readAny_182 rfl ?_
          refine gz_iload_n (q := 1) hX dX6_readAny_185 rfl rfl ?_
          refine gz_if_ne (tgt := 191) hX dX6_readAny_186 (by decide) (fun c10 => ?_) (fun c10 => ?_)
          · have h := gz_ifn c10 h
            refine gz_aload_n (q := 0) hX dX6_readAny_191 rfl rfl ?_
            refine gz_bipush (v := 41) hX dX6_readAny_192 gk_b_41 ?_
            refine tc_V (As := [.int 41]) hX (c_isSign rfl) (lw_isSign_ q1796) rfl rfl nn_isSign ⟨Nat.le_of_ble_eq_true rfl, Nat.le_of_ble_eq_true rfl⟩ rfl rfl (Nat.le_of_ble_eq_true rfl) dX6_readAny_194 rfl ?_
            refine gz_if_ne (tgt := 206) hX dX6_readAny_197 (by decide) (fun c11 => ?_) (fun c11 => ?_)
            · have h := gz_ifn c11 h
              refine gz_aload_n (q := 0) hX dX6_readAny_206 rfl rfl ?_
              refine gz_aload_n (q := 0) hX dX6_readAny_207 rfl rfl ?_
              refine tg_pendings hX dX6_readAny_208 ?_
              refine gz_iconst (v := 1) hX dX6_readAny_211 gk_c_1 ?_
              refine gz_isub hX dX6_readAny_212 ?_
              obtain ⟨V12, e13, h⟩ := gz_let_o h
              refine tp_pendings hX dX6_readAny_213 e13 ?_
              refine gz_iload_n (q := 1) hX dX6_readAny_216 rfl rfl ?_
              refine gz_iconst (v := 1) hX dX6_readAny_217 gk_c_1 ?_
              refine gz_isub hX dX6_readAny_218 ?_
              obtain ⟨x14, e15, h⟩ := gz_let_o h
              refine gz_nm e15 ?_
              refine gz_istore_n (lv2 := [(1, .int x14), (0, .ref (ad (1, 0, 0))), (2, .int v2)]) hX dX6_readAny_219 rfl (by decide) rfl ?_
              refine gz_aload_n (q := 1) hX dX6_readAny_220 rfl rfl ?_
              refine gz_aload_n (q := 1) hX dX6_readAny_221 rfl rfl ?_
              refine tg_open hX dX6_readAny_222 ?_
              refine gz_iconst (v := 1) hX dX6_readAny_225 gk_c_1 ?_
              refine gz_isub hX dX6_readAny_226 ?_
              obtain ⟨V16, e17, h⟩ := gz_let_o h
              refine tp_open hX dX6_readAny_227 e17 ?_
              refine gz_aload_n (q := 1) hX dX6_readAny_230 rfl rfl ?_
              refine gz_bipush (v := 9) hX dX6_readAny_231 gk_b_9 ?_
              obtain ⟨V19, e18, h⟩ := gz_bd_o h
              refine tc_V (As := [.int 9]) hX (c_settles e18) (lw_settles_ q1856) rfl rfl nn_settles ⟨Nat.le_of_ble_eq_true rfl, Nat.le_of_ble_eq_true rfl⟩ rfl rfl (Nat.le_of_ble_eq_true rfl) dX6_readAny_233 rfl ?_
              refine gz_aload_n (q := 1) hX dX6_readAny_236 rfl rfl ?_
              obtain ⟨V21, e20, h⟩ := gz_bd_o h
              refine tc_V (As := []) hX (c_reads e20) (lw_reads_ q1744) rfl rfl nn_reads ⟨Nat.le_of_ble_eq_true rfl, Nat.le_of_ble_eq_true rfl⟩ rfl rfl (Nat.le_of_ble_eq_true rfl) dX6_readAny_237 rfl ?_
              refine gz_goto (tgt := 9) hX dX6_readAny_240 (by decide) ?_
              exact gz_lv [1, 0, 2] rfl (ih h)
            · have h := gz_ifp c11 h
              refine gz_aload_n (q := 0) hX dX6_readAny_200 rfl rfl ?_
              refine gz_iconst (v := 1) hX dX6_readAny_201 gk_c_1 ?_
              obtain ⟨V24, r22, e23, h⟩ := gz_b2_o h
              refine tc_V (As := [.int 1]) hX (c_errs e23) (lw_errs_ q1776) rfl rfl nn_errs ⟨Nat.le_of_ble_eq_true rfl, Nat.le_of_ble_eq_true rfl⟩ rfl rfl (Nat.le_of_ble_eq_true rfl) dX6_readAny_202 rfl ?_
              obtain ⟨e1, e2⟩ := gz_in2 h
              exact gt_iret hX hZ hF e1 e2 dX6_readAny_205
          · have h := gz_ifp c10 h
            refine gz_iconst (v := 0) hX dX6_readAny_189 gk_c_0 ?_
            obtain ⟨e1, e2⟩ := gz_in2 h
            exact gt_iret hX hZ hF e1 e2 dX6_readAny_190
        · have h := gz_ifn c5 h
          refine gz_aload_n (q := 0) hX dX6_readAny_146 rfl rfl ?_
          refine gz_bipush (v := 10) hX dX6_readAny_147 gk_b_10 ?_
          obtain ⟨V26, e25, h⟩ := gz_bd_o h
          refine tc_V (As := [.int 10]) hX (c_settles e25) (lw_settles_ q1856) rfl rfl nn_settles ⟨Nat.le_of_ble_eq_true rfl, Nat.le_of_ble_eq_true rfl⟩ rfl rfl (Nat.le_of_ble_eq_true rfl) dX6_readAny_149 rfl ?_
          refine gz_aload_n (q := 0) hX dX6_readAny_152 rfl rfl ?_
          refine gz_bipush (v := 11) hX dX6_readAny_153 gk_b_11 ?_
          obtain ⟨V28, e27, h⟩ := gz_bd_o h
          refine tc_V (As := [.int 11]) hX (c_settles e27) (lw_settles_ q1856) rfl rfl nn_settles ⟨Nat.le_of_ble_eq_true rfl, Nat.le_of_ble_eq_true rfl⟩ rfl rfl (Nat.le_of_ble_eq_true rfl) dX6_readAny_155 rfl ?_
          refine gz_aload_n (q := 0) hX dX6_readAny_158 rfl rfl ?_
          refine gz_bipush (v := 11) hX dX6_readAny_159 gk_b_11 ?_
          obtain ⟨V30, e29, h⟩ := gz_bd_o h
          refine tc_V (As := [.int 11]) hX (c_waits e29) (lw_waits_ q1848) rfl rfl nn_waits ⟨Nat.le_of_ble_eq_true rfl, Nat.le_of_ble_eq_true rfl⟩ rfl rfl (Nat.le_of_ble_eq_true rfl) dX6_readAny_161 rfl ?_
          refine gz_aload_n (q := 0) hX dX6_readAny_164 rfl rfl ?_
          obtain ⟨V32, e31, h⟩ := gz_bd_o h
          refine tc_V (As := []) hX (c_reads e31) (lw_reads_ q1744) rfl rfl nn_reads ⟨Nat.le_of_ble_eq_true rfl, Nat.le_of_ble_eq_true rfl⟩ rfl rfl (Nat.le_of_ble_eq_true rfl) dX6_readAny_165 rfl ?_
          refine gz_iconst (v := 1) hX dX6_readAny_168 gk_c_1 ?_
          refine gz_istore_n (lv2 := [(2, .int 1), (0, .ref (ad (1, 0, 0))), (1, .int v1)]) hX dX6_readAny_169 rfl (by decide) rfl ?_
          refine gz_goto (tgt := 9) hX dX6_readAny_170 (by decide) ?_
          exact gz_lv [1, 2, 0] rfl (ih h)
      · have h := gz_ifn c4 h
        refine gz_aload_n (q := 0) hX dX6_readAny_117 rfl rfl ?_
        refine gz_bipush (v := 10) hX dX6_readAny_118 gk_b_10 ?_
        obtain ⟨V34, e33, h⟩ := gz_bd_o h
        refine tc_V (As := [.int 10]) hX (c_settles e33) (lw_settles_ q1856) rfl rfl nn_settles ⟨Nat.le_of_ble_eq_true rfl, Nat.le_of_ble_eq_true rfl⟩ rfl rfl (Nat.le_of_ble_eq_true rfl) dX6_readAny_120 rfl ?_
        refine gz_aload_n (q := 0) hX dX6_readAny_123 rfl rfl ?_
        refine gz_bipush (v := 10) hX dX6_readAny_124 gk_b_10 ?_
        obtain ⟨V36, e35, h⟩ := gz_bd_o h
        refine tc_V (As := [.int 10]) hX (c_waits e35) (lw_waits_ q1848) rfl rfl nn_waits ⟨Nat.le_of_ble_eq_true rfl, Nat.le_of_ble_eq_true rfl⟩ rfl rfl (Nat.le_of_ble_eq_true rfl) dX6_readAny_126 rfl ?_
        refine gz_aload_n (q := 0) hX dX6_readAny_129 rfl rfl ?_
        obtain ⟨V38, e37, h⟩ := gz_bd_o h
        refine tc_V (As := []) hX (c_reads e37) (lw_reads_ q1744) rfl rfl nn_reads ⟨Nat.le_of_ble_eq_true rfl, Nat.le_of_ble_eq_true rfl⟩ rfl rfl (Nat.le_of_ble_eq_true rfl) dX6_readAny_130 rfl ?_
        refine gz_iconst (v := 1) hX dX6_readAny_133 gk_c_1 ?_
        refine gz_istore_n (lv2 := [(2, .int 1), (0, .ref (ad (1, 0, 0))), (1, .int v1)]) hX dX6_readAny_134 rfl (by decide) rfl ?_
        refine gz_goto (tgt := 9) hX dX6_readAny_135 (by decide) ?_
        exact gz_lv [1, 2, 0] rfl (ih h)
    · have h := gz_ifn c3 h
      refine gz_aload_n (q := 0) hX dX6_readAny_13 rfl rfl ?_
      refine gz_bipush (v := 6) hX dX6_readAny_14 gk_b_6 ?_
      refine tc_V (As := [.int 6]) hX (c_isWord rfl) (lw_isWord_ q1772) rfl rfl nn_isWord ⟨Nat.le_of_ble_eq_true rfl, Nat.le_of_ble_eq_true rfl⟩ rfl rfl (Nat.le_of_ble_eq_true rfl) dX6_readAny_16 rfl ?_
      obtain ⟨x39, e40, h⟩ := gz_let_o h
      refine gz_nm e40 ?_
      refine gz_istore_n (lv2 := [(3, .int x39), (0, .ref (ad (1, 0, 0))), (1, .int v1), (2, .int v2)]) hX dX6_readAny_19 rfl (by decide) rfl ?_
      refine gz_iload_n (q := 0) hX dX6_readAny_20 rfl rfl ?_
      refine gz_if_ne (tgt := 33) hX dX6_readAny_21 (by decide) (fun c41 => ?_) (fun c41 => ?_)
      · have h := gz_ifn c41 h
        refine gz_aload_n (q := 1) hX dX6_readAny_33 rfl rfl ?_
        refine tg_open hX dX6_readAny_34 ?_
        refine gz_bipush (v := 8) hX dX6_readAny_37 gk_b_8 ?_
        refine gz_icmp_ne (tgt := 48) hX dX6_readAny_39 (by decide) (fun c42 => ?_) (fun c42 => ?_)
        · have h := gz_ifn c42 h
          refine gz_aload_n (q := 1) hX dX6_readAny_48 rfl rfl ?_
          refine gz_aload_n (q := 1) hX dX6_readAny_49 rfl rfl ?_
          refine tg_open hX dX6_readAny_50 ?_
          refine gz_iconst (v := 1) hX dX6_readAny_53 gk_c_1 ?_
          refine gz_iadd hX dX6_readAny_54 ?_
          obtain ⟨V43, e44, h⟩ := gz_let_o h
          refine tp_open hX dX6_readAny_55 e44 ?_
          refine gz_iload_n (q := 0) hX dX6_readAny_58 rfl rfl ?_
          obtain ⟨y45, g46, h⟩ := gz_let_o h
          have J47 : gW X 4 tw_S tw_R ad V43 0 0 66 [(0, .ref (ad (1, 0, 0))), (1, .int y45), (2, .int v2), (3, .int x39)] [] := by
            refine gz_aload_n (q := 0) hX dX6_readAny_66 rfl rfl ?_
            refine gz_iload_n (q := 3) hX dX6_readAny_67 rfl rfl ?_
            obtain ⟨y51, g52, h⟩ := gz_let_o h
            have J53 : gW X 4 tw_S tw_R ad V43 0 0 78 [(0, .ref (ad (1, 0, 0))), (1, .int y45), (2, .int v2)] [.int y51, .ref (ad (1, 0, 0))] := by
              obtain ⟨V56, e55, h⟩ := gz_bd_o h
              refine tc_V (As := [.int y51]) hX (c_waits e55) (lw_waits_ q1848) rfl rfl nn_waits ⟨Nat.le_of_ble_eq_true rfl, Nat.le_of_ble_eq_true rfl⟩ rfl rfl (Nat.le_of_ble_eq_true rfl) dX6_readAny_78 rfl ?_
              refine gz_aload_n (q := 0) hX dX6_readAny_81 rfl rfl ?_
              obtain ⟨V58, e57, h⟩ := gz_bd_o h
              refine tc_V (As := []) hX (c_reads e57) (lw_reads_ q1744) rfl rfl nn_reads ⟨Nat.le_of_ble_eq_true rfl, Nat.le_of_ble_eq_true rfl⟩ rfl rfl (Nat.le_of_ble_eq_true rfl) dX6_readAny_82 rfl ?_
              refine gz_goto (tgt := 9) hX dX6_readAny_85 (by decide) ?_
              exact gz_lv [0, 1, 2] rfl (ih h)
            refine gz_if_eq (tgt := 76) hX dX6_readAny_68 (by decide) (fun c54 => ?_) (fun c54 => ?_)
            · have g52 := gz_ifp c54 g52
              refine gz_bipush (v := 12) hX dX6_readAny_76 gk_b_12 ?_
              obtain rfl := g52
              exact gz_lv [0, 1, 2] rfl J53
            · have g52 := gz_ifn c54 g52
              refine gz_bipush (v := 9) hX dX6_readAny_71 gk_b_9 ?_
              refine gz_goto (tgt := 78) hX dX6_readAny_73 (by decide) ?_
              obtain rfl := g52
              exact gz_lv [0, 1, 2] rfl J53
          refine gz_if_ne (tgt := 66) hX dX6_readAny_59 (by decide) (fun c48 => ?_) (fun c48 => ?_)
          · have g46 := gz_ifn c48 g46
            obtain rfl := g46
            exact gz_lv [1, 2, 3, 0] rfl J47
          · have g46 := gz_ifp c48 g46
            refine gz_iload_n (q := 2) hX dX6_readAny_62 rfl rfl ?_
            refine gz_iconst (v := 1) hX dX6_readAny_63 gk_c_1 ?_
            refine gz_iadd hX dX6_readAny_64 ?_
            obtain ⟨x49, e50, g46⟩ := gz_let_o g46
            refine gz_nm e50 ?_
            refine gz_istore_n (lv2 := [(1, .int x49), (3, .int x39), (0, .ref (ad (1, 0, 0))), (2, .int v2)]) hX dX6_readAny_65 rfl (by decide) rfl ?_
            obtain rfl := g46
            exact gz_lv [2, 0, 3, 1] rfl J47
        · have h := gz_ifp c42 h
          refine gz_aload_n (q := 1) hX dX6_readAny_42 rfl rfl ?_
          refine gz_iconst (v := 3) hX dX6_readAny_43 gk_c_3 ?_
          obtain ⟨V61, r59, e60, h⟩ := gz_b2_o h
          refine tc_V (As := [.int 3]) hX (c_errs e60) (lw_errs_ q1776) rfl rfl nn_errs ⟨Nat.le_of_ble_eq_true rfl, Nat.le_of_ble_eq_true rfl⟩ rfl rfl (Nat.le_of_ble_eq_true rfl) dX6_readAny_44 rfl ?_
          obtain ⟨e1, e2⟩ := gz_in2 h
          exact gt_iret hX hZ hF e1 e2 dX6_readAny_47
      · have h := gz_ifp c41 h
        refine gz_aload_n (q := 1) hX dX6_readAny_24 rfl rfl ?_
        refine gz_bipush (v := 40) hX dX6_readAny_25 gk_b_40 ?_
        refine tc_V (As := [.int 40]) hX (c_isSign rfl) (lw_isSign_ q1796) rfl rfl nn_isSign ⟨Nat.le_of_ble_eq_true rfl, Nat.le_of_ble_eq_true rfl⟩ rfl rfl (Nat.le_of_ble_eq_true rfl) dX6_readAny_27 rfl ?_
        refine gz_if_eq (tgt := 88) hX dX6_readAny_30 (by decide) (fun c62 => ?_) (fun c62 => ?_)
        · have h := gz_ifp c62 h
          refine gz_aload_n (q := 1) hX dX6_readAny_88 rfl rfl ?_
          obtain ⟨V65, r63, e64, h⟩ := gz_b2_o h
          refine tc_V (As := []) hX (c_readCompared e64) (lw_readCompared_ q1852) rfl rfl nn_readCompared ⟨Nat.le_of_ble_eq_true rfl, Nat.le_of_ble_eq_true rfl⟩ rfl rfl (Nat.le_of_ble_eq_true rfl) dX6_readAny_89 rfl ?_
          refine gz_iconst (v := (-1)) hX dX6_readAny_92 gk_c_m1 ?_
          refine gz_icmp_ne (tgt := 98) hX dX6_readAny_93 (by decide) (fun c66 => ?_) (fun c66 => ?_)
          · have h := gz_ifn c66 h
            refine gz_aload_n (q := 1) hX dX6_readAny_98 rfl rfl ?_
            refine gz_bipush (v := 9) hX dX6_readAny_99 gk_b_9 ?_
            obtain ⟨V68, e67, h⟩ := gz_bd_o h
            refine tc_V (As := [.int 9]) hX (c_settles e67) (lw_settles_ q1856) rfl rfl nn_settles ⟨Nat.le_of_ble_eq_true rfl, Nat.le_of_ble_eq_true rfl⟩ rfl rfl (Nat.le_of_ble_eq_true rfl) dX6_readAny_101 rfl ?_
            refine gz_iconst (v := 0) hX dX6_readAny_104 gk_c_0 ?_
            refine gz_istore_n (lv2 := [(2, .int 0), (3, .int x39), (0, .ref (ad (1, 0, 0))), (1, .int v1)]) hX dX6_readAny_105 rfl (by decide) rfl ?_
            refine gz_goto (tgt := 9) hX dX6_readAny_106 (by decide) ?_
            exact gz_lv [2, 3, 0] rfl (ih h)
          · have h := gz_ifp c66 h
            refine gz_iconst (v := (-1)) hX dX6_readAny_96 gk_c_m1 ?_
            obtain ⟨e1, e2⟩ := gz_in2 h
            exact gt_iret hX hZ hF e1 e2 dX6_readAny_97
        · have h := gz_ifn c62 h
          refine gz_aload_n (q := 1) hX dX6_readAny_33 rfl rfl ?_
          refine tg_open hX dX6_readAny_34 ?_
          refine gz_bipush (v := 8) hX dX6_readAny_37 gk_b_8 ?_
          refine gz_icmp_ne (tgt := 48) hX dX6_readAny_39 (by decide) (fun c69 => ?_) (fun c69 => ?_)
          · have h := gz_ifn c69 h
            refine gz_aload_n (q := 1) hX dX6_readAny_48 rfl rfl ?_
            refine gz_aload_n (q := 1) hX dX6_readAny_49 rfl rfl ?_
            refine tg_open hX dX6_readAny_50 ?_
            refine gz_iconst (v := 1) hX dX6_readAny_53 gk_c_1 ?_
            refine gz_iadd hX dX6_readAny_54 ?_
            obtain ⟨V70, e71, h⟩ := gz_let_o h
            refine tp_open hX dX6_readAny_55 e71 ?_
            refine gz_iload_n (q := 0) hX dX6_readAny_58 rfl rfl ?_
            obtain ⟨y72, g73, h⟩ := gz_let_o h
            have J74 : gW X 4 tw_S tw_R ad V70 0 0 66 [(0, .ref (ad (1, 0, 0))), (1, .int y72), (2, .int v2), (3, .int x39)] [] := by
              refine gz_aload_n (q := 0) hX dX6_readAny_66 rfl rfl ?_
              refine gz_iload_n (q := 3) hX dX6_readAny_67 rfl rfl ?_
              obtain ⟨y78, g79, h⟩ := gz_let_o h
              have J80 : gW X 4 tw_S tw_R ad V70 0 0 78 [(0, .ref (ad (1, 0, 0))), (1, .int y72), (2, .int v2)] [.int y78, .ref (ad (1, 0, 0))] := by
                obtain ⟨V83, e82, h⟩ := gz_bd_o h
                refine tc_V (As := [.int y78]) hX (c_waits e82) (lw_waits_ q1848) rfl rfl nn_waits ⟨Nat.le_of_ble_eq_true rfl, Nat.le_of_ble_eq_true rfl⟩ rfl rfl (Nat.le_of_ble_eq_true rfl) dX6_readAny_78 rfl ?_
                refine gz_aload_n (q := 0) hX dX6_readAny_81 rfl rfl ?_
                obtain ⟨V85, e84, h⟩ := gz_bd_o h
                refine tc_V (As := []) hX (c_reads e84) (lw_reads_ q1744) rfl rfl nn_reads ⟨Nat.le_of_ble_eq_true rfl, Nat.le_of_ble_eq_true rfl⟩ rfl rfl (Nat.le_of_ble_eq_true rfl) dX6_readAny_82 rfl ?_
                refine gz_goto (tgt := 9) hX dX6_readAny_85 (by decide) ?_
                exact gz_lv [0, 1, 2] rfl (ih h)
              refine gz_if_eq (tgt := 76) hX dX6_readAny_68 (by decide) (fun c81 => ?_) (fun c81 => ?_)
              · have g79 := gz_ifp c81 g79
                refine gz_bipush (v := 12) hX dX6_readAny_76 gk_b_12 ?_
                obtain rfl := g79
                exact gz_lv [0, 1, 2] rfl J80
              · have g79 := gz_ifn c81 g79
                refine gz_bipush (v := 9) hX dX6_readAny_71 gk_b_9 ?_
                refine gz_goto (tgt := 78) hX dX6_readAny_73 (by decide) ?_
                obtain rfl := g79
                exact gz_lv [0, 1, 2] rfl J80
            refine gz_if_ne (tgt := 66) hX dX6_readAny_59 (by decide) (fun c75 => ?_) (fun c75 => ?_)
            · have g73 := gz_ifn c75 g73
              obtain rfl := g73
              exact gz_lv [1, 2, 3, 0] rfl J74
            · have g73 := gz_ifp c75 g73
              refine gz_iload_n (q := 2) hX dX6_readAny_62 rfl rfl ?_
              refine gz_iconst (v := 1) hX dX6_readAny_63 gk_c_1 ?_
              refine gz_iadd hX dX6_readAny_64 ?_
              obtain ⟨x76, e77, g73⟩ := gz_let_o g73
              refine gz_nm e77 ?_
              refine gz_istore_n (lv2 := [(1, .int x76), (3, .int x39), (0, .ref (ad (1, 0, 0))), (2, .int v2)]) hX dX6_readAny_65 rfl (by decide) rfl ?_
              obtain rfl := g73
              exact gz_lv [2, 0, 3, 1] rfl J74
          · have h := gz_ifp c69 h
            refine gz_aload_n (q := 1) hX dX6_readAny_42 rfl rfl ?_
            refine gz_iconst (v := 3) hX dX6_readAny_43 gk_c_3 ?_
            obtain ⟨V88, r86, e87, h⟩ := gz_b2_o h
            refine tc_V (As := [.int 3]) hX (c_errs e87) (lw_errs_ q1776) rfl rfl nn_errs ⟨Nat.le_of_ble_eq_true rfl, Nat.le_of_ble_eq_true rfl⟩ rfl rfl (Nat.le_of_ble_eq_true rfl) dX6_readAny_44 rfl ?_
            obtain ⟨e1, e2⟩ := gz_in2 h
            exact gt_iret hX hZ hF e1 e2 dX6_readAny_47
noncomputable def m_readAny (N : Nat) (V : gz_V) : Option (gz_V × Int32) := gz_let (gz_up V (1, 0, 0) 29 0) (fun V1 => m_readAny_L9 N N V1 0 1)
theorem c_readAny {l : Launch} {D : va_G} {aC : Nat → ClassId} {ad : gz_A0} {N : Nat} {V : gz_V} {W1 : gz_V} {r : Int32} (h : m_readAny N V = some (W1, r)) : gz_Met l yX6_readAny cX6_readAny 4 (some .int) rm_readAny D aC ad tw_S V tw_R [.ref (ad (1, 0, 0))] (gz_F1 tw_S tw_R ad W1 (some (.int r))) 0 0 := by
  refine gt_ofW (own := RX6) (mn := "readAny") (lv := [(0, .ref (ad (1, 0, 0)))]) (by decide) rfl rfl (Nat.le_of_ble_eq_true rfl) rfl ?_
  intro X hX hZ hF
  rw [m_readAny] at h
  refine gz_iconst (v := 0) hX dX6_readAny_0 gk_c_0 ?_
  refine gz_istore_n (lv2 := [(1, .int 0), (0, .ref (ad (1, 0, 0)))]) hX dX6_readAny_1 rfl (by decide) rfl ?_
  refine gz_aload_n (q := 1) hX dX6_readAny_2 rfl rfl ?_
  refine gz_iconst (v := 0) hX dX6_readAny_3 gk_c_0 ?_
  obtain ⟨V1, e2, h⟩ := gz_let_o h
  refine tp_pendings hX dX6_readAny_4 e2 ?_
  refine gz_iconst (v := 1) hX dX6_readAny_7 gk_c_1 ?_
  refine gz_istore_n (lv2 := [(2, .int 1), (1, .int 0), (0, .ref (ad (1, 0, 0)))]) hX dX6_readAny_8 rfl (by decide) rfl ?_
  exact gz_lv [2, 1, 0] rfl (w_m_readAny_L9 hX hZ hF N h)
theorem lw_readAny_ {i : Nat} (hl : Cond.methodLink RX6 i yX6_readAny ∈ lw_all) : GoodIn lw_all (wsV RX6 i RX6 yX6_readAny (ws_ yX6_readAny cX6_readAny 4 (some .int))) := lw_V hl q1846 qs86 q153 q1847
theorem nn_readAny : yX6_readAny.cls = RX6 ∧ yX6_readAny.cls ≠ "java/lang/invoke/MethodHandle" ∧ yX6_readAny.cls ≠ "java/lang/invoke/VarHandle" ∧ (parseMethodDescriptor yX6_readAny.desc).map (fun d => d.parameters.length) = some 0 := by decide +kernel
def rm_readNumber : Room := { frames := 3, cells := 0, slots := 0, locals := 65 }
noncomputable def m_readNumber (N : Nat) (V : gz_V) (a1 : Int32) (a2 : Int32) : Option (gz_V × Int32) := (if (V (1, 0, 0) 15) = 3 then (if (m_isIn (V (1, 0, 0) 16) a1 a2) = 0 then gz_b2 (m_errs V 2) (fun V9 r7 => some (V9, r7)) else gz_let (V (1, 0, 0) 16) (fun x3 => gz_bd (m_reads N V) (fun V6 => some (V6, x3)))) else gz_b2 (m_errs V 1) (fun V12 r10 => some (V12, r10)))
theorem c_readNumber {l : Launch} {D : va_G} {aC : Nat → ClassId} {ad : gz_A0} {N : Nat} {V : gz_V} {a1 : Int32} {a2 : Int32} {W1 : gz_V} {r : Int32} (h : m_readNumber N V a1 a2 = some (W1, r)) : gz_Met l yX6_readNumber cX6_readNumber 4 (some .int) rm_readNumber D aC ad tw_S V tw_R [.ref (ad (1, 0, 0)), .int a1, .int a2] (gz_F1 tw_S tw_R ad W1 (some (.int r))) 0 0 := by
  refine gt_ofW (own := RX6) (mn := "readNumber") (lv := [(0, .ref (ad (1, 0, 0))), (1, .int a1), (2, .int a2)]) (by decide) rfl rfl (Nat.le_of_ble_eq_true rfl) rfl ?_
  intro X hX hZ hF
  rw [m_readNumber] at h
  refine gz_aload_n (q := 0) hX dX6_readNumber_0 rfl rfl ?_
  refine tg_token hX dX6_readNumber_1 ?_
  refine gz_iconst (v := 3) hX dX6_readNumber_4 gk_c_3 ?_
  refine gz_icmp_eq (tgt := 14) hX dX6_readNumber_5 (by decide) (fun c1 => ?_) (fun c1 => ?_)
  · have h := gz_ifp c1 h
    refine gz_aload_n (q := 0) hX dX6_readNumber_14 rfl rfl ?_
    refine gz_aload_n (q := 0) hX dX6_readNumber_15 rfl rfl ?_
    refine tg_value hX dX6_readNumber_16 ?_
    refine gz_iload_n (q := 1) hX dX6_readNumber_19 rfl rfl ?_
    refine gz_iload_n (q := 2) hX dX6_readNumber_20 rfl rfl ?_
    refine tc_V (As := [.int (V (1, 0, 0) 16), .int a1, .int a2]) hX (c_isIn rfl) (lw_isIn_ q1692) rfl rfl nn_isIn ⟨Nat.le_of_ble_eq_true rfl, Nat.le_of_ble_eq_true rfl⟩ rfl rfl (Nat.le_of_ble_eq_true rfl) dX6_readNumber_21 rfl ?_
    refine gz_if_ne (tgt := 33) hX dX6_readNumber_24 (by decide) (fun c2 => ?_) (fun c2 => ?_)
    · have h := gz_ifn c2 h
      refine gz_aload_n (q := 0) hX dX6_readNumber_33 rfl rfl ?_
      refine tg_value hX dX6_readNumber_34 ?_
      obtain ⟨x3, e4, h⟩ := gz_let_o h
      refine gz_nm e4 ?_
      refine gz_istore_n (lv2 := [(3, .int x3), (0, .ref (ad (1, 0, 0))), (1, .int a1), (2, .int a2)]) hX dX6_readNumber_37 rfl (by decide) rfl ?_
      refine gz_aload_n (q := 1) hX dX6_readNumber_38 rfl rfl ?_
      obtain ⟨V6, e5, h⟩ := gz_bd_o h
      refine tc_V (As := []) hX (c_reads e5) (lw_reads_ q1744) rfl rfl nn_reads ⟨Nat.le_of_ble_eq_true rfl, Nat.le_of_ble_eq_true rfl⟩ rfl rfl (Nat.le_of_ble_eq_true rfl) dX6_readNumber_39 rfl ?_
      refine gz_iload_n (q := 0) hX dX6_readNumber_42 rfl rfl ?_
      obtain ⟨e1, e2⟩ := gz_in2 h
      exact gt_iret hX hZ hF e1 e2 dX6_readNumber_43
    · have h := gz_ifp c2 h
      refine gz_aload_n (q := 0) hX dX6_readNumber_27 rfl rfl ?_
      refine gz_iconst (v := 2) hX dX6_readNumber_28 gk_c_2 ?_
      obtain ⟨V9, r7, e8, h⟩ := gz_b2_o h
      refine tc_V (As := [.int 2]) hX (c_errs e8) (lw_errs_ q1776) rfl rfl nn_errs ⟨Nat.le_of_ble_eq_true rfl, Nat.le_of_ble_eq_true rfl⟩ rfl rfl (Nat.le_of_ble_eq_true rfl) dX6_readNumber_29 rfl ?_
      obtain ⟨e1, e2⟩ := gz_in2 h
      exact gt_iret hX hZ hF e1 e2 dX6_readNumber_32
  · have h := gz_ifn c1 h
    refine gz_aload_n (q := 0) hX dX6_readNumber_8 rfl rfl ?_
    refine gz_iconst (v := 1) hX dX6_readNumber_9 gk_c_1 ?_
    obtain ⟨V12, r10, e11, h⟩ := gz_b2_o h
    refine tc_V (As := [.int 1]) hX (c_errs e11) (lw_errs_ q1776) rfl rfl nn_errs ⟨Nat.le_of_ble_eq_true rfl, Nat.le_of_ble_eq_true rfl⟩ rfl rfl (Nat.le_of_ble_eq_true rfl) dX6_readNumber_10 rfl ?_
    obtain ⟨e1, e2⟩ := gz_in2 h
    exact gt_iret hX hZ hF e1 e2 dX6_readNumber_13
theorem lw_readNumber_ {i : Nat} (hl : Cond.methodLink RX6 i yX6_readNumber ∈ lw_all) : GoodIn lw_all (wsV RX6 i RX6 yX6_readNumber (ws_ yX6_readNumber cX6_readNumber 4 (some .int))) := lw_V hl q1790 qs72 q153 q1791
theorem nn_readNumber : yX6_readNumber.cls = RX6 ∧ yX6_readNumber.cls ≠ "java/lang/invoke/MethodHandle" ∧ yX6_readNumber.cls ≠ "java/lang/invoke/VarHandle" ∧ (parseMethodDescriptor yX6_readNumber.desc).map (fun d => d.parameters.length) = some 2 := by decide +kernel
def rm_readTold : Room := { frames := 4, cells := 0, slots := 0, locals := 88 }
noncomputable def m_readTold (N : Nat) (V : gz_V) (a1 : Int32) (a2 : Int32) (a3 : Int32) : Option (gz_V × Int32) := (if (m_isWord V a1) = 0 then gz_b2 (m_errs V 1) (fun V9 r7 => some (V9, r7)) else gz_bd (m_reads N V) (fun V3 => gz_b2 (m_readNumber N V3 a2 a3) (fun V6 r4 => some (V6, r4))))
theorem c_readTold {l : Launch} {D : va_G} {aC : Nat → ClassId} {ad : gz_A0} {N : Nat} {V : gz_V} {a1 : Int32} {a2 : Int32} {a3 : Int32} {W1 : gz_V} {r : Int32} (h : m_readTold N V a1 a2 a3 = some (W1, r)) : gz_Met l yX6_readTold cX6_readTold 4 (some .int) rm_readTold D aC ad tw_S V tw_R [.ref (ad (1, 0, 0)), .int a1, .int a2, .int a3] (gz_F1 tw_S tw_R ad W1 (some (.int r))) 0 0 := by
  refine gt_ofW (own := RX6) (mn := "readTold") (lv := [(0, .ref (ad (1, 0, 0))), (1, .int a1), (2, .int a2), (3, .int a3)]) (by decide) rfl rfl (Nat.le_of_ble_eq_true rfl) rfl ?_
  intro X hX hZ hF
  rw [m_readTold] at h
  refine gz_aload_n (q := 0) hX dX6_readTold_0 rfl rfl ?_
  refine gz_iload_n (q := 1) hX dX6_readTold_1 rfl rfl ?_
  refine tc_V (As := [.int a1]) hX (c_isWord rfl) (lw_isWord_ q1772) rfl rfl nn_isWord ⟨Nat.le_of_ble_eq_true rfl, Nat.le_of_ble_eq_true rfl⟩ rfl rfl (Nat.le_of_ble_eq_true rfl) dX6_readTold_2 rfl ?_
  refine gz_if_ne (tgt := 14) hX dX6_readTold_5 (by decide) (fun c1 => ?_) (fun c1 => ?_)
  · have h := gz_ifn c1 h
    refine gz_aload_n (q := 0) hX dX6_readTold_14 rfl rfl ?_
    obtain ⟨V3, e2, h⟩ := gz_bd_o h
    refine tc_V (As := []) hX (c_reads e2) (lw_reads_ q1744) rfl rfl nn_reads ⟨Nat.le_of_ble_eq_true rfl, Nat.le_of_ble_eq_true rfl⟩ rfl rfl (Nat.le_of_ble_eq_true rfl) dX6_readTold_15 rfl ?_
    refine gz_aload_n (q := 0) hX dX6_readTold_18 rfl rfl ?_
    refine gz_iload_n (q := 2) hX dX6_readTold_19 rfl rfl ?_
    refine gz_iload_n (q := 3) hX dX6_readTold_20 rfl rfl ?_
    obtain ⟨V6, r4, e5, h⟩ := gz_b2_o h
    refine tc_V (As := [.int a2, .int a3]) hX (c_readNumber e5) (lw_readNumber_ q1788) rfl rfl nn_readNumber ⟨Nat.le_of_ble_eq_true rfl, Nat.le_of_ble_eq_true rfl⟩ rfl rfl (Nat.le_of_ble_eq_true rfl) dX6_readTold_21 rfl ?_
    obtain ⟨e1, e2⟩ := gz_in2 h
    exact gt_iret hX hZ hF e1 e2 dX6_readTold_24
  · have h := gz_ifp c1 h
    refine gz_aload_n (q := 0) hX dX6_readTold_8 rfl rfl ?_
    refine gz_iconst (v := 1) hX dX6_readTold_9 gk_c_1 ?_
    obtain ⟨V9, r7, e8, h⟩ := gz_b2_o h
    refine tc_V (As := [.int 1]) hX (c_errs e8) (lw_errs_ q1776) rfl rfl nn_errs ⟨Nat.le_of_ble_eq_true rfl, Nat.le_of_ble_eq_true rfl⟩ rfl rfl (Nat.le_of_ble_eq_true rfl) dX6_readTold_10 rfl ?_
    obtain ⟨e1, e2⟩ := gz_in2 h
    exact gt_iret hX hZ hF e1 e2 dX6_readTold_13
theorem lw_readTold_ {i : Nat} (hl : Cond.methodLink RX6 i yX6_readTold ∈ lw_all) : GoodIn lw_all (wsV RX6 i RX6 yX6_readTold (ws_ yX6_readTold cX6_readTold 4 (some .int))) := lw_V hl q1786 qs71 q153 q1787
theorem nn_readTold : yX6_readTold.cls = RX6 ∧ yX6_readTold.cls ≠ "java/lang/invoke/MethodHandle" ∧ yX6_readTold.cls ≠ "java/lang/invoke/VarHandle" ∧ (parseMethodDescriptor yX6_readTold.desc).map (fun d => d.parameters.length) = some 3 := by decide +kernel
def rm_readMark : Room := { frames := 3, cells := 0, slots := 0, locals := 65 }
noncomputable def m_readMark (N : Nat) (V : gz_V) (a1 : Int32) : Option (gz_V × Int32) := (if (m_isSign V a1) = 0 then gz_b2 (m_errs V 1) (fun V6 r4 => some (V6, r4)) else gz_bd (m_reads N V) (fun V3 => some (V3, 0)))
theorem c_readMark {l : Launch} {D : va_G} {aC : Nat → ClassId} {ad : gz_A0} {N : Nat} {V : gz_V} {a1 : Int32} {W1 : gz_V} {r : Int32} (h : m_readMark N V a1 = some (W1, r)) : gz_Met l yX6_readMark cX6_readMark 2 (some .int) rm_readMark D aC ad tw_S V tw_R [.ref (ad (1, 0, 0)), .int a1] (gz_F1 tw_S tw_R ad W1 (some (.int r))) 0 0 := by
  refine gt_ofW (own := RX6) (mn := "readMark") (lv := [(0, .ref (ad (1, 0, 0))), (1, .int a1)]) (by decide) rfl rfl (Nat.le_of_ble_eq_true rfl) rfl ?_
  intro X hX hZ hF
  rw [m_readMark] at h
  refine gz_aload_n (q := 0) hX dX6_readMark_0 rfl rfl ?_
  refine gz_iload_n (q := 1) hX dX6_readMark_1 rfl rfl ?_
  refine tc_V (As := [.int a1]) hX (c_isSign rfl) (lw_isSign_ q1796) rfl rfl nn_isSign ⟨Nat.le_of_ble_eq_true rfl, Nat.le_of_ble_eq_true rfl⟩ rfl rfl (Nat.le_of_ble_eq_true rfl) dX6_readMark_2 rfl ?_
  refine gz_if_ne (tgt := 14) hX dX6_readMark_5 (by decide) (fun c1 => ?_) (fun c1 => ?_)
  · have h := gz_ifn c1 h
    refine gz_aload_n (q := 0) hX dX6_readMark_14 rfl rfl ?_
    obtain ⟨V3, e2, h⟩ := gz_bd_o h
    refine tc_V (As := []) hX (c_reads e2) (lw_reads_ q1744) rfl rfl nn_reads ⟨Nat.le_of_ble_eq_true rfl, Nat.le_of_ble_eq_true rfl⟩ rfl rfl (Nat.le_of_ble_eq_true rfl) dX6_readMark_15 rfl ?_
    refine gz_iconst (v := 0) hX dX6_readMark_18 gk_c_0 ?_
    obtain ⟨e1, e2⟩ := gz_in2 h
    exact gt_iret hX hZ hF e1 e2 dX6_readMark_19
  · have h := gz_ifp c1 h
    refine gz_aload_n (q := 0) hX dX6_readMark_8 rfl rfl ?_
    refine gz_iconst (v := 1) hX dX6_readMark_9 gk_c_1 ?_
    obtain ⟨V6, r4, e5, h⟩ := gz_b2_o h
    refine tc_V (As := [.int 1]) hX (c_errs e5) (lw_errs_ q1776) rfl rfl nn_errs ⟨Nat.le_of_ble_eq_true rfl, Nat.le_of_ble_eq_true rfl⟩ rfl rfl (Nat.le_of_ble_eq_true rfl) dX6_readMark_10 rfl ?_
    obtain ⟨e1, e2⟩ := gz_in2 h
    exact gt_iret hX hZ hF e1 e2 dX6_readMark_13
theorem lw_readMark_ {i : Nat} (hl : Cond.methodLink RX6 i yX6_readMark ∈ lw_all) : GoodIn lw_all (wsV RX6 i RX6 yX6_readMark (ws_ yX6_readMark cX6_readMark 2 (some .int))) := lw_V hl q1794 qs73 q153 q1795
theorem nn_readMark : yX6_readMark.cls = RX6 ∧ yX6_readMark.cls ≠ "java/lang/invoke/MethodHandle" ∧ yX6_readMark.cls ≠ "java/lang/invoke/VarHandle" ∧ (parseMethodDescriptor yX6_readMark.desc).map (fun d => d.parameters.length) = some 1 := by decide +kernel
theorem gk_b_18 : (Int8.ofInt 18).toInt32 = 18 := by decide
theorem gk_b_22 : (Int8.ofInt 22).toInt32 = 22 := by decide
theorem gk_b_26 : (Int8.ofInt 26).toInt32 = 26 := by decide
theorem gk_b_99 : (Int8.ofInt 99).toInt32 = 99 := by decide
def rm_readDeed : Room := { frames := 5, cells := 0, slots := 0, locals := 111 }
noncomputable def m_readDeed (N : Nat) (V : gz_V) (a1 : Int32) : Option (gz_V × Int32) := gz_b2 (m_readTold N V 18 0 999) (fun V3 r1 => gz_gd (gz_inb a1 160 = true) (gz_let (gz_up V3 (2, 37, 0) a1.toNatClampNeg r1) (fun V5 => gz_gd (gz_inb a1 160 = true) ((if (V5 (2, 37, 0) a1.toNatClampNeg) = (-1) then some (V5, (-1)) else (if (V5 (1, 0, 0) 15) = 2 then (if (m_isIn (V5 (1, 0, 0) 16) 22 26) = 0 then gz_b2 (m_errs V5 1) (fun V64 r62 => some (V64, r62)) else gz_let ((V5 (1, 0, 0) 16) - 22) (fun x14 => gz_bd (m_reads N V5) (fun V17 => gz_gd (gz_inb (a1 + 1) 160 = true) (gz_let (gz_up V17 (2, 37, 0) (a1 + 1).toNatClampNeg x14) (fun V19 => gz_b2 (m_readNumber N V19 0 ((V19 (1, 0, 0) 6) - 1)) (fun V23 r21 => gz_gd (gz_inb (a1 + 2) 160 = true) (gz_let (gz_up V23 (2, 37, 0) (a1 + 2).toNatClampNeg r21) (fun V25 => gz_gd (gz_inb (a1 + 2) 160 = true) ((if (V25 (2, 37, 0) (a1 + 2).toNatClampNeg) = (-1) then some (V25, (-1)) else gz_b2 (if x14 = 4 then gz_b2 (m_readNumber N V25 0 4) (fun V36 r34 => some (V36, r34)) else some (V25, (0 : Int32))) (fun V29 y30 => gz_gd (gz_inb (a1 + 3) 160 = true) (gz_let (gz_up V29 (2, 37, 0) (a1 + 3).toNatClampNeg y30) (fun V38 => gz_gd (gz_inb (a1 + 3) 160 = true) ((if (V38 (2, 37, 0) (a1 + 3).toNatClampNeg) = (-1) then some (V38, (-1)) else gz_b2 (if x14 = 3 then gz_b2 (m_readNumber N V38 1 999) (fun V53 r51 => some (V53, r51)) else (if x14 = 4 then gz_b2 (m_readNumber N V38 1 99) (fun V50 r48 => some (V50, r48)) else some (V38, (0 : Int32)))) (fun V42 y43 => gz_gd (gz_inb (a1 + 4) 160 = true) (gz_let (gz_up V42 (2, 37, 0) (a1 + 4).toNatClampNeg y43) (fun V55 => gz_gd (gz_inb (a1 + 4) 160 = true) ((if (V55 (2, 37, 0) (a1 + 4).toNatClampNeg) = (-1) then some (V55, (-1)) else gz_b2 (m_readMark N V55 59) (fun V61 r59 => some (V61, r59)))))))))))))))))))))) else gz_b2 (m_errs V5 1) (fun V12 r10 => some (V12, r10))))))))
theorem c_readDeed {l : Launch} {D : va_G} {aC : Nat → ClassId} {ad : gz_A0} {N : Nat} {V : gz_V} {a1 : Int32} {W1 : gz_V} {r : Int32} (h : m_readDeed N V a1 = some (W1, r)) : gz_Met l yX6_readDeed cX6_readDeed 3 (some .int) rm_readDeed D aC ad tw_S V tw_R [.ref (ad (1, 0, 0)), .int a1] (gz_F1 tw_S tw_R ad W1 (some (.int r))) 0 0 := by
  refine gt_ofW (own := RX6) (mn := "readDeed") (lv := [(0, .ref (ad (1, 0, 0))), (1, .int a1)]) (by decide) rfl rfl (Nat.le_of_ble_eq_true rfl) rfl ?_
  intro X hX hZ hF
  rw [m_readDeed] at h
  refine gz_aload_n (q := 0) hX dX6_readDeed_0 rfl rfl ?_
  refine tg_deeds hX dX6_readDeed_1 ?_
  refine gz_iload_n (q := 1) hX dX6_readDeed_4 rfl rfl ?_
  refine gz_aload_n (q := 0) hX dX6_readDeed_5 rfl rfl ?_
  refine gz_bipush (v := 18) hX dX6_readDeed_6 gk_b_18 ?_
  refine gz_iconst (v := 0) hX dX6_readDeed_8 gk_c_0 ?_
  refine gz_sipush (v := 999) hX dX6_readDeed_9 gk_s_999 ?_
  obtain ⟨V3, r1, e2, h⟩ := gz_b2_o h
  refine tc_V (As := [.int 18, .int 0, .int 999]) hX (c_readTold e2) (lw_readTold_ q1784) rfl rfl nn_readTold ⟨Nat.le_of_ble_eq_true rfl, Nat.le_of_ble_eq_true rfl⟩ rfl rfl (Nat.le_of_ble_eq_true rfl) dX6_readDeed_12 rfl ?_
  obtain ⟨b4, h⟩ := gz_gd_o h
  obtain ⟨V5, e6, h⟩ := gz_let_o h
  refine gz_iast (L := 160) hX tw_S37 (by decide) (gz_inb_o b4) dX6_readDeed_15 e6 ?_
  refine gz_aload_n (q := 0) hX dX6_readDeed_16 rfl rfl ?_
  refine tg_deeds hX dX6_readDeed_17 ?_
  refine gz_iload_n (q := 1) hX dX6_readDeed_20 rfl rfl ?_
  obtain ⟨b7, h⟩ := gz_gd_o h
  refine gz_iald (L := 160) hX tw_S37 (gz_inb_o b7) dX6_readDeed_21 ?_
  refine gz_iconst (v := (-1)) hX dX6_readDeed_22 gk_c_m1 ?_
  refine gz_icmp_ne (tgt := 28) hX dX6_readDeed_23 (by decide) (fun c8 => ?_) (fun c8 => ?_)
  · have h := gz_ifn c8 h
    refine gz_aload_n (q := 0) hX dX6_readDeed_28 rfl rfl ?_
    refine tg_token hX dX6_readDeed_29 ?_
    refine gz_iconst (v := 2) hX dX6_readDeed_32 gk_c_2 ?_
    refine gz_icmp_ne (tgt := 51) hX dX6_readDeed_33 (by decide) (fun c9 => ?_) (fun c9 => ?_)
    · have h := gz_ifn c9 h
      refine gz_aload_n (q := 0) hX dX6_readDeed_51 rfl rfl ?_
      refine gz_iconst (v := 1) hX dX6_readDeed_52 gk_c_1 ?_
      obtain ⟨V12, r10, e11, h⟩ := gz_b2_o h
      refine tc_V (As := [.int 1]) hX (c_errs e11) (lw_errs_ q1776) rfl rfl nn_errs ⟨Nat.le_of_ble_eq_true rfl, Nat.le_of_ble_eq_true rfl⟩ rfl rfl (Nat.le_of_ble_eq_true rfl) dX6_readDeed_53 rfl ?_
      obtain ⟨e1, e2⟩ := gz_in2 h
      exact gt_iret hX hZ hF e1 e2 dX6_readDeed_56
    · have h := gz_ifp c9 h
      refine gz_aload_n (q := 0) hX dX6_readDeed_36 rfl rfl ?_
      refine gz_aload_n (q := 0) hX dX6_readDeed_37 rfl rfl ?_
      refine tg_value hX dX6_readDeed_38 ?_
      refine gz_bipush (v := 22) hX dX6_readDeed_41 gk_b_22 ?_
      refine gz_bipush (v := 26) hX dX6_readDeed_43 gk_b_26 ?_
      refine tc_V (As := [.int (V5 (1, 0, 0) 16), .int 22, .int 26]) hX (c_isIn rfl) (lw_isIn_ q1692) rfl rfl nn_isIn ⟨Nat.le_of_ble_eq_true rfl, Nat.le_of_ble_eq_true rfl⟩ rfl rfl (Nat.le_of_ble_eq_true rfl) dX6_readDeed_45 rfl ?_
      refine gz_if_ne (tgt := 57) hX dX6_readDeed_48 (by decide) (fun c13 => ?_) (fun c13 => ?_)
      · have h := gz_ifn c13 h
        refine gz_aload_n (q := 0) hX dX6_readDeed_57 rfl rfl ?_
        refine tg_value hX dX6_readDeed_58 ?_
        refine gz_bipush (v := 22) hX dX6_readDeed_61 gk_b_22 ?_
        refine gz_isub hX dX6_readDeed_63 ?_
        obtain ⟨x14, e15, h⟩ := gz_let_o h
        refine gz_nm e15 ?_
        refine gz_istore_n (lv2 := [(2, .int x14), (0, .ref (ad (1, 0, 0))), (1, .int a1)]) hX dX6_readDeed_64 rfl (by decide) rfl ?_
        refine gz_aload_n (q := 1) hX dX6_readDeed_65 rfl rfl ?_
        obtain ⟨V17, e16, h⟩ := gz_bd_o h
        refine tc_V (As := []) hX (c_reads e16) (lw_reads_ q1744) rfl rfl nn_reads ⟨Nat.le_of_ble_eq_true rfl, Nat.le_of_ble_eq_true rfl⟩ rfl rfl (Nat.le_of_ble_eq_true rfl) dX6_readDeed_66 rfl ?_
        refine gz_aload_n (q := 1) hX dX6_readDeed_69 rfl rfl ?_
        refine tg_deeds hX dX6_readDeed_70 ?_
        refine gz_iload_n (q := 2) hX dX6_readDeed_73 rfl rfl ?_
        refine gz_iconst (v := 1) hX dX6_readDeed_74 gk_c_1 ?_
        refine gz_iadd hX dX6_readDeed_75 ?_
        refine gz_iload_n (q := 0) hX dX6_readDeed_76 rfl rfl ?_
        obtain ⟨b18, h⟩ := gz_gd_o h
        obtain ⟨V19, e20, h⟩ := gz_let_o h
        refine gz_iast (L := 160) hX tw_S37 (by decide) (gz_inb_o b18) dX6_readDeed_77 e20 ?_
        refine gz_aload_n (q := 1) hX dX6_readDeed_78 rfl rfl ?_
        refine tg_deeds hX dX6_readDeed_79 ?_
        refine gz_iload_n (q := 2) hX dX6_readDeed_82 rfl rfl ?_
        refine gz_iconst (v := 2) hX dX6_readDeed_83 gk_c_2 ?_
        refine gz_iadd hX dX6_readDeed_84 ?_
        refine gz_aload_n (q := 1) hX dX6_readDeed_85 rfl rfl ?_
        refine gz_iconst (v := 0) hX dX6_readDeed_86 gk_c_0 ?_
        refine gz_aload_n (q := 1) hX dX6_readDeed_87 rfl rfl ?_
        refine tg_people hX dX6_readDeed_88 ?_
        refine gz_iconst (v := 1) hX dX6_readDeed_91 gk_c_1 ?_
        refine gz_isub hX dX6_readDeed_92 ?_
        obtain ⟨V23, r21, e22, h⟩ := gz_b2_o h
        refine tc_V (As := [.int 0, .int ((V19 (1, 0, 0) 6) - 1)]) hX (c_readNumber e22) (lw_readNumber_ q1788) rfl rfl nn_readNumber ⟨Nat.le_of_ble_eq_true rfl, Nat.le_of_ble_eq_true rfl⟩ rfl rfl (Nat.le_of_ble_eq_true rfl) dX6_readDeed_93 rfl ?_
        obtain ⟨b24, h⟩ := gz_gd_o h
        obtain ⟨V25, e26, h⟩ := gz_let_o h
        refine gz_iast (L := 160) hX tw_S37 (by decide) (gz_inb_o b24) dX6_readDeed_96 e26 ?_
        refine gz_aload_n (q := 1) hX dX6_readDeed_97 rfl rfl ?_
        refine tg_deeds hX dX6_readDeed_98 ?_
        refine gz_iload_n (q := 2) hX dX6_readDeed_101 rfl rfl ?_
        refine gz_iconst (v := 2) hX dX6_readDeed_102 gk_c_2 ?_
        refine gz_iadd hX dX6_readDeed_103 ?_
        obtain ⟨b27, h⟩ := gz_gd_o h
        refine gz_iald (L := 160) hX tw_S37 (gz_inb_o b27) dX6_readDeed_104 ?_
        refine gz_iconst (v := (-1)) hX dX6_readDeed_105 gk_c_m1 ?_
        refine gz_icmp_ne (tgt := 111) hX dX6_readDeed_106 (by decide) (fun c28 => ?_) (fun c28 => ?_)
        · have h := gz_ifn c28 h
          refine gz_aload_n (q := 1) hX dX6_readDeed_111 rfl rfl ?_
          refine tg_deeds hX dX6_readDeed_112 ?_
          refine gz_iload_n (q := 2) hX dX6_readDeed_115 rfl rfl ?_
          refine gz_iconst (v := 3) hX dX6_readDeed_116 gk_c_3 ?_
          refine gz_iadd hX dX6_readDeed_117 ?_
          refine gz_iload_n (q := 0) hX dX6_readDeed_118 rfl rfl ?_
          refine gz_iconst (v := 4) hX dX6_readDeed_119 gk_c_4 ?_
          obtain ⟨V29, y30, g31, h⟩ := gz_b2_o h
          have J32 : gW X 3 tw_S tw_R ad V29 0 0 133 [(0, .ref (ad (1, 0, 0))), (1, .int a1), (2, .int x14)] [.int y30, .int (a1 + 3), .ref (ad (2, 37, 0))] := by
            obtain ⟨b37, h⟩ := gz_gd_o h
            obtain ⟨V38, e39, h⟩ := gz_let_o h
            refine gz_iast (L := 160) hX tw_S37 (by decide) (gz_inb_o b37) dX6_readDeed_133 e39 ?_
            refine gz_aload_n (q := 0) hX dX6_readDeed_134 rfl rfl ?_
            refine tg_deeds hX dX6_readDeed_135 ?_
            refine gz_iload_n (q := 1) hX dX6_readDeed_138 rfl rfl ?_
            refine gz_iconst (v := 3) hX dX6_readDeed_139 gk_c_3 ?_
            refine gz_iadd hX dX6_readDeed_140 ?_
            obtain ⟨b40, h⟩ := gz_gd_o h
            refine gz_iald (L := 160) hX tw_S37 (gz_inb_o b40) dX6_readDeed_141 ?_
            refine gz_iconst (v := (-1)) hX dX6_readDeed_142 gk_c_m1 ?_
            refine gz_icmp_ne (tgt := 148) hX dX6_readDeed_143 (by decide) (fun c41 => ?_) (fun c41 => ?_)
            · have h := gz_ifn c41 h
              refine gz_aload_n (q := 0) hX dX6_readDeed_148 rfl rfl ?_
              refine tg_deeds hX dX6_readDeed_149 ?_
              refine gz_iload_n (q := 1) hX dX6_readDeed_152 rfl rfl ?_
              refine gz_iconst (v := 4) hX dX6_readDeed_153 gk_c_4 ?_
              refine gz_iadd hX dX6_readDeed_154 ?_
              refine gz_iload_n (q := 2) hX dX6_readDeed_155 rfl rfl ?_
              refine gz_iconst (v := 3) hX dX6_readDeed_156 gk_c_3 ?_
              obtain ⟨V42, y43, g44, h⟩ := gz_b2_o h
              have J45 : gW X 3 tw_S tw_R ad V42 0 0 187 [(0, .ref (ad (1, 0, 0))), (1, .int a1)] [.int y43, .int (a1 + 4), .ref (ad (2, 37, 0))] := by
                obtain ⟨b54, h⟩ := gz_gd_o h
                obtain ⟨V55, e56, h⟩ := gz_let_o h
                refine gz_iast (L := 160) hX tw_S37 (by decide) (gz_inb_o b54) dX6_readDeed_187 e56 ?_
                refine gz_aload_n (q := 0) hX dX6_readDeed_188 rfl rfl ?_
                refine tg_deeds hX dX6_readDeed_189 ?_
                refine gz_iload_n (q := 1) hX dX6_readDeed_192 rfl rfl ?_
                refine gz_iconst (v := 4) hX dX6_readDeed_193 gk_c_4 ?_
                refine gz_iadd hX dX6_readDeed_194 ?_
                obtain ⟨b57, h⟩ := gz_gd_o h
                refine gz_iald (L := 160) hX tw_S37 (gz_inb_o b57) dX6_readDeed_195 ?_
                refine gz_iconst (v := (-1)) hX dX6_readDeed_196 gk_c_m1 ?_
                refine gz_icmp_ne (tgt := 204) hX dX6_readDeed_197 (by decide) (fun c58 => ?_) (fun c58 => ?_)
                · have h := gz_ifn c58 h
                  refine gz_aload_n (q := 0) hX dX6_readDeed_204 rfl rfl ?_
                  refine gz_bipush (v := 59) hX dX6_readDeed_205 gk_b_59 ?_
                  obtain ⟨V61, r59, e60, h⟩ := gz_b2_o h
                  refine tc_V (As := [.int 59]) hX (c_readMark e60) (lw_readMark_ q1792) rfl rfl nn_readMark ⟨Nat.le_of_ble_eq_true rfl, Nat.le_of_ble_eq_true rfl⟩ rfl rfl (Nat.le_of_ble_eq_true rfl) dX6_readDeed_207 rfl ?_
                  obtain ⟨e1, e2⟩ := gz_in2 h
                  exact gt_iret hX hZ hF e1 e2 dX6_readDeed_210
                · have h := gz_ifp c58 h
                  refine gz_iconst (v := (-1)) hX dX6_readDeed_200 gk_c_m1 ?_
                  refine gz_goto (tgt := 210) hX dX6_readDeed_201 (by decide) ?_
                  obtain ⟨e1, e2⟩ := gz_in2 h
                  exact gt_iret hX hZ hF e1 e2 dX6_readDeed_210
              refine gz_icmp_ne (tgt := 171) hX dX6_readDeed_157 (by decide) (fun c46 => ?_) (fun c46 => ?_)
              · have g44 := gz_ifn c46 g44
                refine gz_iload_n (q := 2) hX dX6_readDeed_171 rfl rfl ?_
                refine gz_iconst (v := 4) hX dX6_readDeed_172 gk_c_4 ?_
                refine gz_icmp_ne (tgt := 186) hX dX6_readDeed_173 (by decide) (fun c47 => ?_) (fun c47 => ?_)
                · have g44 := gz_ifn c47 g44
                  refine gz_iconst (v := 0) hX dX6_readDeed_186 gk_c_0 ?_
                  obtain ⟨rfl, rfl⟩ := gz_in2 g44
                  exact gz_lv [0, 1] rfl J45
                · have g44 := gz_ifp c47 g44
                  refine gz_aload_n (q := 0) hX dX6_readDeed_176 rfl rfl ?_
                  refine gz_iconst (v := 1) hX dX6_readDeed_177 gk_c_1 ?_
                  refine gz_bipush (v := 99) hX dX6_readDeed_178 gk_b_99 ?_
                  obtain ⟨V50, r48, e49, g44⟩ := gz_b2_o g44
                  refine tc_V (As := [.int 1, .int 99]) hX (c_readNumber e49) (lw_readNumber_ q1788) rfl rfl nn_readNumber ⟨Nat.le_of_ble_eq_true rfl, Nat.le_of_ble_eq_true rfl⟩ rfl rfl (Nat.le_of_ble_eq_true rfl) dX6_readDeed_180 rfl ?_
                  refine gz_goto (tgt := 187) hX dX6_readDeed_183 (by decide) ?_
                  obtain ⟨rfl, rfl⟩ := gz_in2 g44
                  exact gz_lv [0, 1] rfl J45
              · have g44 := gz_ifp c46 g44
                refine gz_aload_n (q := 0) hX dX6_readDeed_160 rfl rfl ?_
                refine gz_iconst (v := 1) hX dX6_readDeed_161 gk_c_1 ?_
                refine gz_sipush (v := 999) hX dX6_readDeed_162 gk_s_999 ?_
                obtain ⟨V53, r51, e52, g44⟩ := gz_b2_o g44
                refine tc_V (As := [.int 1, .int 999]) hX (c_readNumber e52) (lw_readNumber_ q1788) rfl rfl nn_readNumber ⟨Nat.le_of_ble_eq_true rfl, Nat.le_of_ble_eq_true rfl⟩ rfl rfl (Nat.le_of_ble_eq_true rfl) dX6_readDeed_165 rfl ?_
                refine gz_goto (tgt := 187) hX dX6_readDeed_168 (by decide) ?_
                obtain ⟨rfl, rfl⟩ := gz_in2 g44
                exact gz_lv [0, 1] rfl J45
            · have h := gz_ifp c41 h
              refine gz_iconst (v := (-1)) hX dX6_readDeed_146 gk_c_m1 ?_
              obtain ⟨e1, e2⟩ := gz_in2 h
              exact gt_iret hX hZ hF e1 e2 dX6_readDeed_147
          refine gz_icmp_ne (tgt := 132) hX dX6_readDeed_120 (by decide) (fun c33 => ?_) (fun c33 => ?_)
          · have g31 := gz_ifn c33 g31
            refine gz_iconst (v := 0) hX dX6_readDeed_132 gk_c_0 ?_
            obtain ⟨rfl, rfl⟩ := gz_in2 g31
            exact gz_lv [1, 2, 0] rfl J32
          · have g31 := gz_ifp c33 g31
            refine gz_aload_n (q := 1) hX dX6_readDeed_123 rfl rfl ?_
            refine gz_iconst (v := 0) hX dX6_readDeed_124 gk_c_0 ?_
            refine gz_iconst (v := 4) hX dX6_readDeed_125 gk_c_4 ?_
            obtain ⟨V36, r34, e35, g31⟩ := gz_b2_o g31
            refine tc_V (As := [.int 0, .int 4]) hX (c_readNumber e35) (lw_readNumber_ q1788) rfl rfl nn_readNumber ⟨Nat.le_of_ble_eq_true rfl, Nat.le_of_ble_eq_true rfl⟩ rfl rfl (Nat.le_of_ble_eq_true rfl) dX6_readDeed_126 rfl ?_
            refine gz_goto (tgt := 133) hX dX6_readDeed_129 (by decide) ?_
            obtain ⟨rfl, rfl⟩ := gz_in2 g31
            exact gz_lv [1, 2, 0] rfl J32
        · have h := gz_ifp c28 h
          refine gz_iconst (v := (-1)) hX dX6_readDeed_109 gk_c_m1 ?_
          obtain ⟨e1, e2⟩ := gz_in2 h
          exact gt_iret hX hZ hF e1 e2 dX6_readDeed_110
      · have h := gz_ifp c13 h
        refine gz_aload_n (q := 0) hX dX6_readDeed_51 rfl rfl ?_
        refine gz_iconst (v := 1) hX dX6_readDeed_52 gk_c_1 ?_
        obtain ⟨V64, r62, e63, h⟩ := gz_b2_o h
        refine tc_V (As := [.int 1]) hX (c_errs e63) (lw_errs_ q1776) rfl rfl nn_errs ⟨Nat.le_of_ble_eq_true rfl, Nat.le_of_ble_eq_true rfl⟩ rfl rfl (Nat.le_of_ble_eq_true rfl) dX6_readDeed_53 rfl ?_
        obtain ⟨e1, e2⟩ := gz_in2 h
        exact gt_iret hX hZ hF e1 e2 dX6_readDeed_56
  · have h := gz_ifp c8 h
    refine gz_iconst (v := (-1)) hX dX6_readDeed_26 gk_c_m1 ?_
    obtain ⟨e1, e2⟩ := gz_in2 h
    exact gt_iret hX hZ hF e1 e2 dX6_readDeed_27
theorem lw_readDeed_ {i : Nat} (hl : Cond.methodLink RX6 i yX6_readDeed ∈ lw_all) : GoodIn lw_all (wsV RX6 i RX6 yX6_readDeed (ws_ yX6_readDeed cX6_readDeed 3 (some .int))) := lw_V hl q1806 qs76 q153 q1807
theorem nn_readDeed : yX6_readDeed.cls = RX6 ∧ yX6_readDeed.cls ≠ "java/lang/invoke/MethodHandle" ∧ yX6_readDeed.cls ≠ "java/lang/invoke/VarHandle" ∧ (parseMethodDescriptor yX6_readDeed.desc).map (fun d => d.parameters.length) = some 1 := by decide +kernel
theorem gk_b_19 : (Int8.ofInt 19).toInt32 = 19 := by decide
def rm_readOffer : Room := { frames := 5, cells := 0, slots := 0, locals := 111 }
noncomputable def m_readOffer (N : Nat) (V : gz_V) (a1 : Int32) : Option (gz_V × Int32) := gz_b2 (m_readTold N V 18 0 999) (fun V3 r1 => gz_gd (gz_inb a1 160 = true) (gz_let (gz_up V3 (2, 35, 0) a1.toNatClampNeg r1) (fun V5 => gz_gd (gz_inb a1 160 = true) ((if (V5 (2, 35, 0) a1.toNatClampNeg) = (-1) then some (V5, (-1)) else gz_b2 (m_readTold N V5 19 0 ((V5 (1, 0, 0) 6) - 1)) (fun V11 r9 => gz_gd (gz_inb (a1 + 1) 160 = true) (gz_let (gz_up V11 (2, 35, 0) (a1 + 1).toNatClampNeg r9) (fun V13 => gz_gd (gz_inb (a1 + 1) 160 = true) ((if (V13 (2, 35, 0) (a1 + 1).toNatClampNeg) = (-1) then some (V13, (-1)) else gz_b2 (m_readTold N V13 20 0 ((V13 (1, 0, 0) 7) - 1)) (fun V19 r17 => gz_gd (gz_inb (a1 + 2) 160 = true) (gz_let (gz_up V19 (2, 35, 0) (a1 + 2).toNatClampNeg r17) (fun V21 => gz_gd (gz_inb (a1 + 2) 160 = true) ((if (V21 (2, 35, 0) (a1 + 2).toNatClampNeg) = (-1) then some (V21, (-1)) else gz_b2 (m_readTold N V21 21 0 9999) (fun V27 r25 => gz_gd (gz_inb (a1 + 3) 160 = true) (gz_let (gz_up V27 (2, 35, 0) (a1 + 3).toNatClampNeg r25) (fun V29 => gz_gd (gz_inb (a1 + 3) 160 = true) ((if (V29 (2, 35, 0) (a1 + 3).toNatClampNeg) = (-1) then some (V29, (-1)) else gz_b2 (m_readTold N V29 10 1 9) (fun V35 r33 => gz_gd (gz_inb (a1 + 4) 160 = true) (gz_let (gz_up V35 (2, 35, 0) (a1 + 4).toNatClampNeg r33) (fun V37 => gz_gd (gz_inb (a1 + 4) 160 = true) ((if (V37 (2, 35, 0) (a1 + 4).toNatClampNeg) = (-1) then some (V37, (-1)) else gz_b2 (m_readMark N V37 59) (fun V43 r41 => some (V43, r41)))))))))))))))))))))))))))
theorem c_readOffer {l : Launch} {D : va_G} {aC : Nat → ClassId} {ad : gz_A0} {N : Nat} {V : gz_V} {a1 : Int32} {W1 : gz_V} {r : Int32} (h : m_readOffer N V a1 = some (W1, r)) : gz_Met l yX6_readOffer cX6_readOffer 2 (some .int) rm_readOffer D aC ad tw_S V tw_R [.ref (ad (1, 0, 0)), .int a1] (gz_F1 tw_S tw_R ad W1 (some (.int r))) 0 0 := by
  refine gt_ofW (own := RX6) (mn := "readOffer") (lv := [(0, .ref (ad (1, 0, 0))), (1, .int a1)]) (by decide) rfl rfl (Nat.le_of_ble_eq_true rfl) rfl ?_
  intro X hX hZ hF
  rw [m_readOffer] at h
  refine gz_aload_n (q := 0) hX dX6_readOffer_0 rfl rfl ?_
  refine tg_offers hX dX6_readOffer_1 ?_
  refine gz_iload_n (q := 1) hX dX6_readOffer_4 rfl rfl ?_
  refine gz_aload_n (q := 0) hX dX6_readOffer_5 rfl rfl ?_
  refine gz_bipush (v := 18) hX dX6_readOffer_6 gk_b_18 ?_
  refine gz_iconst (v := 0) hX dX6_readOffer_8 gk_c_0 ?_
  refine gz_sipush (v := 999) hX dX6_readOffer_9 gk_s_999 ?_
  obtain ⟨V3, r1, e2, h⟩ := gz_b2_o h
  refine tc_V (As := [.int 18, .int 0, .int 999]) hX (c_readTold e2) (lw_readTold_ q1784) rfl rfl nn_readTold ⟨Nat.le_of_ble_eq_true rfl, Nat.le_of_ble_eq_true rfl⟩ rfl rfl (Nat.le_of_ble_eq_true rfl) dX6_readOffer_12 rfl ?_
  obtain ⟨b4, h⟩ := gz_gd_o h
  obtain ⟨V5, e6, h⟩ := gz_let_o h
  refine gz_iast (L := 160) hX tw_S35 (by decide) (gz_inb_o b4) dX6_readOffer_15 e6 ?_
  refine gz_aload_n (q := 0) hX dX6_readOffer_16 rfl rfl ?_
  refine tg_offers hX dX6_readOffer_17 ?_
  refine gz_iload_n (q := 1) hX dX6_readOffer_20 rfl rfl ?_
  obtain ⟨b7, h⟩ := gz_gd_o h
  refine gz_iald (L := 160) hX tw_S35 (gz_inb_o b7) dX6_readOffer_21 ?_
  refine gz_iconst (v := (-1)) hX dX6_readOffer_22 gk_c_m1 ?_
  refine gz_icmp_ne (tgt := 28) hX dX6_readOffer_23 (by decide) (fun c8 => ?_) (fun c8 => ?_)
  · have h := gz_ifn c8 h
    refine gz_aload_n (q := 0) hX dX6_readOffer_28 rfl rfl ?_
    refine tg_offers hX dX6_readOffer_29 ?_
    refine gz_iload_n (q := 1) hX dX6_readOffer_32 rfl rfl ?_
    refine gz_iconst (v := 1) hX dX6_readOffer_33 gk_c_1 ?_
    refine gz_iadd hX dX6_readOffer_34 ?_
    refine gz_aload_n (q := 0) hX dX6_readOffer_35 rfl rfl ?_
    refine gz_bipush (v := 19) hX dX6_readOffer_36 gk_b_19 ?_
    refine gz_iconst (v := 0) hX dX6_readOffer_38 gk_c_0 ?_
    refine gz_aload_n (q := 0) hX dX6_readOffer_39 rfl rfl ?_
    refine tg_people hX dX6_readOffer_40 ?_
    refine gz_iconst (v := 1) hX dX6_readOffer_43 gk_c_1 ?_
    refine gz_isub hX dX6_readOffer_44 ?_
    obtain ⟨V11, r9, e10, h⟩ := gz_b2_o h
    refine tc_V (As := [.int 19, .int 0, .int ((V5 (1, 0, 0) 6) - 1)]) hX (c_readTold e10) (lw_readTold_ q1784) rfl rfl nn_readTold ⟨Nat.le_of_ble_eq_true rfl, Nat.le_of_ble_eq_true rfl⟩ rfl rfl (Nat.le_of_ble_eq_true rfl) dX6_readOffer_45 rfl ?_
    obtain ⟨b12, h⟩ := gz_gd_o h
    obtain ⟨V13, e14, h⟩ := gz_let_o h
    refine gz_iast (L := 160) hX tw_S35 (by decide) (gz_inb_o b12) dX6_readOffer_48 e14 ?_
    refine gz_aload_n (q := 0) hX dX6_readOffer_49 rfl rfl ?_
    refine tg_offers hX dX6_readOffer_50 ?_
    refine gz_iload_n (q := 1) hX dX6_readOffer_53 rfl rfl ?_
    refine gz_iconst (v := 1) hX dX6_readOffer_54 gk_c_1 ?_
    refine gz_iadd hX dX6_readOffer_55 ?_
    obtain ⟨b15, h⟩ := gz_gd_o h
    refine gz_iald (L := 160) hX tw_S35 (gz_inb_o b15) dX6_readOffer_56 ?_
    refine gz_iconst (v := (-1)) hX dX6_readOffer_57 gk_c_m1 ?_
    refine gz_icmp_ne (tgt := 63) hX dX6_readOffer_58 (by decide) (fun c16 => ?_) (fun c16 => ?_)
    · have h := gz_ifn c16 h
      refine gz_aload_n (q := 0) hX dX6_readOffer_63 rfl rfl ?_
      refine tg_offers hX dX6_readOffer_64 ?_
      refine gz_iload_n (q := 1) hX dX6_readOffer_67 rfl rfl ?_
      refine gz_iconst (v := 2) hX dX6_readOffer_68 gk_c_2 ?_
      refine gz_iadd hX dX6_readOffer_69 ?_
      refine gz_aload_n (q := 0) hX dX6_readOffer_70 rfl rfl ?_
      refine gz_bipush (v := 20) hX dX6_readOffer_71 gk_b_20 ?_
      refine gz_iconst (v := 0) hX dX6_readOffer_73 gk_c_0 ?_
      refine gz_aload_n (q := 0) hX dX6_readOffer_74 rfl rfl ?_
      refine tg_horses hX dX6_readOffer_75 ?_
      refine gz_iconst (v := 1) hX dX6_readOffer_78 gk_c_1 ?_
      refine gz_isub hX dX6_readOffer_79 ?_
      obtain ⟨V19, r17, e18, h⟩ := gz_b2_o h
      refine tc_V (As := [.int 20, .int 0, .int ((V13 (1, 0, 0) 7) - 1)]) hX (c_readTold e18) (lw_readTold_ q1784) rfl rfl nn_readTold ⟨Nat.le_of_ble_eq_true rfl, Nat.le_of_ble_eq_true rfl⟩ rfl rfl (Nat.le_of_ble_eq_true rfl) dX6_readOffer_80 rfl ?_
      obtain ⟨b20, h⟩ := gz_gd_o h
      obtain ⟨V21, e22, h⟩ := gz_let_o h
      refine gz_iast (L := 160) hX tw_S35 (by decide) (gz_inb_o b20) dX6_readOffer_83 e22 ?_
      refine gz_aload_n (q := 0) hX dX6_readOffer_84 rfl rfl ?_
      refine tg_offers hX dX6_readOffer_85 ?_
      refine gz_iload_n (q := 1) hX dX6_readOffer_88 rfl rfl ?_
      refine gz_iconst (v := 2) hX dX6_readOffer_89 gk_c_2 ?_
      refine gz_iadd hX dX6_readOffer_90 ?_
      obtain ⟨b23, h⟩ := gz_gd_o h
      refine gz_iald (L := 160) hX tw_S35 (gz_inb_o b23) dX6_readOffer_91 ?_
      refine gz_iconst (v := (-1)) hX dX6_readOffer_92 gk_c_m1 ?_
      refine gz_icmp_ne (tgt := 98) hX dX6_readOffer_93 (by decide) (fun c24 => ?_) (fun c24 => ?_)
      · have h := gz_ifn c24 h
        refine gz_aload_n (q := 0) hX dX6_readOffer_98 rfl rfl ?_
        refine tg_offers hX dX6_readOffer_99 ?_
        refine gz_iload_n (q := 1) hX dX6_readOffer_102 rfl rfl ?_
        refine gz_iconst (v := 3) hX dX6_readOffer_103 gk_c_3 ?_
        refine gz_iadd hX dX6_readOffer_104 ?_
        refine gz_aload_n (q := 0) hX dX6_readOffer_105 rfl rfl ?_
        refine gz_bipush (v := 21) hX dX6_readOffer_106 gk_b_21 ?_
        refine gz_iconst (v := 0) hX dX6_readOffer_108 gk_c_0 ?_
        refine gz_sipush (v := 9999) hX dX6_readOffer_109 gk_s_9999 ?_
        obtain ⟨V27, r25, e26, h⟩ := gz_b2_o h
        refine tc_V (As := [.int 21, .int 0, .int 9999]) hX (c_readTold e26) (lw_readTold_ q1784) rfl rfl nn_readTold ⟨Nat.le_of_ble_eq_true rfl, Nat.le_of_ble_eq_true rfl⟩ rfl rfl (Nat.le_of_ble_eq_true rfl) dX6_readOffer_112 rfl ?_
        obtain ⟨b28, h⟩ := gz_gd_o h
        obtain ⟨V29, e30, h⟩ := gz_let_o h
        refine gz_iast (L := 160) hX tw_S35 (by decide) (gz_inb_o b28) dX6_readOffer_115 e30 ?_
        refine gz_aload_n (q := 0) hX dX6_readOffer_116 rfl rfl ?_
        refine tg_offers hX dX6_readOffer_117 ?_
        refine gz_iload_n (q := 1) hX dX6_readOffer_120 rfl rfl ?_
        refine gz_iconst (v := 3) hX dX6_readOffer_121 gk_c_3 ?_
        refine gz_iadd hX dX6_readOffer_122 ?_
        obtain ⟨b31, h⟩ := gz_gd_o h
        refine gz_iald (L := 160) hX tw_S35 (gz_inb_o b31) dX6_readOffer_123 ?_
        refine gz_iconst (v := (-1)) hX dX6_readOffer_124 gk_c_m1 ?_
        refine gz_icmp_ne (tgt := 130) hX dX6_readOffer_125 (by decide) (fun c32 => ?_) (fun c32 => ?_)
        · have h := gz_ifn c32 h
          refine gz_aload_n (q := 0) hX dX6_readOffer_130 rfl rfl ?_
          refine tg_offers hX dX6_readOffer_131 ?_
          refine gz_iload_n (q := 1) hX dX6_readOffer_134 rfl rfl ?_
          refine gz_iconst (v := 4) hX dX6_readOffer_135 gk_c_4 ?_
          refine gz_iadd hX dX6_readOffer_136 ?_
          refine gz_aload_n (q := 0) hX dX6_readOffer_137 rfl rfl ?_
          refine gz_bipush (v := 10) hX dX6_readOffer_138 gk_b_10 ?_
          refine gz_iconst (v := 1) hX dX6_readOffer_140 gk_c_1 ?_
          refine gz_bipush (v := 9) hX dX6_readOffer_141 gk_b_9 ?_
          obtain ⟨V35, r33, e34, h⟩ := gz_b2_o h
          refine tc_V (As := [.int 10, .int 1, .int 9]) hX (c_readTold e34) (lw_readTold_ q1784) rfl rfl nn_readTold ⟨Nat.le_of_ble_eq_true rfl, Nat.le_of_ble_eq_true rfl⟩ rfl rfl (Nat.le_of_ble_eq_true rfl) dX6_readOffer_143 rfl ?_
          obtain ⟨b36, h⟩ := gz_gd_o h
          obtain ⟨V37, e38, h⟩ := gz_let_o h
          refine gz_iast (L := 160) hX tw_S35 (by decide) (gz_inb_o b36) dX6_readOffer_146 e38 ?_
          refine gz_aload_n (q := 0) hX dX6_readOffer_147 rfl rfl ?_
          refine tg_offers hX dX6_readOffer_148 ?_
          refine gz_iload_n (q := 1) hX dX6_readOffer_151 rfl rfl ?_
          refine gz_iconst (v := 4) hX dX6_readOffer_152 gk_c_4 ?_
          refine gz_iadd hX dX6_readOffer_153 ?_
          obtain ⟨b39, h⟩ := gz_gd_o h
          refine gz_iald (L := 160) hX tw_S35 (gz_inb_o b39) dX6_readOffer_154 ?_
          refine gz_iconst (v := (-1)) hX dX6_readOffer_155 gk_c_m1 ?_
          refine gz_icmp_ne (tgt := 163) hX dX6_readOffer_156 (by decide) (fun c40 => ?_) (fun c40 => ?_)
          · have h := gz_ifn c40 h
            refine gz_aload_n (q := 0) hX dX6_readOffer_163 rfl rfl ?_
            refine gz_bipush (v := 59) hX dX6_readOffer_164 gk_b_59 ?_
            obtain ⟨V43, r41, e42, h⟩ := gz_b2_o h
            refine tc_V (As := [.int 59]) hX (c_readMark e42) (lw_readMark_ q1792) rfl rfl nn_readMark ⟨Nat.le_of_ble_eq_true rfl, Nat.le_of_ble_eq_true rfl⟩ rfl rfl (Nat.le_of_ble_eq_true rfl) dX6_readOffer_166 rfl ?_
            obtain ⟨e1, e2⟩ := gz_in2 h
            exact gt_iret hX hZ hF e1 e2 dX6_readOffer_169
          · have h := gz_ifp c40 h
            refine gz_iconst (v := (-1)) hX dX6_readOffer_159 gk_c_m1 ?_
            refine gz_goto (tgt := 169) hX dX6_readOffer_160 (by decide) ?_
            obtain ⟨e1, e2⟩ := gz_in2 h
            exact gt_iret hX hZ hF e1 e2 dX6_readOffer_169
        · have h := gz_ifp c32 h
          refine gz_iconst (v := (-1)) hX dX6_readOffer_128 gk_c_m1 ?_
          obtain ⟨e1, e2⟩ := gz_in2 h
          exact gt_iret hX hZ hF e1 e2 dX6_readOffer_129
      · have h := gz_ifp c24 h
        refine gz_iconst (v := (-1)) hX dX6_readOffer_96 gk_c_m1 ?_
        obtain ⟨e1, e2⟩ := gz_in2 h
        exact gt_iret hX hZ hF e1 e2 dX6_readOffer_97
    · have h := gz_ifp c16 h
      refine gz_iconst (v := (-1)) hX dX6_readOffer_61 gk_c_m1 ?_
      obtain ⟨e1, e2⟩ := gz_in2 h
      exact gt_iret hX hZ hF e1 e2 dX6_readOffer_62
  · have h := gz_ifp c8 h
    refine gz_iconst (v := (-1)) hX dX6_readOffer_26 gk_c_m1 ?_
    obtain ⟨e1, e2⟩ := gz_in2 h
    exact gt_iret hX hZ hF e1 e2 dX6_readOffer_27
theorem lw_readOffer_ {i : Nat} (hl : Cond.methodLink RX6 i yX6_readOffer ∈ lw_all) : GoodIn lw_all (wsV RX6 i RX6 yX6_readOffer (ws_ yX6_readOffer cX6_readOffer 2 (some .int))) := lw_V hl q1782 qs70 q153 q1783
theorem nn_readOffer : yX6_readOffer.cls = RX6 ∧ yX6_readOffer.cls ≠ "java/lang/invoke/MethodHandle" ∧ yX6_readOffer.cls ≠ "java/lang/invoke/VarHandle" ∧ (parseMethodDescriptor yX6_readOffer.desc).map (fun d => d.parameters.length) = some 1 := by decide +kernel
def rm_readFair : Room := { frames := 6, cells := 0, slots := 0, locals := 132 }
noncomputable def m_readFair_L2 (N : Nat) : Nat → gz_V → Int32 → Option ((gz_V × Int32) ⊕ (gz_V × Int32))
  | 0, _, _ => none
  | n + 1, V, v1 => (if (m_isWord V 18) = 0 then some (.inr (V, v1)) else (if v1 = 16 then gz_b2 (m_errs V 3) (fun V11 r9 => some (.inl (V11, r9))) else gz_b2 (m_readOffer N V (80 + (5 * v1))) (fun V5 r3 => (if r3 = (-1) then some (.inl (V5, (-1))) else gz_let (v1 + 1) (fun x7 => m_readFair_L2 N n V5 x7)))))
theorem w_m_readFair_L2 {X : gz_X} {ad : gz_A0} (hX : gz_ok X cX6_readFair RX6 "readFair" 2 rm_readFair (some .int)) (hZ : gz_Z X) {N : Nat} {out : (gz_V × Int32) ⊕ (gz_V × Int32)} (hout : (∃ (W2 : gz_V) (r : Int32), out = .inl (W2, r) ∧ gx_F X tw_S W2 tw_R ad (some (.int r))) ∨ (∃ (W1 : gz_V) (o1 : Int32), out = .inr (W1, o1) ∧ gW X 2 tw_S tw_R ad W1 0 0 46 [(0, .ref (ad (1, 0, 0))), (1, .int o1)] [])) : ∀ (n : Nat) {V : gz_V} {v1 : Int32}, m_readFair_L2 N n V v1 = some out → gW X 2 tw_S tw_R ad V 0 0 2 [(0, .ref (ad (1, 0, 0))), (1, .int v1)] [] := by
  intro n
  induction n with
  | zero => intro V v1 h; rw [m_readFair_L2] at h; cases h
  | succ n ih =>
    intro V v1 h
    rw [m_readFair_L2] at h
    refine gz_aload_n (q := 0) hX dX6_readFair_2 rfl rfl ?_
    refine gz_bipush (v := 18) hX dX6_readFair_3 gk_b_18 ?_
    refine tc_V (As := [.int 18]) hX (c_isWord rfl) (lw_isWord_ q1772) rfl rfl nn_isWord ⟨Nat.le_of_ble_eq_true rfl, Nat.le_of_ble_eq_true rfl⟩ rfl rfl (Nat.le_of_ble_eq_true rfl) dX6_readFair_5 rfl ?_
    refine gz_if_eq (tgt := 46) hX dX6_readFair_8 (by decide) (fun c1 => ?_) (fun c1 => ?_)
    · have h := gz_ifp c1 h
      obtain rfl := gz_in1 h
      obtain ⟨_, _, e0, _⟩ | ⟨_, _, e0, k⟩ := hout
      · cases e0
      · cases e0
        exact gz_lv [0, 1] rfl k
    · have h := gz_ifn c1 h
      refine gz_iload_n (q := 1) hX dX6_readFair_11 rfl rfl ?_
      refine gz_bipush (v := 16) hX dX6_readFair_12 gk_b_16 ?_
      refine gz_icmp_ne (tgt := 23) hX dX6_readFair_14 (by decide) (fun c2 => ?_) (fun c2 => ?_)
      · have h := gz_ifn c2 h
        refine gz_aload_n (q := 0) hX dX6_readFair_23 rfl rfl ?_
        refine gz_bipush (v := 80) hX dX6_readFair_24 gk_b_80 ?_
        refine gz_iconst (v := 5) hX dX6_readFair_26 gk_c_5 ?_
        refine gz_iload_n (q := 1) hX dX6_readFair_27 rfl rfl ?_
        refine gz_imul hX dX6_readFair_28 ?_
        refine gz_iadd hX dX6_readFair_29 ?_
        obtain ⟨V5, r3, e4, h⟩ := gz_b2_o h
        refine tc_V (As := [.int (80 + (5 * v1))]) hX (c_readOffer e4) (lw_readOffer_ q1780) rfl rfl nn_readOffer ⟨Nat.le_of_ble_eq_true rfl, Nat.le_of_ble_eq_true rfl⟩ rfl rfl (Nat.le_of_ble_eq_true rfl) dX6_readFair_30 rfl ?_
        refine gz_iconst (v := (-1)) hX dX6_readFair_33 gk_c_m1 ?_
        refine gz_icmp_ne (tgt := 39) hX dX6_readFair_34 (by decide) (fun c6 => ?_) (fun c6 => ?_)
        · have h := gz_ifn c6 h
          refine gz_iload_n (q := 1) hX dX6_readFair_39 rfl rfl ?_
          refine gz_iconst (v := 1) hX dX6_readFair_40 gk_c_1 ?_
          refine gz_iadd hX dX6_readFair_41 ?_
          obtain ⟨x7, e8, h⟩ := gz_let_o h
          refine gz_nm e8 ?_
          refine gz_istore_n (lv2 := [(1, .int x7), (0, .ref (ad (1, 0, 0)))]) hX dX6_readFair_42 rfl (by decide) rfl ?_
          refine gz_goto (tgt := 2) hX dX6_readFair_43 (by decide) ?_
          exact gz_lv [1, 0] rfl (ih h)
        · have h := gz_ifp c6 h
          refine gz_iconst (v := (-1)) hX dX6_readFair_37 gk_c_m1 ?_
          obtain rfl := gz_in1 h
          obtain ⟨_, _, e0, hF⟩ | ⟨_, _, e0, _⟩ := hout
          · cases e0
            exact gt_iret hX hZ hF rfl rfl dX6_readFair_38
          · cases e0
      · have h := gz_ifp c2 h
        refine gz_aload_n (q := 0) hX dX6_readFair_17 rfl rfl ?_
        refine gz_iconst (v := 3) hX dX6_readFair_18 gk_c_3 ?_
        obtain ⟨V11, r9, e10, h⟩ := gz_b2_o h
        refine tc_V (As := [.int 3]) hX (c_errs e10) (lw_errs_ q1776) rfl rfl nn_errs ⟨Nat.le_of_ble_eq_true rfl, Nat.le_of_ble_eq_true rfl⟩ rfl rfl (Nat.le_of_ble_eq_true rfl) dX6_readFair_19 rfl ?_
        obtain rfl := gz_in1 h
        obtain ⟨_, _, e0, hF⟩ | ⟨_, _, e0, _⟩ := hout
        · cases e0
          exact gt_iret hX hZ hF rfl rfl dX6_readFair_22
        · cases e0
noncomputable def m_readFair (N : Nat) (V : gz_V) : Option (gz_V × Int32) := gz_l2 (m_readFair_L2 N N V 0) some (fun V1 x2 => (if (V1 (1, 0, 0) 15) = 0 then some (V1, x2) else gz_b2 (m_errs V1 1) (fun V7 r5 => some (V7, r5))))
theorem c_readFair {l : Launch} {D : va_G} {aC : Nat → ClassId} {ad : gz_A0} {N : Nat} {V : gz_V} {W1 : gz_V} {r : Int32} (h : m_readFair N V = some (W1, r)) : gz_Met l yX6_readFair cX6_readFair 2 (some .int) rm_readFair D aC ad tw_S V tw_R [.ref (ad (1, 0, 0))] (gz_F1 tw_S tw_R ad W1 (some (.int r))) 0 0 := by
  refine gt_ofW (own := RX6) (mn := "readFair") (lv := [(0, .ref (ad (1, 0, 0)))]) (by decide) rfl rfl (Nat.le_of_ble_eq_true rfl) rfl ?_
  intro X hX hZ hF
  rw [m_readFair] at h
  refine gz_iconst (v := 0) hX dX6_readFair_0 gk_c_0 ?_
  refine gz_istore_n (lv2 := [(1, .int 0), (0, .ref (ad (1, 0, 0)))]) hX dX6_readFair_1 rfl (by decide) rfl ?_
  rcases gz_l2_o h with ⟨p8, e3, h⟩ | ⟨V1, x2, e3, h⟩
  · obtain rfl := gz_in1 h
    exact gz_lv [1, 0] rfl (w_m_readFair_L2 hX hZ (Or.inl ⟨_, _, rfl, hF⟩) N e3)
  · refine gz_lv [1, 0] rfl (w_m_readFair_L2 hX hZ (Or.inr ⟨V1, x2, rfl, ?_⟩) N e3)
    refine gz_aload_n (q := 0) hX dX6_readFair_46 rfl rfl ?_
    refine tg_token hX dX6_readFair_47 ?_
    refine gz_if_ne (tgt := 57) hX dX6_readFair_50 (by decide) (fun c4 => ?_) (fun c4 => ?_)
    · have h := gz_ifn c4 h
      refine gz_aload_n (q := 0) hX dX6_readFair_57 rfl rfl ?_
      refine gz_iconst (v := 1) hX dX6_readFair_58 gk_c_1 ?_
      obtain ⟨V7, r5, e6, h⟩ := gz_b2_o h
      refine tc_V (As := [.int 1]) hX (c_errs e6) (lw_errs_ q1776) rfl rfl nn_errs ⟨Nat.le_of_ble_eq_true rfl, Nat.le_of_ble_eq_true rfl⟩ rfl rfl (Nat.le_of_ble_eq_true rfl) dX6_readFair_59 rfl ?_
      obtain ⟨e1, e2⟩ := gz_in2 h
      exact gt_iret hX hZ hF e1 e2 dX6_readFair_62
    · have h := gz_ifp c4 h
      refine gz_iload_n (q := 1) hX dX6_readFair_53 rfl rfl ?_
      refine gz_goto (tgt := 62) hX dX6_readFair_54 (by decide) ?_
      obtain ⟨e1, e2⟩ := gz_in2 h
      exact gt_iret hX hZ hF e1 e2 dX6_readFair_62
theorem lw_readFair_ {i : Nat} (hl : Cond.methodLink RX6 i yX6_readFair ∈ lw_all) : GoodIn lw_all (wsV RX6 i RX6 yX6_readFair (ws_ yX6_readFair cX6_readFair 2 (some .int))) := lw_V hl q1770 qs67 q153 q1771
theorem nn_readFair : yX6_readFair.cls = RX6 ∧ yX6_readFair.cls ≠ "java/lang/invoke/MethodHandle" ∧ yX6_readFair.cls ≠ "java/lang/invoke/VarHandle" ∧ (parseMethodDescriptor yX6_readFair.desc).map (fun d => d.parameters.length) = some 0 := by decide +kernel
def rm_readHabits : Room := { frames := 6, cells := 0, slots := 0, locals := 133 }
noncomputable def m_readHabits_L2 (N : Nat) : Nat → gz_V → Int32 → Option ((gz_V × Int32) ⊕ (gz_V × Int32))
  | 0, _, _ => none
  | n + 1, V, v1 => (if (m_isWord V 18) = 0 then some (.inr (V, v1)) else (if v1 = 16 then gz_b2 (m_errs V 3) (fun V11 r9 => some (.inl (V11, r9))) else gz_b2 (m_readDeed N V (80 + (5 * v1))) (fun V5 r3 => (if r3 = (-1) then some (.inl (V5, (-1))) else gz_let (v1 + 1) (fun x7 => m_readHabits_L2 N n V5 x7)))))
theorem w_m_readHabits_L2 {X : gz_X} {ad : gz_A0} (hX : gz_ok X cX6_readHabits RX6 "readHabits" 2 rm_readHabits (some .int)) (hZ : gz_Z X) {N : Nat} {out : (gz_V × Int32) ⊕ (gz_V × Int32)} (hout : (∃ (W2 : gz_V) (r : Int32), out = .inl (W2, r) ∧ gx_F X tw_S W2 tw_R ad (some (.int r))) ∨ (∃ (W1 : gz_V) (o1 : Int32), out = .inr (W1, o1) ∧ gW X 2 tw_S tw_R ad W1 0 0 46 [(0, .ref (ad (1, 0, 0))), (1, .int o1)] [])) : ∀ (n : Nat) {V : gz_V} {v1 : Int32}, m_readHabits_L2 N n V v1 = some out → gW X 2 tw_S tw_R ad V 0 0 2 [(0, .ref (ad (1, 0, 0))), (1, .int v1)] [] := by
  intro n
  induction n with
  | zero => intro V v1 h; rw [m_readHabits_L2] at h; cases h
  | succ n ih =>
    intro V v1 h
    rw [m_readHabits_L2] at h
    refine gz_aload_n (q := 0) hX dX6_readHabits_2 rfl rfl ?_
    refine gz_bipush (v := 18) hX dX6_readHabits_3 gk_b_18 ?_
    refine tc_V (As := [.int 18]) hX (c_isWord rfl) (lw_isWord_ q1772) rfl rfl nn_isWord ⟨Nat.le_of_ble_eq_true rfl, Nat.le_of_ble_eq_true rfl⟩ rfl rfl (Nat.le_of_ble_eq_true rfl) dX6_readHabits_5 rfl ?_
    refine gz_if_eq (tgt := 46) hX dX6_readHabits_8 (by decide) (fun c1 => ?_) (fun c1 => ?_)
    · have h := gz_ifp c1 h
      obtain rfl := gz_in1 h
      obtain ⟨_, _, e0, _⟩ | ⟨_, _, e0, k⟩ := hout
      · cases e0
      · cases e0
        exact gz_lv [0, 1] rfl k
    · have h := gz_ifn c1 h
      refine gz_iload_n (q := 1) hX dX6_readHabits_11 rfl rfl ?_
      refine gz_bipush (v := 16) hX dX6_readHabits_12 gk_b_16 ?_
      refine gz_icmp_ne (tgt := 23) hX dX6_readHabits_14 (by decide) (fun c2 => ?_) (fun c2 => ?_)
      · have h := gz_ifn c2 h
        refine gz_aload_n (q := 0) hX dX6_readHabits_23 rfl rfl ?_
        refine gz_bipush (v := 80) hX dX6_readHabits_24 gk_b_80 ?_
        refine gz_iconst (v := 5) hX dX6_readHabits_26 gk_c_5 ?_
        refine gz_iload_n (q := 1) hX dX6_readHabits_27 rfl rfl ?_
        refine gz_imul hX dX6_readHabits_28 ?_
        refine gz_iadd hX dX6_readHabits_29 ?_
        obtain ⟨V5, r3, e4, h⟩ := gz_b2_o h
        refine tc_V (As := [.int (80 + (5 * v1))]) hX (c_readDeed e4) (lw_readDeed_ q1804) rfl rfl nn_readDeed ⟨Nat.le_of_ble_eq_true rfl, Nat.le_of_ble_eq_true rfl⟩ rfl rfl (Nat.le_of_ble_eq_true rfl) dX6_readHabits_30 rfl ?_
        refine gz_iconst (v := (-1)) hX dX6_readHabits_33 gk_c_m1 ?_
        refine gz_icmp_ne (tgt := 39) hX dX6_readHabits_34 (by decide) (fun c6 => ?_) (fun c6 => ?_)
        · have h := gz_ifn c6 h
          refine gz_iload_n (q := 1) hX dX6_readHabits_39 rfl rfl ?_
          refine gz_iconst (v := 1) hX dX6_readHabits_40 gk_c_1 ?_
          refine gz_iadd hX dX6_readHabits_41 ?_
          obtain ⟨x7, e8, h⟩ := gz_let_o h
          refine gz_nm e8 ?_
          refine gz_istore_n (lv2 := [(1, .int x7), (0, .ref (ad (1, 0, 0)))]) hX dX6_readHabits_42 rfl (by decide) rfl ?_
          refine gz_goto (tgt := 2) hX dX6_readHabits_43 (by decide) ?_
          exact gz_lv [1, 0] rfl (ih h)
        · have h := gz_ifp c6 h
          refine gz_iconst (v := (-1)) hX dX6_readHabits_37 gk_c_m1 ?_
          obtain rfl := gz_in1 h
          obtain ⟨_, _, e0, hF⟩ | ⟨_, _, e0, _⟩ := hout
          · cases e0
            exact gt_iret hX hZ hF rfl rfl dX6_readHabits_38
          · cases e0
      · have h := gz_ifp c2 h
        refine gz_aload_n (q := 0) hX dX6_readHabits_17 rfl rfl ?_
        refine gz_iconst (v := 3) hX dX6_readHabits_18 gk_c_3 ?_
        obtain ⟨V11, r9, e10, h⟩ := gz_b2_o h
        refine tc_V (As := [.int 3]) hX (c_errs e10) (lw_errs_ q1776) rfl rfl nn_errs ⟨Nat.le_of_ble_eq_true rfl, Nat.le_of_ble_eq_true rfl⟩ rfl rfl (Nat.le_of_ble_eq_true rfl) dX6_readHabits_19 rfl ?_
        obtain rfl := gz_in1 h
        obtain ⟨_, _, e0, hF⟩ | ⟨_, _, e0, _⟩ := hout
        · cases e0
          exact gt_iret hX hZ hF rfl rfl dX6_readHabits_22
        · cases e0
noncomputable def m_readHabits (N : Nat) (V : gz_V) : Option (gz_V × Int32) := gz_l2 (m_readHabits_L2 N N V 0) some (fun V1 x2 => (if (V1 (1, 0, 0) 15) = 0 then some (V1, x2) else gz_b2 (m_errs V1 1) (fun V7 r5 => some (V7, r5))))
theorem c_readHabits {l : Launch} {D : va_G} {aC : Nat → ClassId} {ad : gz_A0} {N : Nat} {V : gz_V} {W1 : gz_V} {r : Int32} (h : m_readHabits N V = some (W1, r)) : gz_Met l yX6_readHabits cX6_readHabits 2 (some .int) rm_readHabits D aC ad tw_S V tw_R [.ref (ad (1, 0, 0))] (gz_F1 tw_S tw_R ad W1 (some (.int r))) 0 0 := by
  refine gt_ofW (own := RX6) (mn := "readHabits") (lv := [(0, .ref (ad (1, 0, 0)))]) (by decide) rfl rfl (Nat.le_of_ble_eq_true rfl) rfl ?_
  intro X hX hZ hF
  rw [m_readHabits] at h
  refine gz_iconst (v := 0) hX dX6_readHabits_0 gk_c_0 ?_
  refine gz_istore_n (lv2 := [(1, .int 0), (0, .ref (ad (1, 0, 0)))]) hX dX6_readHabits_1 rfl (by decide) rfl ?_
  rcases gz_l2_o h with ⟨p8, e3, h⟩ | ⟨V1, x2, e3, h⟩
  · obtain rfl := gz_in1 h
    exact gz_lv [1, 0] rfl (w_m_readHabits_L2 hX hZ (Or.inl ⟨_, _, rfl, hF⟩) N e3)
  · refine gz_lv [1, 0] rfl (w_m_readHabits_L2 hX hZ (Or.inr ⟨V1, x2, rfl, ?_⟩) N e3)
    refine gz_aload_n (q := 0) hX dX6_readHabits_46 rfl rfl ?_
    refine tg_token hX dX6_readHabits_47 ?_
    refine gz_if_ne (tgt := 57) hX dX6_readHabits_50 (by decide) (fun c4 => ?_) (fun c4 => ?_)
    · have h := gz_ifn c4 h
      refine gz_aload_n (q := 0) hX dX6_readHabits_57 rfl rfl ?_
      refine gz_iconst (v := 1) hX dX6_readHabits_58 gk_c_1 ?_
      obtain ⟨V7, r5, e6, h⟩ := gz_b2_o h
      refine tc_V (As := [.int 1]) hX (c_errs e6) (lw_errs_ q1776) rfl rfl nn_errs ⟨Nat.le_of_ble_eq_true rfl, Nat.le_of_ble_eq_true rfl⟩ rfl rfl (Nat.le_of_ble_eq_true rfl) dX6_readHabits_59 rfl ?_
      obtain ⟨e1, e2⟩ := gz_in2 h
      exact gt_iret hX hZ hF e1 e2 dX6_readHabits_62
    · have h := gz_ifp c4 h
      refine gz_iload_n (q := 1) hX dX6_readHabits_53 rfl rfl ?_
      refine gz_goto (tgt := 62) hX dX6_readHabits_54 (by decide) ?_
      obtain ⟨e1, e2⟩ := gz_in2 h
      exact gt_iret hX hZ hF e1 e2 dX6_readHabits_62
theorem lw_readHabits_ {i : Nat} (hl : Cond.methodLink RX6 i yX6_readHabits ∈ lw_all) : GoodIn lw_all (wsV RX6 i RX6 yX6_readHabits (ws_ yX6_readHabits cX6_readHabits 2 (some .int))) := lw_V hl q1802 qs75 q153 q1803
theorem nn_readHabits : yX6_readHabits.cls = RX6 ∧ yX6_readHabits.cls ≠ "java/lang/invoke/MethodHandle" ∧ yX6_readHabits.cls ≠ "java/lang/invoke/VarHandle" ∧ (parseMethodDescriptor yX6_readHabits.desc).map (fun d => d.parameters.length) = some 0 := by decide +kernel
