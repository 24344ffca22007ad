/-! THE TWIN, walked. Printed by wip/D-99505w/gen/mkx6.py -/
set_option maxRecDepth 100000
def rm_readKin : Room := { frames := 5, cells := 0, slots := 0, locals := 111 }
noncomputable def m_readKin (N : Nat) (V : gz_V) : Option (gz_V × Int32) := gz_b2 (m_readTold N V 19 0 ((V (1, 0, 0) 6) - 1)) (fun V3 r1 => (if r1 = (-1) then some (V3, (-1)) else (if (m_isWord V3 16) = 0 then gz_b2 (m_errs V3 1) (fun V45 r43 => some (V45, r43)) else gz_bd (m_reads N V3) (fun V7 => (if (V7 (1, 0, 0) 15) = 3 then (if (V7 (1, 0, 0) 16) = r1 then gz_b2 (m_errs V7 2) (fun V42 r40 => some (V42, r40)) else gz_b2 (m_readNumber N V7 0 ((V7 (1, 0, 0) 6) - 1)) (fun V27 r25 => (if r25 = (-1) then some (V27, (-1)) else gz_gd (gz_inb (12 + r1) 24 = true) (gz_gd (gz_inb (12 + r1) 24 = true) (gz_let (gz_up V27 (2, 39, 0) (12 + r1).toNatClampNeg ((V27 (2, 39, 0) (12 + r1).toNatClampNeg) ||| ((1 : Int32) <<< (r25 &&& 31)))) (fun V31 => gz_gd (gz_inb (12 + r25) 24 = true) (gz_gd (gz_inb (12 + r25) 24 = true) (gz_let (gz_up V31 (2, 39, 0) (12 + r25).toNatClampNeg ((V31 (2, 39, 0) (12 + r25).toNatClampNeg) ||| ((1 : Int32) <<< (r1 &&& 31)))) (fun V35 => gz_b2 (m_readMark N V35 59) (fun V39 r37 => some (V39, r37))))))))))) else gz_b2 (m_readNumber N V7 0 ((V7 (1, 0, 0) 6) - 1)) (fun V11 r9 => (if r9 = (-1) then some (V11, (-1)) else gz_gd (gz_inb (12 + r1) 24 = true) (gz_gd (gz_inb (12 + r1) 24 = true) (gz_let (gz_up V11 (2, 39, 0) (12 + r1).toNatClampNeg ((V11 (2, 39, 0) (12 + r1).toNatClampNeg) ||| ((1 : Int32) <<< (r9 &&& 31)))) (fun V15 => gz_gd (gz_inb (12 + r9) 24 = true) (gz_gd (gz_inb (12 + r9) 24 = true) (gz_let (gz_up V15 (2, 39, 0) (12 + r9).toNatClampNeg ((V15 (2, 39, 0) (12 + r9).toNatClampNeg) ||| ((1 : Int32) <<< (r1 &&& 31)))) (fun V19 => gz_b2 (m_readMark N V19 59) (fun V23 r21 => some (V23, r21)))))))))))))))
theorem c_readKin {l : Launch} {D : va_G} {aC : Nat → ClassId} {ad : gz_A0} {N : Nat} {V : gz_V} {W1 : gz_V} {r : Int32} (h : m_readKin N V = some (W1, r)) : gz_Met l yX6_readKin cX6_readKin 3 (some .int) rm_readKin D aC ad tw_S V tw_R [.ref (ad (1, 0, 0))] (gz_F1 tw_S tw_R ad W1 (some (.int r))) 0 0 := by
  refine gt_ofW (own := RX6) (mn := "readKin") (lv := [(0, .ref (ad (1, 0, 0)))]) (by decide) rfl rfl (Nat.le_of_ble_eq_true rfl) rfl ?_
  intro X hX hZ hF
  rw [m_readKin] at h
  refine gz_aload_n (q := 0) hX dX6_readKin_0 rfl rfl ?_
  refine gz_bipush (v := 19) hX dX6_readKin_1 gk_b_19 ?_
  refine gz_iconst (v := 0) hX dX6_readKin_3 gk_c_0 ?_
  refine gz_aload_n (q := 0) hX dX6_readKin_4 rfl rfl ?_
  refine tg_people hX dX6_readKin_5 ?_
  refine gz_iconst (v := 1) hX dX6_readKin_8 gk_c_1 ?_
  refine gz_isub hX dX6_readKin_9 ?_
  obtain ⟨V3, r1, e2, h⟩ := gz_b2_o h
  refine tc_V (As := [.int 19, .int 0, .int ((V (1, 0, 0) 6) - 1)]) hX (c_readTold e2) (lw_readTold_ q1784) rfl rfl nn_readTold ⟨Nat.le_of_ble_eq_true rfl, Nat.le_of_ble_eq_true rfl⟩ rfl rfl (Nat.le_of_ble_eq_true rfl) dX6_readKin_10 rfl ?_
  refine gz_istore_n (lv2 := [(1, .int r1), (0, .ref (ad (1, 0, 0)))]) hX dX6_readKin_13 rfl (by decide) rfl ?_
  refine gz_iload_n (q := 0) hX dX6_readKin_14 rfl rfl ?_
  refine gz_iconst (v := (-1)) hX dX6_readKin_15 gk_c_m1 ?_
  refine gz_icmp_ne (tgt := 21) hX dX6_readKin_16 (by decide) (fun c4 => ?_) (fun c4 => ?_)
  · have h := gz_ifn c4 h
    refine gz_aload_n (q := 1) hX dX6_readKin_21 rfl rfl ?_
    refine gz_bipush (v := 16) hX dX6_readKin_22 gk_b_16 ?_
    refine tc_V (As := [.int 16]) hX (c_isWord rfl) (lw_isWord_ q1772) rfl rfl nn_isWord ⟨Nat.le_of_ble_eq_true rfl, Nat.le_of_ble_eq_true rfl⟩ rfl rfl (Nat.le_of_ble_eq_true rfl) dX6_readKin_24 rfl ?_
    refine gz_if_ne (tgt := 36) hX dX6_readKin_27 (by decide) (fun c5 => ?_) (fun c5 => ?_)
    · have h := gz_ifn c5 h
      refine gz_aload_n (q := 1) hX dX6_readKin_36 rfl rfl ?_
      obtain ⟨V7, e6, h⟩ := gz_bd_o h
      refine tc_V (As := []) hX (c_reads e6) (lw_reads_ q1744) rfl rfl nn_reads ⟨Nat.le_of_ble_eq_true rfl, Nat.le_of_ble_eq_true rfl⟩ rfl rfl (Nat.le_of_ble_eq_true rfl) dX6_readKin_37 rfl ?_
      refine gz_aload_n (q := 1) hX dX6_readKin_40 rfl rfl ?_
      refine tg_token hX dX6_readKin_41 ?_
      refine gz_iconst (v := 3) hX dX6_readKin_44 gk_c_3 ?_
      refine gz_icmp_ne (tgt := 62) hX dX6_readKin_45 (by decide) (fun c8 => ?_) (fun c8 => ?_)
      · have h := gz_ifn c8 h
        refine gz_aload_n (q := 1) hX dX6_readKin_62 rfl rfl ?_
        refine gz_iconst (v := 0) hX dX6_readKin_63 gk_c_0 ?_
        refine gz_aload_n (q := 1) hX dX6_readKin_64 rfl rfl ?_
        refine tg_people hX dX6_readKin_65 ?_
        refine gz_iconst (v := 1) hX dX6_readKin_68 gk_c_1 ?_
        refine gz_isub hX dX6_readKin_69 ?_
        obtain ⟨V11, r9, e10, h⟩ := gz_b2_o h
        refine tc_V (As := [.int 0, .int ((V7 (1, 0, 0) 6) - 1)]) hX (c_readNumber e10) (lw_readNumber_ q1788) rfl rfl nn_readNumber ⟨Nat.le_of_ble_eq_true rfl, Nat.le_of_ble_eq_true rfl⟩ rfl rfl (Nat.le_of_ble_eq_true rfl) dX6_readKin_70 rfl ?_
        refine gz_istore_n (lv2 := [(2, .int r9), (1, .int r1), (0, .ref (ad (1, 0, 0)))]) hX dX6_readKin_73 rfl (by decide) rfl ?_
        refine gz_iload_n (q := 0) hX dX6_readKin_74 rfl rfl ?_
        refine gz_iconst (v := (-1)) hX dX6_readKin_75 gk_c_m1 ?_
        refine gz_icmp_ne (tgt := 81) hX dX6_readKin_76 (by decide) (fun c12 => ?_) (fun c12 => ?_)
        · have h := gz_ifn c12 h
          refine gz_aload_n (q := 2) hX dX6_readKin_81 rfl rfl ?_
          refine tg_kinOf hX dX6_readKin_82 ?_
          refine gz_bipush (v := 12) hX dX6_readKin_85 gk_b_12 ?_
          refine gz_iload_n (q := 1) hX dX6_readKin_87 rfl rfl ?_
          refine gz_iadd hX dX6_readKin_88 ?_
          refine gz_aload_n (q := 2) hX dX6_readKin_89 rfl rfl ?_
          refine tg_kinOf hX dX6_readKin_90 ?_
          refine gz_bipush (v := 12) hX dX6_readKin_93 gk_b_12 ?_
          refine gz_iload_n (q := 1) hX dX6_readKin_95 rfl rfl ?_
          refine gz_iadd hX dX6_readKin_96 ?_
          obtain ⟨b13, h⟩ := gz_gd_o h
          refine gz_iald (L := 24) hX tw_S39 (gz_inb_o b13) dX6_readKin_97 ?_
          refine gz_iconst (v := 1) hX dX6_readKin_98 gk_c_1 ?_
          refine gz_iload_n (q := 0) hX dX6_readKin_99 rfl rfl ?_
          refine gz_ishl hX dX6_readKin_100 ?_
          refine gz_ior hX dX6_readKin_101 ?_
          obtain ⟨b14, h⟩ := gz_gd_o h
          obtain ⟨V15, e16, h⟩ := gz_let_o h
          refine gz_iast (L := 24) hX tw_S39 (by decide) (gz_inb_o b14) dX6_readKin_102 e16 ?_
          refine gz_aload_n (q := 2) hX dX6_readKin_103 rfl rfl ?_
          refine tg_kinOf hX dX6_readKin_104 ?_
          refine gz_bipush (v := 12) hX dX6_readKin_107 gk_b_12 ?_
          refine gz_iload_n (q := 0) hX dX6_readKin_109 rfl rfl ?_
          refine gz_iadd hX dX6_readKin_110 ?_
          refine gz_aload_n (q := 2) hX dX6_readKin_111 rfl rfl ?_
          refine tg_kinOf hX dX6_readKin_112 ?_
          refine gz_bipush (v := 12) hX dX6_readKin_115 gk_b_12 ?_
          refine gz_iload_n (q := 0) hX dX6_readKin_117 rfl rfl ?_
          refine gz_iadd hX dX6_readKin_118 ?_
          obtain ⟨b17, h⟩ := gz_gd_o h
          refine gz_iald (L := 24) hX tw_S39 (gz_inb_o b17) dX6_readKin_119 ?_
          refine gz_iconst (v := 1) hX dX6_readKin_120 gk_c_1 ?_
          refine gz_iload_n (q := 1) hX dX6_readKin_121 rfl rfl ?_
          refine gz_ishl hX dX6_readKin_122 ?_
          refine gz_ior hX dX6_readKin_123 ?_
          obtain ⟨b18, h⟩ := gz_gd_o h
          obtain ⟨V19, e20, h⟩ := gz_let_o h
          refine gz_iast (L := 24) hX tw_S39 (by decide) (gz_inb_o b18) dX6_readKin_124 e20 ?_
          refine gz_aload_n (q := 2) hX dX6_readKin_125 rfl rfl ?_
          refine gz_bipush (v := 59) hX dX6_readKin_126 gk_b_59 ?_
          obtain ⟨V23, r21, e22, h⟩ := gz_b2_o h
          refine tc_V (As := [.int 59]) hX (c_readMark e22) (lw_readMark_ q1792) rfl rfl nn_readMark ⟨Nat.le_of_ble_eq_true rfl, Nat.le_of_ble_eq_true rfl⟩ rfl rfl (Nat.le_of_ble_eq_true rfl) dX6_readKin_128 rfl ?_
          obtain ⟨e1, e2⟩ := gz_in2 h
          exact gt_iret hX hZ hF e1 e2 dX6_readKin_131
        · have h := gz_ifp c12 h
          refine gz_iconst (v := (-1)) hX dX6_readKin_79 gk_c_m1 ?_
          obtain ⟨e1, e2⟩ := gz_in2 h
          exact gt_iret hX hZ hF e1 e2 dX6_readKin_80
      · have h := gz_ifp c8 h
        refine gz_aload_n (q := 1) hX dX6_readKin_48 rfl rfl ?_
        refine tg_value hX dX6_readKin_49 ?_
        refine gz_iload_n (q := 0) hX dX6_readKin_52 rfl rfl ?_
        refine gz_icmp_ne (tgt := 62) hX dX6_readKin_53 (by decide) (fun c24 => ?_) (fun c24 => ?_)
        · have h := gz_ifn c24 h
          refine gz_aload_n (q := 1) hX dX6_readKin_62 rfl rfl ?_
          refine gz_iconst (v := 0) hX dX6_readKin_63 gk_c_0 ?_
          refine gz_aload_n (q := 1) hX dX6_readKin_64 rfl rfl ?_
          refine tg_people hX dX6_readKin_65 ?_
          refine gz_iconst (v := 1) hX dX6_readKin_68 gk_c_1 ?_
          refine gz_isub hX dX6_readKin_69 ?_
          obtain ⟨V27, r25, e26, h⟩ := gz_b2_o h
          refine tc_V (As := [.int 0, .int ((V7 (1, 0, 0) 6) - 1)]) hX (c_readNumber e26) (lw_readNumber_ q1788) rfl rfl nn_readNumber ⟨Nat.le_of_ble_eq_true rfl, Nat.le_of_ble_eq_true rfl⟩ rfl rfl (Nat.le_of_ble_eq_true rfl) dX6_readKin_70 rfl ?_
          refine gz_istore_n (lv2 := [(2, .int r25), (1, .int r1), (0, .ref (ad (1, 0, 0)))]) hX dX6_readKin_73 rfl (by decide) rfl ?_
          refine gz_iload_n (q := 0) hX dX6_readKin_74 rfl rfl ?_
          refine gz_iconst (v := (-1)) hX dX6_readKin_75 gk_c_m1 ?_
          refine gz_icmp_ne (tgt := 81) hX dX6_readKin_76 (by decide) (fun c28 => ?_) (fun c28 => ?_)
          · have h := gz_ifn c28 h
            refine gz_aload_n (q := 2) hX dX6_readKin_81 rfl rfl ?_
            refine tg_kinOf hX dX6_readKin_82 ?_
            refine gz_bipush (v := 12) hX dX6_readKin_85 gk_b_12 ?_
            refine gz_iload_n (q := 1) hX dX6_readKin_87 rfl rfl ?_
            refine gz_iadd hX dX6_readKin_88 ?_
            refine gz_aload_n (q := 2) hX dX6_readKin_89 rfl rfl ?_
            refine tg_kinOf hX dX6_readKin_90 ?_
            refine gz_bipush (v := 12) hX dX6_readKin_93 gk_b_12 ?_
            refine gz_iload_n (q := 1) hX dX6_readKin_95 rfl rfl ?_
            refine gz_iadd hX dX6_readKin_96 ?_
            obtain ⟨b29, h⟩ := gz_gd_o h
            refine gz_iald (L := 24) hX tw_S39 (gz_inb_o b29) dX6_readKin_97 ?_
            refine gz_iconst (v := 1) hX dX6_readKin_98 gk_c_1 ?_
            refine gz_iload_n (q := 0) hX dX6_readKin_99 rfl rfl ?_
            refine gz_ishl hX dX6_readKin_100 ?_
            refine gz_ior hX dX6_readKin_101 ?_
            obtain ⟨b30, h⟩ := gz_gd_o h
            obtain ⟨V31, e32, h⟩ := gz_let_o h
            refine gz_iast (L := 24) hX tw_S39 (by decide) (gz_inb_o b30) dX6_readKin_102 e32 ?_
            refine gz_aload_n (q := 2) hX dX6_readKin_103 rfl rfl ?_
            refine tg_kinOf hX dX6_readKin_104 ?_
            refine gz_bipush (v := 12) hX dX6_readKin_107 gk_b_12 ?_
            refine gz_iload_n (q := 0) hX dX6_readKin_109 rfl rfl ?_
            refine gz_iadd hX dX6_readKin_110 ?_
            refine gz_aload_n (q := 2) hX dX6_readKin_111 rfl rfl ?_
            refine tg_kinOf hX dX6_readKin_112 ?_
            refine gz_bipush (v := 12) hX dX6_readKin_115 gk_b_12 ?_
            refine gz_iload_n (q := 0) hX dX6_readKin_117 rfl rfl ?_
            refine gz_iadd hX dX6_readKin_118 ?_
            obtain ⟨b33, h⟩ := gz_gd_o h
            refine gz_iald (L := 24) hX tw_S39 (gz_inb_o b33) dX6_readKin_119 ?_
            refine gz_iconst (v := 1) hX dX6_readKin_120 gk_c_1 ?_
            refine gz_iload_n (q := 1) hX dX6_readKin_121 rfl rfl ?_
            refine gz_ishl hX dX6_readKin_122 ?_
            refine gz_ior hX dX6_readKin_123 ?_
            obtain ⟨b34, h⟩ := gz_gd_o h
            obtain ⟨V35, e36, h⟩ := gz_let_o h
            refine gz_iast (L := 24) hX tw_S39 (by decide) (gz_inb_o b34) dX6_readKin_124 e36 ?_
            refine gz_aload_n (q := 2) hX dX6_readKin_125 rfl rfl ?_
            refine gz_bipush (v := 59) hX dX6_readKin_126 gk_b_59 ?_
            obtain ⟨V39, r37, e38, h⟩ := gz_b2_o h
            refine tc_V (As := [.int 59]) hX (c_readMark e38) (lw_readMark_ q1792) rfl rfl nn_readMark ⟨Nat.le_of_ble_eq_true rfl, Nat.le_of_ble_eq_true rfl⟩ rfl rfl (Nat.le_of_ble_eq_true rfl) dX6_readKin_128 rfl ?_
            obtain ⟨e1, e2⟩ := gz_in2 h
            exact gt_iret hX hZ hF e1 e2 dX6_readKin_131
          · have h := gz_ifp c28 h
            refine gz_iconst (v := (-1)) hX dX6_readKin_79 gk_c_m1 ?_
            obtain ⟨e1, e2⟩ := gz_in2 h
            exact gt_iret hX hZ hF e1 e2 dX6_readKin_80
        · have h := gz_ifp c24 h
          refine gz_aload_n (q := 1) hX dX6_readKin_56 rfl rfl ?_
          refine gz_iconst (v := 2) hX dX6_readKin_57 gk_c_2 ?_
          obtain ⟨V42, r40, e41, h⟩ := gz_b2_o h
          refine tc_V (As := [.int 2]) hX (c_errs e41) (lw_errs_ q1776) rfl rfl nn_errs ⟨Nat.le_of_ble_eq_true rfl, Nat.le_of_ble_eq_true rfl⟩ rfl rfl (Nat.le_of_ble_eq_true rfl) dX6_readKin_58 rfl ?_
          obtain ⟨e1, e2⟩ := gz_in2 h
          exact gt_iret hX hZ hF e1 e2 dX6_readKin_61
    · have h := gz_ifp c5 h
      refine gz_aload_n (q := 1) hX dX6_readKin_30 rfl rfl ?_
      refine gz_iconst (v := 1) hX dX6_readKin_31 gk_c_1 ?_
      obtain ⟨V45, r43, e44, h⟩ := gz_b2_o h
      refine tc_V (As := [.int 1]) hX (c_errs e44) (lw_errs_ q1776) rfl rfl nn_errs ⟨Nat.le_of_ble_eq_true rfl, Nat.le_of_ble_eq_true rfl⟩ rfl rfl (Nat.le_of_ble_eq_true rfl) dX6_readKin_32 rfl ?_
      obtain ⟨e1, e2⟩ := gz_in2 h
      exact gt_iret hX hZ hF e1 e2 dX6_readKin_35
  · have h := gz_ifp c4 h
    refine gz_iconst (v := (-1)) hX dX6_readKin_19 gk_c_m1 ?_
    obtain ⟨e1, e2⟩ := gz_in2 h
    exact gt_iret hX hZ hF e1 e2 dX6_readKin_20
theorem lw_readKin_ {i : Nat} (hl : Cond.methodLink RX6 i yX6_readKin ∈ lw_all) : GoodIn lw_all (wsV RX6 i RX6 yX6_readKin (ws_ yX6_readKin cX6_readKin 3 (some .int))) := lw_V hl q1814 qs78 q153 q1815
theorem nn_readKin : yX6_readKin.cls = RX6 ∧ yX6_readKin.cls ≠ "java/lang/invoke/MethodHandle" ∧ yX6_readKin.cls ≠ "java/lang/invoke/VarHandle" ∧ (parseMethodDescriptor yX6_readKin.desc).map (fun d => d.parameters.length) = some 0 := by decide +kernel
def rm_readKins : Room := { frames := 6, cells := 0, slots := 0, locals := 133 }
noncomputable def m_readKins_L2 (N : Nat) : Nat → gz_V → Int32 → Option (gz_V)
  | 0, _, _ => none
  | n + 1, V, v1 => (if 12 ≤ v1 then some V else gz_gd (gz_inb (12 + v1) 24 = true) (gz_let (gz_up V (2, 39, 0) (12 + v1).toNatClampNeg 0) (fun V3 => m_readKins_L2 N n V3 (v1 + 1))))
theorem w_m_readKins_L2 {X : gz_X} {ad : gz_A0} (hX : gz_ok X cX6_readKins RX6 "readKins" 2 rm_readKins (some .int)) (hZ : gz_Z X) {N : Nat} {W1 : gz_V} (k : gW X 2 tw_S tw_R ad W1 0 0 24 [(0, .ref (ad (1, 0, 0)))] []) : ∀ (n : Nat) {V : gz_V} {v1 : Int32}, m_readKins_L2 N n V v1 = some W1 → gW X 2 tw_S tw_R ad V 0 0 2 [(0, .ref (ad (1, 0, 0))), (1, .int v1)] [] := by
  intro n
  induction n with
  | zero => intro V v1 h; rw [m_readKins_L2] at h; cases h
  | succ n ih =>
    intro V v1 h
    rw [m_readKins_L2] at h
    refine gz_iload_n (q := 1) hX dX6_readKins_2 rfl rfl ?_
    refine gz_bipush (v := 12) hX dX6_readKins_3 gk_b_12 ?_
    refine gz_icmp_ge (tgt := 24) hX dX6_readKins_5 (by decide) (fun c1 => ?_) (fun c1 => ?_)
    · have h := gz_ifp c1 h
      obtain rfl := gz_in1 h
      exact gz_lv [0] rfl k
    · have h := gz_ifn c1 h
      refine gz_aload_n (q := 0) hX dX6_readKins_8 rfl rfl ?_
      refine tg_kinOf hX dX6_readKins_9 ?_
      refine gz_bipush (v := 12) hX dX6_readKins_12 gk_b_12 ?_
      refine gz_iload_n (q := 1) hX dX6_readKins_14 rfl rfl ?_
      refine gz_iadd hX dX6_readKins_15 ?_
      refine gz_iconst (v := 0) hX dX6_readKins_16 gk_c_0 ?_
      obtain ⟨b2, h⟩ := gz_gd_o h
      obtain ⟨V3, e4, h⟩ := gz_let_o h
      refine gz_iast (L := 24) hX tw_S39 (by decide) (gz_inb_o b2) dX6_readKins_17 e4 ?_
      refine gz_iinc (q := 1) (lv2 := [(1, .int (v1 + 1)), (0, .ref (ad (1, 0, 0)))]) hX dX6_readKins_18 rfl gk_c_1 (by decide) rfl ?_
      refine gz_goto (tgt := 2) hX dX6_readKins_21 (by decide) ?_
      exact gz_lv [1, 0] rfl (ih h)
noncomputable def m_readKins_L26 (N : Nat) : Nat → gz_V → Int32 → Option ((gz_V × Int32) ⊕ (gz_V × Int32))
  | 0, _, _ => none
  | n + 1, V, v1 => (if (m_isWord V 19) = 0 then some (.inr (V, v1)) else (if v1 = 16 then gz_b2 (m_errs V 3) (fun V13 r11 => some (.inl (V13, r11))) else gz_b2 (m_readKin N V) (fun V7 r5 => (if r5 = (-1) then some (.inl (V7, (-1))) else gz_let (v1 + 1) (fun x9 => m_readKins_L26 N n V7 x9)))))
theorem w_m_readKins_L26 {X : gz_X} {ad : gz_A0} (hX : gz_ok X cX6_readKins RX6 "readKins" 2 rm_readKins (some .int)) (hZ : gz_Z X) {N : Nat} {out : (gz_V × Int32) ⊕ (gz_V × Int32)} (hout : (∃ (W2 : gz_V) (r : Int32), out = .inl (W2, r) ∧ gx_F X tw_S W2 tw_R ad (some (.int r))) ∨ (∃ (W1 : gz_V) (o1 : Int32), out = .inr (W1, o1) ∧ gW X 2 tw_S tw_R ad W1 0 0 64 [(0, .ref (ad (1, 0, 0))), (1, .int o1)] [])) : ∀ (n : Nat) {V : gz_V} {v1 : Int32}, m_readKins_L26 N n V v1 = some out → gW X 2 tw_S tw_R ad V 0 0 26 [(0, .ref (ad (1, 0, 0))), (1, .int v1)] [] := by
  intro n
  induction n with
  | zero => intro V v1 h; rw [m_readKins_L26] at h; cases h
  | succ n ih =>
    intro V v1 h
    rw [m_readKins_L26] at h
    refine gz_aload_n (q := 0) hX dX6_readKins_26 rfl rfl ?_
    refine gz_bipush (v := 19) hX dX6_readKins_27 gk_b_19 ?_
    refine tc_V (As := [.int 19]) hX (c_isWord rfl) (lw_isWord_ q1772) rfl rfl nn_isWord ⟨Nat.le_of_ble_eq_true rfl, Nat.le_of_ble_eq_true rfl⟩ rfl rfl (Nat.le_of_ble_eq_true rfl) dX6_readKins_29 rfl ?_
    refine gz_if_eq (tgt := 64) hX dX6_readKins_32 (by decide) (fun c3 => ?_) (fun c3 => ?_)
    · have h := gz_ifp c3 h
      obtain rfl := gz_in1 h
      obtain ⟨_, _, e0, _⟩ | ⟨_, _, e0, k⟩ := hout
      · cases e0
      · cases e0
        exact gz_lv [0, 1] rfl k
    · have h := gz_ifn c3 h
      refine gz_iload_n (q := 1) hX dX6_readKins_35 rfl rfl ?_
      refine gz_bipush (v := 16) hX dX6_readKins_36 gk_b_16 ?_
      refine gz_icmp_ne (tgt := 47) hX dX6_readKins_38 (by decide) (fun c4 => ?_) (fun c4 => ?_)
      · have h := gz_ifn c4 h
        refine gz_aload_n (q := 0) hX dX6_readKins_47 rfl rfl ?_
        obtain ⟨V7, r5, e6, h⟩ := gz_b2_o h
        refine tc_V (As := []) hX (c_readKin e6) (lw_readKin_ q1812) rfl rfl nn_readKin ⟨Nat.le_of_ble_eq_true rfl, Nat.le_of_ble_eq_true rfl⟩ rfl rfl (Nat.le_of_ble_eq_true rfl) dX6_readKins_48 rfl ?_
        refine gz_iconst (v := (-1)) hX dX6_readKins_51 gk_c_m1 ?_
        refine gz_icmp_ne (tgt := 57) hX dX6_readKins_52 (by decide) (fun c8 => ?_) (fun c8 => ?_)
        · have h := gz_ifn c8 h
          refine gz_iload_n (q := 1) hX dX6_readKins_57 rfl rfl ?_
          refine gz_iconst (v := 1) hX dX6_readKins_58 gk_c_1 ?_
          refine gz_iadd hX dX6_readKins_59 ?_
          obtain ⟨x9, e10, h⟩ := gz_let_o h
          refine gz_nm e10 ?_
          refine gz_istore_n (lv2 := [(1, .int x9), (0, .ref (ad (1, 0, 0)))]) hX dX6_readKins_60 rfl (by decide) rfl ?_
          refine gz_goto (tgt := 26) hX dX6_readKins_61 (by decide) ?_
          exact gz_lv [1, 0] rfl (ih h)
        · have h := gz_ifp c8 h
          refine gz_iconst (v := (-1)) hX dX6_readKins_55 gk_c_m1 ?_
          obtain rfl := gz_in1 h
          obtain ⟨_, _, e0, hF⟩ | ⟨_, _, e0, _⟩ := hout
          · cases e0
            exact gt_iret hX hZ hF rfl rfl dX6_readKins_56
          · cases e0
      · have h := gz_ifp c4 h
        refine gz_aload_n (q := 0) hX dX6_readKins_41 rfl rfl ?_
        refine gz_iconst (v := 3) hX dX6_readKins_42 gk_c_3 ?_
        obtain ⟨V13, r11, e12, h⟩ := gz_b2_o h
        refine tc_V (As := [.int 3]) hX (c_errs e12) (lw_errs_ q1776) rfl rfl nn_errs ⟨Nat.le_of_ble_eq_true rfl, Nat.le_of_ble_eq_true rfl⟩ rfl rfl (Nat.le_of_ble_eq_true rfl) dX6_readKins_43 rfl ?_
        obtain rfl := gz_in1 h
        obtain ⟨_, _, e0, hF⟩ | ⟨_, _, e0, _⟩ := hout
        · cases e0
          exact gt_iret hX hZ hF rfl rfl dX6_readKins_46
        · cases e0
noncomputable def m_readKins (N : Nat) (V : gz_V) : Option (gz_V × Int32) := gz_bd (m_readKins_L2 N N V 0) (fun V1 => gz_l2 (m_readKins_L26 N N V1 0) some (fun V3 x4 => (if (V3 (1, 0, 0) 15) = 0 then some (V3, x4) else gz_b2 (m_errs V3 1) (fun V9 r7 => some (V9, r7)))))
theorem c_readKins {l : Launch} {D : va_G} {aC : Nat → ClassId} {ad : gz_A0} {N : Nat} {V : gz_V} {W1 : gz_V} {r : Int32} (h : m_readKins N V = some (W1, r)) : gz_Met l yX6_readKins cX6_readKins 2 (some .int) rm_readKins D aC ad tw_S V tw_R [.ref (ad (1, 0, 0))] (gz_F1 tw_S tw_R ad W1 (some (.int r))) 0 0 := by
  refine gt_ofW (own := RX6) (mn := "readKins") (lv := [(0, .ref (ad (1, 0, 0)))]) (by decide) rfl rfl (Nat.le_of_ble_eq_true rfl) rfl ?_
  intro X hX hZ hF
  rw [m_readKins] at h
  refine gz_iconst (v := 0) hX dX6_readKins_0 gk_c_0 ?_
  refine gz_istore_n (lv2 := [(1, .int 0), (0, .ref (ad (1, 0, 0)))]) hX dX6_readKins_1 rfl (by decide) rfl ?_
  obtain ⟨V1, e2, h⟩ := gz_bd_o h
  refine gz_lv [1, 0] rfl (w_m_readKins_L2 hX hZ ?_ N e2)
  refine gz_iconst (v := 0) hX dX6_readKins_24 gk_c_0 ?_
  refine gz_istore_n (lv2 := [(1, .int 0), (0, .ref (ad (1, 0, 0)))]) hX dX6_readKins_25 rfl (by decide) rfl ?_
  rcases gz_l2_o h with ⟨p10, e5, h⟩ | ⟨V3, x4, e5, h⟩
  · obtain rfl := gz_in1 h
    exact gz_lv [1, 0] rfl (w_m_readKins_L26 hX hZ (Or.inl ⟨_, _, rfl, hF⟩) N e5)
  · refine gz_lv [1, 0] rfl (w_m_readKins_L26 hX hZ (Or.inr ⟨V3, x4, rfl, ?_⟩) N e5)
    refine gz_aload_n (q := 0) hX dX6_readKins_64 rfl rfl ?_
    refine tg_token hX dX6_readKins_65 ?_
    refine gz_if_ne (tgt := 75) hX dX6_readKins_68 (by decide) (fun c6 => ?_) (fun c6 => ?_)
    · have h := gz_ifn c6 h
      refine gz_aload_n (q := 0) hX dX6_readKins_75 rfl rfl ?_
      refine gz_iconst (v := 1) hX dX6_readKins_76 gk_c_1 ?_
      obtain ⟨V9, r7, e8, h⟩ := gz_b2_o h
      refine tc_V (As := [.int 1]) hX (c_errs e8) (lw_errs_ q1776) rfl rfl nn_errs ⟨Nat.le_of_ble_eq_true rfl, Nat.le_of_ble_eq_true rfl⟩ rfl rfl (Nat.le_of_ble_eq_true rfl) dX6_readKins_77 rfl ?_
      obtain ⟨e1, e2⟩ := gz_in2 h
      exact gt_iret hX hZ hF e1 e2 dX6_readKins_80
    · have h := gz_ifp c6 h
      refine gz_iload_n (q := 1) hX dX6_readKins_71 rfl rfl ?_
      refine gz_goto (tgt := 80) hX dX6_readKins_72 (by decide) ?_
      obtain ⟨e1, e2⟩ := gz_in2 h
      exact gt_iret hX hZ hF e1 e2 dX6_readKins_80
theorem lw_readKins_ {i : Nat} (hl : Cond.methodLink RX6 i yX6_readKins ∈ lw_all) : GoodIn lw_all (wsV RX6 i RX6 yX6_readKins (ws_ yX6_readKins cX6_readKins 2 (some .int))) := lw_V hl q1810 qs77 q153 q1811
theorem nn_readKins : yX6_readKins.cls = RX6 ∧ yX6_readKins.cls ≠ "java/lang/invoke/MethodHandle" ∧ yX6_readKins.cls ≠ "java/lang/invoke/VarHandle" ∧ (parseMethodDescriptor yX6_readKins.desc).map (fun d => d.parameters.length) = some 0 := by decide +kernel
def rm_readLaw : Room := { frames := 8, cells := 0, slots := 0, locals := 172 }
noncomputable def m_readLaw_L2 (N : Nat) : Nat → gz_V → Int32 → Option ((gz_V × Int32) ⊕ (gz_V × Int32))
  | 0, _, _ => none
  | n + 1, V, v1 => (if (m_isLineWord V) = 0 then some (.inr (V, v1)) else (if v1 = 16 then gz_b2 (m_errs V 3) (fun V51 r49 => some (.inl (V51, r49))) else gz_let (32 + v1) (fun x3 => gz_gd (gz_inb x3 48 = true) (gz_let (gz_up V (2, 19, 0) x3.toNatClampNeg (V (1, 0, 0) 16)) (fun V6 => gz_bd (m_reads N V6) (fun V9 => gz_gd (gz_inb x3 48 = true) (gz_let (gz_up V9 (2, 20, 0) x3.toNatClampNeg (V9 (1, 0, 0) 26)) (fun V11 => gz_b2 (m_readSum N V11) (fun V15 r13 => (if r13 = (-1) then some (.inl (V15, (-1))) else gz_gd (gz_inb x3 48 = true) (gz_let (gz_up V15 (2, 21, 0) x3.toNatClampNeg (V15 (1, 0, 0) 26)) (fun V18 => (if (m_isWord V18 3) = 0 then gz_gd (gz_inb x3 48 = true) (gz_let (gz_up V18 (2, 22, 0) x3.toNatClampNeg (V18 (1, 0, 0) 26)) (fun V22 => (if (m_isSign V22 59) = 0 then gz_b2 (m_errs V22 1) (fun V31 r29 => some (.inl (V31, r29))) else gz_bd (m_reads N V22) (fun V26 => gz_let (v1 + 1) (fun x27 => m_readLaw_L2 N n V26 x27))))) else gz_bd (m_reads N V18) (fun V33 => gz_b2 (m_readAny N V33) (fun V36 r34 => (if r34 = (-1) then some (.inl (V36, (-1))) else gz_gd (gz_inb x3 48 = true) (gz_let (gz_up V36 (2, 22, 0) x3.toNatClampNeg (V36 (1, 0, 0) 26)) (fun V39 => (if (m_isSign V39 59) = 0 then gz_b2 (m_errs V39 1) (fun V48 r46 => some (.inl (V48, r46))) else gz_bd (m_reads N V39) (fun V43 => gz_let (v1 + 1) (fun x44 => m_readLaw_L2 N n V43 x44)))))))))))))))))))))
theorem w_m_readLaw_L2 {X : gz_X} {ad : gz_A0} (hX : gz_ok X cX6_readLaw RX6 "readLaw" 3 rm_readLaw (some .int)) (hZ : gz_Z X) {N : Nat} {out : (gz_V × Int32) ⊕ (gz_V × Int32)} (hout : (∃ (W2 : gz_V) (r : Int32), out = .inl (W2, r) ∧ gx_F X tw_S W2 tw_R ad (some (.int r))) ∨ (∃ (W1 : gz_V) (o1 : Int32), out = .inr (W1, o1) ∧ gW X 3 tw_S tw_R ad W1 0 0 128 [(0, .ref (ad (1, 0, 0))), (1, .int o1)] [])) : ∀ (n : Nat) {V : gz_V} {v1 : Int32}, m_readLaw_L2 N n V v1 = some out → gW X 3 tw_S tw_R ad V 0 0 2 [(0, .ref (ad (1, 0, 0))), (1, .int v1)] [] := by
  intro n
  induction n with
  | zero => intro V v1 h; rw [m_readLaw_L2] at h; cases h
  | succ n ih =>
    intro V v1 h
    rw [m_readLaw_L2] at h
    refine gz_aload_n (q := 0) hX dX6_readLaw_2 rfl rfl ?_
    refine tc_V (As := []) hX (c_isLineWord rfl) (lw_isLineWord_ q1820) rfl rfl nn_isLineWord ⟨Nat.le_of_ble_eq_true rfl, Nat.le_of_ble_eq_true rfl⟩ rfl rfl (Nat.le_of_ble_eq_true rfl) dX6_readLaw_3 rfl ?_
    refine gz_if_eq (tgt := 128) hX dX6_readLaw_6 (by decide) (fun c1 => ?_) (fun c1 => ?_)
    · have h := gz_ifp c1 h
      obtain rfl := gz_in1 h
      obtain ⟨_, _, e0, _⟩ | ⟨_, _, e0, k⟩ := hout
      · cases e0
      · cases e0
        exact gz_lv [0, 1] rfl k
    · have h := gz_ifn c1 h
      refine gz_iload_n (q := 1) hX dX6_readLaw_9 rfl rfl ?_
      refine gz_bipush (v := 16) hX dX6_readLaw_10 gk_b_16 ?_
      refine gz_icmp_ne (tgt := 21) hX dX6_readLaw_12 (by decide) (fun c2 => ?_) (fun c2 => ?_)
      · have h := gz_ifn c2 h
        refine gz_bipush (v := 32) hX dX6_readLaw_21 gk_b_32 ?_
        refine gz_iload_n (q := 1) hX dX6_readLaw_23 rfl rfl ?_
        refine gz_iadd hX dX6_readLaw_24 ?_
        obtain ⟨x3, e4, h⟩ := gz_let_o h
        refine gz_nm e4 ?_
        refine gz_istore_n (lv2 := [(2, .int x3), (0, .ref (ad (1, 0, 0))), (1, .int v1)]) hX dX6_readLaw_25 rfl (by decide) rfl ?_
        refine gz_aload_n (q := 1) hX dX6_readLaw_26 rfl rfl ?_
        refine tg_lineWord hX dX6_readLaw_27 ?_
        refine gz_iload_n (q := 0) hX dX6_readLaw_30 rfl rfl ?_
        refine gz_aload_n (q := 1) hX dX6_readLaw_31 rfl rfl ?_
        refine tg_value hX dX6_readLaw_32 ?_
        obtain ⟨b5, h⟩ := gz_gd_o h
        obtain ⟨V6, e7, h⟩ := gz_let_o h
        refine gz_iast (L := 48) hX tw_S19 (by decide) (gz_inb_o b5) dX6_readLaw_35 e7 ?_
        refine gz_aload_n (q := 1) hX dX6_readLaw_36 rfl rfl ?_
        obtain ⟨V9, e8, h⟩ := gz_bd_o h
        refine tc_V (As := []) hX (c_reads e8) (lw_reads_ q1744) rfl rfl nn_reads ⟨Nat.le_of_ble_eq_true rfl, Nat.le_of_ble_eq_true rfl⟩ rfl rfl (Nat.le_of_ble_eq_true rfl) dX6_readLaw_37 rfl ?_
        refine gz_aload_n (q := 1) hX dX6_readLaw_40 rfl rfl ?_
        refine tg_lineFrom hX dX6_readLaw_41 ?_
        refine gz_iload_n (q := 0) hX dX6_readLaw_44 rfl rfl ?_
        refine gz_aload_n (q := 1) hX dX6_readLaw_45 rfl rfl ?_
        refine tg_codes hX dX6_readLaw_46 ?_
        obtain ⟨b10, h⟩ := gz_gd_o h
        obtain ⟨V11, e12, h⟩ := gz_let_o h
        refine gz_iast (L := 48) hX tw_S20 (by decide) (gz_inb_o b10) dX6_readLaw_49 e12 ?_
        refine gz_aload_n (q := 1) hX dX6_readLaw_50 rfl rfl ?_
        obtain ⟨V15, r13, e14, h⟩ := gz_b2_o h
        refine tc_V (As := []) hX (c_readSum e14) (lw_readSum_ q1824) rfl rfl nn_readSum ⟨Nat.le_of_ble_eq_true rfl, Nat.le_of_ble_eq_true rfl⟩ rfl rfl (Nat.le_of_ble_eq_true rfl) dX6_readLaw_51 rfl ?_
        refine gz_iconst (v := (-1)) hX dX6_readLaw_54 gk_c_m1 ?_
        refine gz_icmp_ne (tgt := 60) hX dX6_readLaw_55 (by decide) (fun c16 => ?_) (fun c16 => ?_)
        · have h := gz_ifn c16 h
          refine gz_aload_n (q := 1) hX dX6_readLaw_60 rfl rfl ?_
          refine tg_lineWhen hX dX6_readLaw_61 ?_
          refine gz_iload_n (q := 0) hX dX6_readLaw_64 rfl rfl ?_
          refine gz_aload_n (q := 1) hX dX6_readLaw_65 rfl rfl ?_
          refine tg_codes hX dX6_readLaw_66 ?_
          obtain ⟨b17, h⟩ := gz_gd_o h
          obtain ⟨V18, e19, h⟩ := gz_let_o h
          refine gz_iast (L := 48) hX tw_S21 (by decide) (gz_inb_o b17) dX6_readLaw_69 e19 ?_
          refine gz_aload_n (q := 1) hX dX6_readLaw_70 rfl rfl ?_
          refine gz_iconst (v := 3) hX dX6_readLaw_71 gk_c_3 ?_
          refine tc_V (As := [.int 3]) hX (c_isWord rfl) (lw_isWord_ q1772) rfl rfl nn_isWord ⟨Nat.le_of_ble_eq_true rfl, Nat.le_of_ble_eq_true rfl⟩ rfl rfl (Nat.le_of_ble_eq_true rfl) dX6_readLaw_72 rfl ?_
          refine gz_if_eq (tgt := 92) hX dX6_readLaw_75 (by decide) (fun c20 => ?_) (fun c20 => ?_)
          · have h := gz_ifp c20 h
            refine gz_aload_n (q := 1) hX dX6_readLaw_92 rfl rfl ?_
            refine tg_lineTo hX dX6_readLaw_93 ?_
            refine gz_iload_n (q := 0) hX dX6_readLaw_96 rfl rfl ?_
            refine gz_aload_n (q := 1) hX dX6_readLaw_97 rfl rfl ?_
            refine tg_codes hX dX6_readLaw_98 ?_
            obtain ⟨b21, h⟩ := gz_gd_o h
            obtain ⟨V22, e23, h⟩ := gz_let_o h
            refine gz_iast (L := 48) hX tw_S22 (by decide) (gz_inb_o b21) dX6_readLaw_101 e23 ?_
            refine gz_aload_n (q := 1) hX dX6_readLaw_102 rfl rfl ?_
            refine gz_bipush (v := 59) hX dX6_readLaw_103 gk_b_59 ?_
            refine tc_V (As := [.int 59]) hX (c_isSign rfl) (lw_isSign_ q1796) rfl rfl nn_isSign ⟨Nat.le_of_ble_eq_true rfl, Nat.le_of_ble_eq_true rfl⟩ rfl rfl (Nat.le_of_ble_eq_true rfl) dX6_readLaw_105 rfl ?_
            refine gz_if_ne (tgt := 117) hX dX6_readLaw_108 (by decide) (fun c24 => ?_) (fun c24 => ?_)
            · have h := gz_ifn c24 h
              refine gz_aload_n (q := 1) hX dX6_readLaw_117 rfl rfl ?_
              obtain ⟨V26, e25, h⟩ := gz_bd_o h
              refine tc_V (As := []) hX (c_reads e25) (lw_reads_ q1744) rfl rfl nn_reads ⟨Nat.le_of_ble_eq_true rfl, Nat.le_of_ble_eq_true rfl⟩ rfl rfl (Nat.le_of_ble_eq_true rfl) dX6_readLaw_118 rfl ?_
              refine gz_iload_n (q := 2) hX dX6_readLaw_121 rfl rfl ?_
              refine gz_iconst (v := 1) hX dX6_readLaw_122 gk_c_1 ?_
              refine gz_iadd hX dX6_readLaw_123 ?_
              obtain ⟨x27, e28, h⟩ := gz_let_o h
              refine gz_nm e28 ?_
              refine gz_istore_n (lv2 := [(1, .int x27), (2, .int x3), (0, .ref (ad (1, 0, 0)))]) hX dX6_readLaw_124 rfl (by decide) rfl ?_
              refine gz_goto (tgt := 2) hX dX6_readLaw_125 (by decide) ?_
              exact gz_lv [2, 0] rfl (ih h)
            · have h := gz_ifp c24 h
              refine gz_aload_n (q := 1) hX dX6_readLaw_111 rfl rfl ?_
              refine gz_iconst (v := 1) hX dX6_readLaw_112 gk_c_1 ?_
              obtain ⟨V31, r29, e30, h⟩ := gz_b2_o h
              refine tc_V (As := [.int 1]) hX (c_errs e30) (lw_errs_ q1776) rfl rfl nn_errs ⟨Nat.le_of_ble_eq_true rfl, Nat.le_of_ble_eq_true rfl⟩ rfl rfl (Nat.le_of_ble_eq_true rfl) dX6_readLaw_113 rfl ?_
              obtain rfl := gz_in1 h
              obtain ⟨_, _, e0, hF⟩ | ⟨_, _, e0, _⟩ := hout
              · cases e0
                exact gt_iret hX hZ hF rfl rfl dX6_readLaw_116
              · cases e0
          · have h := gz_ifn c20 h
            refine gz_aload_n (q := 1) hX dX6_readLaw_78 rfl rfl ?_
            obtain ⟨V33, e32, h⟩ := gz_bd_o h
            refine tc_V (As := []) hX (c_reads e32) (lw_reads_ q1744) rfl rfl nn_reads ⟨Nat.le_of_ble_eq_true rfl, Nat.le_of_ble_eq_true rfl⟩ rfl rfl (Nat.le_of_ble_eq_true rfl) dX6_readLaw_79 rfl ?_
            refine gz_aload_n (q := 1) hX dX6_readLaw_82 rfl rfl ?_
            obtain ⟨V36, r34, e35, h⟩ := gz_b2_o h
            refine tc_V (As := []) hX (c_readAny e35) (lw_readAny_ q1844) rfl rfl nn_readAny ⟨Nat.le_of_ble_eq_true rfl, Nat.le_of_ble_eq_true rfl⟩ rfl rfl (Nat.le_of_ble_eq_true rfl) dX6_readLaw_83 rfl ?_
            refine gz_iconst (v := (-1)) hX dX6_readLaw_86 gk_c_m1 ?_
            refine gz_icmp_ne (tgt := 92) hX dX6_readLaw_87 (by decide) (fun c37 => ?_) (fun c37 => ?_)
            · have h := gz_ifn c37 h
              refine gz_aload_n (q := 1) hX dX6_readLaw_92 rfl rfl ?_
              refine tg_lineTo hX dX6_readLaw_93 ?_
              refine gz_iload_n (q := 0) hX dX6_readLaw_96 rfl rfl ?_
              refine gz_aload_n (q := 1) hX dX6_readLaw_97 rfl rfl ?_
              refine tg_codes hX dX6_readLaw_98 ?_
              obtain ⟨b38, h⟩ := gz_gd_o h
              obtain ⟨V39, e40, h⟩ := gz_let_o h
              refine gz_iast (L := 48) hX tw_S22 (by decide) (gz_inb_o b38) dX6_readLaw_101 e40 ?_
              refine gz_aload_n (q := 1) hX dX6_readLaw_102 rfl rfl ?_
              refine gz_bipush (v := 59) hX dX6_readLaw_103 gk_b_59 ?_
              refine tc_V (As := [.int 59]) hX (c_isSign rfl) (lw_isSign_ q1796) rfl rfl nn_isSign ⟨Nat.le_of_ble_eq_true rfl, Nat.le_of_ble_eq_true rfl⟩ rfl rfl (Nat.le_of_ble_eq_true rfl) dX6_readLaw_105 rfl ?_
              refine gz_if_ne (tgt := 117) hX dX6_readLaw_108 (by decide) (fun c41 => ?_) (fun c41 => ?_)
              · have h := gz_ifn c41 h
                refine gz_aload_n (q := 1) hX dX6_readLaw_117 rfl rfl ?_
                obtain ⟨V43, e42, h⟩ := gz_bd_o h
                refine tc_V (As := []) hX (c_reads e42) (lw_reads_ q1744) rfl rfl nn_reads ⟨Nat.le_of_ble_eq_true rfl, Nat.le_of_ble_eq_true rfl⟩ rfl rfl (Nat.le_of_ble_eq_true rfl) dX6_readLaw_118 rfl ?_
                refine gz_iload_n (q := 2) hX dX6_readLaw_121 rfl rfl ?_
                refine gz_iconst (v := 1) hX dX6_readLaw_122 gk_c_1 ?_
                refine gz_iadd hX dX6_readLaw_123 ?_
                obtain ⟨x44, e45, h⟩ := gz_let_o h
                refine gz_nm e45 ?_
                refine gz_istore_n (lv2 := [(1, .int x44), (2, .int x3), (0, .ref (ad (1, 0, 0)))]) hX dX6_readLaw_124 rfl (by decide) rfl ?_
                refine gz_goto (tgt := 2) hX dX6_readLaw_125 (by decide) ?_
                exact gz_lv [2, 0] rfl (ih h)
              · have h := gz_ifp c41 h
                refine gz_aload_n (q := 1) hX dX6_readLaw_111 rfl rfl ?_
                refine gz_iconst (v := 1) hX dX6_readLaw_112 gk_c_1 ?_
                obtain ⟨V48, r46, e47, h⟩ := gz_b2_o h
                refine tc_V (As := [.int 1]) hX (c_errs e47) (lw_errs_ q1776) rfl rfl nn_errs ⟨Nat.le_of_ble_eq_true rfl, Nat.le_of_ble_eq_true rfl⟩ rfl rfl (Nat.le_of_ble_eq_true rfl) dX6_readLaw_113 rfl ?_
                obtain rfl := gz_in1 h
                obtain ⟨_, _, e0, hF⟩ | ⟨_, _, e0, _⟩ := hout
                · cases e0
                  exact gt_iret hX hZ hF rfl rfl dX6_readLaw_116
                · cases e0
            · have h := gz_ifp c37 h
              refine gz_iconst (v := (-1)) hX dX6_readLaw_90 gk_c_m1 ?_
              obtain rfl := gz_in1 h
              obtain ⟨_, _, e0, hF⟩ | ⟨_, _, e0, _⟩ := hout
              · cases e0
                exact gt_iret hX hZ hF rfl rfl dX6_readLaw_91
              · cases e0
        · have h := gz_ifp c16 h
          refine gz_iconst (v := (-1)) hX dX6_readLaw_58 gk_c_m1 ?_
          obtain rfl := gz_in1 h
          obtain ⟨_, _, e0, hF⟩ | ⟨_, _, e0, _⟩ := hout
          · cases e0
            exact gt_iret hX hZ hF rfl rfl dX6_readLaw_59
          · cases e0
      · have h := gz_ifp c2 h
        refine gz_aload_n (q := 0) hX dX6_readLaw_15 rfl rfl ?_
        refine gz_iconst (v := 3) hX dX6_readLaw_16 gk_c_3 ?_
        obtain ⟨V51, r49, e50, h⟩ := gz_b2_o h
        refine tc_V (As := [.int 3]) hX (c_errs e50) (lw_errs_ q1776) rfl rfl nn_errs ⟨Nat.le_of_ble_eq_true rfl, Nat.le_of_ble_eq_true rfl⟩ rfl rfl (Nat.le_of_ble_eq_true rfl) dX6_readLaw_17 rfl ?_
        obtain rfl := gz_in1 h
        obtain ⟨_, _, e0, hF⟩ | ⟨_, _, e0, _⟩ := hout
        · cases e0
          exact gt_iret hX hZ hF rfl rfl dX6_readLaw_20
        · cases e0
noncomputable def m_readLaw (N : Nat) (V : gz_V) : Option (gz_V × Int32) := gz_l2 (m_readLaw_L2 N N V 0) some (fun V1 x2 => (if (V1 (1, 0, 0) 15) = 0 then some (V1, x2) else gz_b2 (m_errs V1 1) (fun V7 r5 => some (V7, r5))))
theorem c_readLaw {l : Launch} {D : va_G} {aC : Nat → ClassId} {ad : gz_A0} {N : Nat} {V : gz_V} {W1 : gz_V} {r : Int32} (h : m_readLaw N V = some (W1, r)) : gz_Met l yX6_readLaw cX6_readLaw 3 (some .int) rm_readLaw D aC ad tw_S V tw_R [.ref (ad (1, 0, 0))] (gz_F1 tw_S tw_R ad W1 (some (.int r))) 0 0 := by
  refine gt_ofW (own := RX6) (mn := "readLaw") (lv := [(0, .ref (ad (1, 0, 0)))]) (by decide) rfl rfl (Nat.le_of_ble_eq_true rfl) rfl ?_
  intro X hX hZ hF
  rw [m_readLaw] at h
  refine gz_iconst (v := 0) hX dX6_readLaw_0 gk_c_0 ?_
  refine gz_istore_n (lv2 := [(1, .int 0), (0, .ref (ad (1, 0, 0)))]) hX dX6_readLaw_1 rfl (by decide) rfl ?_
  rcases gz_l2_o h with ⟨p8, e3, h⟩ | ⟨V1, x2, e3, h⟩
  · obtain rfl := gz_in1 h
    exact gz_lv [1, 0] rfl (w_m_readLaw_L2 hX hZ (Or.inl ⟨_, _, rfl, hF⟩) N e3)
  · refine gz_lv [1, 0] rfl (w_m_readLaw_L2 hX hZ (Or.inr ⟨V1, x2, rfl, ?_⟩) N e3)
    refine gz_aload_n (q := 0) hX dX6_readLaw_128 rfl rfl ?_
    refine tg_token hX dX6_readLaw_129 ?_
    refine gz_if_ne (tgt := 139) hX dX6_readLaw_132 (by decide) (fun c4 => ?_) (fun c4 => ?_)
    · have h := gz_ifn c4 h
      refine gz_aload_n (q := 0) hX dX6_readLaw_139 rfl rfl ?_
      refine gz_iconst (v := 1) hX dX6_readLaw_140 gk_c_1 ?_
      obtain ⟨V7, r5, e6, h⟩ := gz_b2_o h
      refine tc_V (As := [.int 1]) hX (c_errs e6) (lw_errs_ q1776) rfl rfl nn_errs ⟨Nat.le_of_ble_eq_true rfl, Nat.le_of_ble_eq_true rfl⟩ rfl rfl (Nat.le_of_ble_eq_true rfl) dX6_readLaw_141 rfl ?_
      obtain ⟨e1, e2⟩ := gz_in2 h
      exact gt_iret hX hZ hF e1 e2 dX6_readLaw_144
    · have h := gz_ifp c4 h
      refine gz_iload_n (q := 1) hX dX6_readLaw_135 rfl rfl ?_
      refine gz_goto (tgt := 144) hX dX6_readLaw_136 (by decide) ?_
      obtain ⟨e1, e2⟩ := gz_in2 h
      exact gt_iret hX hZ hF e1 e2 dX6_readLaw_144
theorem lw_readLaw_ {i : Nat} (hl : Cond.methodLink RX6 i yX6_readLaw ∈ lw_all) : GoodIn lw_all (wsV RX6 i RX6 yX6_readLaw (ws_ yX6_readLaw cX6_readLaw 3 (some .int))) := lw_V hl q1818 qs79 q153 q1819
theorem nn_readLaw : yX6_readLaw.cls = RX6 ∧ yX6_readLaw.cls ≠ "java/lang/invoke/MethodHandle" ∧ yX6_readLaw.cls ≠ "java/lang/invoke/VarHandle" ∧ (parseMethodDescriptor yX6_readLaw.desc).map (fun d => d.parameters.length) = some 0 := by decide +kernel
def rm_readsText : Room := { frames := 9, cells := 0, slots := 0, locals := 194 }
noncomputable def m_readsText (N : Nat) (V : gz_V) (a1 : Int32) : Option (gz_V × Int32) := gz_let (gz_up V (1, 0, 0) 25 0) (fun V1 => gz_bd (m_reads N V1) (fun V4 => (if a1 = 1 then gz_b2 (m_readFair N V4) (fun V19 r17 => some (V19, r17)) else (if a1 = 2 then gz_b2 (m_readHabits N V4) (fun V16 r14 => some (V16, r14)) else (if a1 = 3 then gz_b2 (m_readKins N V4) (fun V13 r11 => some (V13, r11)) else gz_b2 (m_readLaw N V4) (fun V10 r8 => some (V10, r8)))))))
theorem c_readsText {l : Launch} {D : va_G} {aC : Nat → ClassId} {ad : gz_A0} {N : Nat} {V : gz_V} {a1 : Int32} {W1 : gz_V} {r : Int32} (h : m_readsText N V a1 = some (W1, r)) : gz_Met l yX6_readsText cX6_readsText 2 (some .int) rm_readsText D aC ad tw_S V tw_R [.ref (ad (1, 0, 0)), .int a1] (gz_F1 tw_S tw_R ad W1 (some (.int r))) 0 0 := by
  refine gt_ofW (own := RX6) (mn := "readsText") (lv := [(0, .ref (ad (1, 0, 0))), (1, .int a1)]) (by decide) rfl rfl (Nat.le_of_ble_eq_true rfl) rfl ?_
  intro X hX hZ hF
  rw [m_readsText] at h
  refine gz_aload_n (q := 0) hX dX6_readsText_0 rfl rfl ?_
  refine gz_iconst (v := 0) hX dX6_readsText_1 gk_c_0 ?_
  obtain ⟨V1, e2, h⟩ := gz_let_o h
  refine tp_which hX dX6_readsText_2 e2 ?_
  refine gz_aload_n (q := 0) hX dX6_readsText_5 rfl rfl ?_
  obtain ⟨V4, e3, h⟩ := gz_bd_o h
  refine tc_V (As := []) hX (c_reads e3) (lw_reads_ q1744) rfl rfl nn_reads ⟨Nat.le_of_ble_eq_true rfl, Nat.le_of_ble_eq_true rfl⟩ rfl rfl (Nat.le_of_ble_eq_true rfl) dX6_readsText_6 rfl ?_
  refine gz_iload_n (q := 1) hX dX6_readsText_9 rfl rfl ?_
  refine gz_iconst (v := 1) hX dX6_readsText_10 gk_c_1 ?_
  refine gz_icmp_ne (tgt := 19) hX dX6_readsText_11 (by decide) (fun c5 => ?_) (fun c5 => ?_)
  · have h := gz_ifn c5 h
    refine gz_iload_n (q := 1) hX dX6_readsText_19 rfl rfl ?_
    refine gz_iconst (v := 2) hX dX6_readsText_20 gk_c_2 ?_
    refine gz_icmp_ne (tgt := 29) hX dX6_readsText_21 (by decide) (fun c6 => ?_) (fun c6 => ?_)
    · have h := gz_ifn c6 h
      refine gz_iload_n (q := 1) hX dX6_readsText_29 rfl rfl ?_
      refine gz_iconst (v := 3) hX dX6_readsText_30 gk_c_3 ?_
      refine gz_icmp_ne (tgt := 41) hX dX6_readsText_31 (by decide) (fun c7 => ?_) (fun c7 => ?_)
      · have h := gz_ifn c7 h
        refine gz_aload_n (q := 0) hX dX6_readsText_41 rfl rfl ?_
        obtain ⟨V10, r8, e9, h⟩ := gz_b2_o h
        refine tc_V (As := []) hX (c_readLaw e9) (lw_readLaw_ q1816) rfl rfl nn_readLaw ⟨Nat.le_of_ble_eq_true rfl, Nat.le_of_ble_eq_true rfl⟩ rfl rfl (Nat.le_of_ble_eq_true rfl) dX6_readsText_42 rfl ?_
        obtain ⟨e1, e2⟩ := gz_in2 h
        exact gt_iret hX hZ hF e1 e2 dX6_readsText_45
      · have h := gz_ifp c7 h
        refine gz_aload_n (q := 0) hX dX6_readsText_34 rfl rfl ?_
        obtain ⟨V13, r11, e12, h⟩ := gz_b2_o h
        refine tc_V (As := []) hX (c_readKins e12) (lw_readKins_ q1808) rfl rfl nn_readKins ⟨Nat.le_of_ble_eq_true rfl, Nat.le_of_ble_eq_true rfl⟩ rfl rfl (Nat.le_of_ble_eq_true rfl) dX6_readsText_35 rfl ?_
        refine gz_goto (tgt := 45) hX dX6_readsText_38 (by decide) ?_
        obtain ⟨e1, e2⟩ := gz_in2 h
        exact gt_iret hX hZ hF e1 e2 dX6_readsText_45
    · have h := gz_ifp c6 h
      refine gz_aload_n (q := 0) hX dX6_readsText_24 rfl rfl ?_
      obtain ⟨V16, r14, e15, h⟩ := gz_b2_o h
      refine tc_V (As := []) hX (c_readHabits e15) (lw_readHabits_ q1800) rfl rfl nn_readHabits ⟨Nat.le_of_ble_eq_true rfl, Nat.le_of_ble_eq_true rfl⟩ rfl rfl (Nat.le_of_ble_eq_true rfl) dX6_readsText_25 rfl ?_
      obtain ⟨e1, e2⟩ := gz_in2 h
      exact gt_iret hX hZ hF e1 e2 dX6_readsText_28
  · have h := gz_ifp c5 h
    refine gz_aload_n (q := 0) hX dX6_readsText_14 rfl rfl ?_
    obtain ⟨V19, r17, e18, h⟩ := gz_b2_o h
    refine tc_V (As := []) hX (c_readFair e18) (lw_readFair_ q1768) rfl rfl nn_readFair ⟨Nat.le_of_ble_eq_true rfl, Nat.le_of_ble_eq_true rfl⟩ rfl rfl (Nat.le_of_ble_eq_true rfl) dX6_readsText_15 rfl ?_
    obtain ⟨e1, e2⟩ := gz_in2 h
    exact gt_iret hX hZ hF e1 e2 dX6_readsText_18
theorem lw_readsText_ {i : Nat} (hl : Cond.methodLink RX6 i yX6_readsText ∈ lw_all) : GoodIn lw_all (wsV RX6 i RX6 yX6_readsText (ws_ yX6_readsText cX6_readsText 2 (some .int))) := lw_V hl q1742 qs60 q153 q1743
theorem nn_readsText : yX6_readsText.cls = RX6 ∧ yX6_readsText.cls ≠ "java/lang/invoke/MethodHandle" ∧ yX6_readsText.cls ≠ "java/lang/invoke/VarHandle" ∧ (parseMethodDescriptor yX6_readsText.desc).map (fun d => d.parameters.length) = some 1 := by decide +kernel
def rm_times : Room := { frames := 1, cells := 0, slots := 0, locals := 22 }
noncomputable def m_times_L8 (N : Nat) : Nat → Int32 → Int32 → Int32 → Option (Int32)
  | 0, _, _, _ => none
  | n + 1, v3, v4, v5 => (if v5 ≤ 0 then some v3 else gz_let (if (v5 - v5 / 2 * 2) = 1 then gz_let (m_added v3 v4) (fun x6 => x6) else v3) (fun y2 => gz_let (m_added v4 v4) (fun x8 => gz_let (v5 / 2) (fun x10 => m_times_L8 N n y2 x8 x10))))
theorem w_m_times_L8 {X : gz_X} {ad : gz_A0} (hX : gz_ok X cX6_times RX6 "times" 6 rm_times (some .int)) (hZ : gz_Z X) {N : Nat} {V : gz_V} {o3 : Int32} (k : gW X 6 tw_S tw_R ad V 0 0 48 [(3, .int o3)] []) : ∀ (n : Nat) {v3 : Int32} {v4 : Int32} {v5 : Int32}, m_times_L8 N n v3 v4 v5 = some o3 → gW X 6 tw_S tw_R ad V 0 0 8 [(0, .ref (ad (1, 0, 0))), (3, .int v3), (4, .int v4), (5, .int v5)] [] := by
  intro n
  induction n with
  | zero => intro v3 v4 v5 h; rw [m_times_L8] at h; cases h
  | succ n ih =>
    intro v3 v4 v5 h
    rw [m_times_L8] at h
    refine gz_iload (q := 3) hX dX6_times_8 rfl ?_
    refine gz_if_le (tgt := 48) hX dX6_times_10 (by decide) (fun c1 => ?_) (fun c1 => ?_)
    · have h := gz_ifp c1 h
      obtain rfl := gz_in1 h
      exact gz_lv [1] rfl k
    · have h := gz_ifn c1 h
      refine gz_iload (q := 3) hX dX6_times_13 rfl ?_
      refine gz_iconst (v := 2) hX dX6_times_15 gk_c_2 ?_
      refine gz_irem hX dX6_times_16 (by decide) ?_
      refine gz_iconst (v := 1) hX dX6_times_17 gk_c_1 ?_
      obtain ⟨y2, g3, h⟩ := gz_let_o h
      have J4 : gW X 6 tw_S tw_R ad V 0 0 29 [(0, .ref (ad (1, 0, 0))), (3, .int y2), (4, .int v4), (5, .int v5)] [] := by
        refine gz_aload_n (q := 0) hX dX6_times_29 rfl rfl ?_
        refine gz_iload (q := 2) hX dX6_times_30 rfl ?_
        refine gz_iload (q := 2) hX dX6_times_32 rfl ?_
        refine tc_V (As := [.int v4, .int v4]) hX (c_added rfl) (lw_added_ q2078) rfl rfl nn_added ⟨Nat.le_of_ble_eq_true rfl, Nat.le_of_ble_eq_true rfl⟩ rfl rfl (Nat.le_of_ble_eq_true rfl) dX6_times_34 rfl ?_
        obtain ⟨x8, e9, h⟩ := gz_let_o h
        refine gz_nm e9 ?_
        refine gz_istore (lv2 := [(4, .int x8), (0, .ref (ad (1, 0, 0))), (3, .int y2), (5, .int v5)]) hX dX6_times_37 (by decide) rfl ?_
        refine gz_iload (q := 3) hX dX6_times_39 rfl ?_
        refine gz_iconst (v := 2) hX dX6_times_41 gk_c_2 ?_
        refine gz_idiv hX dX6_times_42 (by decide) ?_
        obtain ⟨x10, e11, h⟩ := gz_let_o h
        refine gz_nm e11 ?_
        refine gz_istore (lv2 := [(5, .int x10), (4, .int x8), (0, .ref (ad (1, 0, 0))), (3, .int y2)]) hX dX6_times_43 (by decide) rfl ?_
        refine gz_goto (tgt := 8) hX dX6_times_45 (by decide) ?_
        exact gz_lv [2, 3, 1, 0] rfl (ih h)
      refine gz_icmp_ne (tgt := 29) hX dX6_times_18 (by decide) (fun c5 => ?_) (fun c5 => ?_)
      · have g3 := gz_ifn c5 g3
        obtain rfl := g3
        exact gz_lv [0, 1, 2, 3] rfl J4
      · have g3 := gz_ifp c5 g3
        refine gz_aload_n (q := 0) hX dX6_times_21 rfl rfl ?_
        refine gz_iload_n (q := 1) hX dX6_times_22 rfl rfl ?_
        refine gz_iload (q := 2) hX dX6_times_23 rfl ?_
        refine tc_V (As := [.int v3, .int v4]) hX (c_added rfl) (lw_added_ q2078) rfl rfl nn_added ⟨Nat.le_of_ble_eq_true rfl, Nat.le_of_ble_eq_true rfl⟩ rfl rfl (Nat.le_of_ble_eq_true rfl) dX6_times_25 rfl ?_
        obtain ⟨x6, e7, g3⟩ := gz_let_o g3
        refine gz_nm e7 ?_
        refine gz_istore_n (lv2 := [(3, .int x6), (0, .ref (ad (1, 0, 0))), (4, .int v4), (5, .int v5)]) hX dX6_times_28 rfl (by decide) rfl ?_
        obtain rfl := g3
        exact gz_lv [1, 0, 2, 3] rfl J4
noncomputable def m_times (N : Nat) (a1 : Int32) (a2 : Int32) : Option Int32 := gz_bd (m_times_L8 N N 0 a1 a2) (fun x1 => some x1)
theorem c_times {l : Launch} {D : va_G} {aC : Nat → ClassId} {ad : gz_A0} {N : Nat} {V : gz_V} {a1 : Int32} {a2 : Int32} {r : Int32} (h : m_times N a1 a2 = some r) : gz_Met l yX6_times cX6_times 6 (some .int) rm_times D aC ad tw_S V tw_R [.ref (ad (1, 0, 0)), .int a1, .int a2] (gz_F1 tw_S tw_R ad V (some (.int r))) 0 0 := by
  refine gt_ofW (own := RX6) (mn := "times") (lv := [(0, .ref (ad (1, 0, 0))), (1, .int a1), (2, .int a2)]) (by decide) rfl rfl (Nat.le_of_ble_eq_true rfl) rfl ?_
  intro X hX hZ hF
  rw [m_times] at h
  refine gz_iconst (v := 0) hX dX6_times_0 gk_c_0 ?_
  refine gz_istore_n (lv2 := [(3, .int 0), (0, .ref (ad (1, 0, 0))), (1, .int a1), (2, .int a2)]) hX dX6_times_1 rfl (by decide) rfl ?_
  refine gz_iload_n (q := 2) hX dX6_times_2 rfl rfl ?_
  refine gz_istore (lv2 := [(4, .int a1), (3, .int 0), (0, .ref (ad (1, 0, 0))), (1, .int a1), (2, .int a2)]) hX dX6_times_3 (by decide) rfl ?_
  refine gz_iload_n (q := 4) hX dX6_times_5 rfl rfl ?_
  refine gz_istore (lv2 := [(5, .int a2), (4, .int a1), (3, .int 0), (0, .ref (ad (1, 0, 0))), (1, .int a1), (2, .int a2)]) hX dX6_times_6 (by decide) rfl ?_
  obtain ⟨x1, e2, h⟩ := gz_bd_o h
  refine gz_lv [3, 2, 1, 0] rfl (w_m_times_L8 hX hZ ?_ N e2)
  refine gz_iload_n (q := 0) hX dX6_times_48 rfl rfl ?_
  exact gt_iret hX hZ hF rfl (gz_in1 h) dX6_times_49
theorem lw_times_ {i : Nat} (hl : Cond.methodLink RX6 i yX6_times ∈ lw_all) : GoodIn lw_all (wsV RX6 i RX6 yX6_times (ws_ yX6_times cX6_times 6 (some .int))) := lw_V hl q2076 qs125 q153 q2077
theorem nn_times : yX6_times.cls = RX6 ∧ yX6_times.cls ≠ "java/lang/invoke/MethodHandle" ∧ yX6_times.cls ≠ "java/lang/invoke/VarHandle" ∧ (parseMethodDescriptor yX6_times.desc).map (fun d => d.parameters.length) = some 2 := by decide +kernel
def rm_ring : Room := { frames := 2, cells := 0, slots := 0, locals := 47 }
noncomputable def m_ring_L53 (N : Nat) (v1 : Int32) (v2 : Int32) : Nat → gz_V → Int32 → Option (gz_V)
  | 0, _, _ => none
  | n + 1, V, v3 => (if v2 ≤ v3 then some V else gz_gd (gz_inb v2 13 = true) (gz_gd (gz_inb v3 13 = true) (gz_gd (gz_inb ((v2 - 1) - v3) 13 = true) (gz_bd (m_times N (V (2, 54, 0) v3.toNatClampNeg) (V (2, 54, 0) ((v2 - 1) - v3).toNatClampNeg)) (fun r17 => gz_gd (gz_inb v2 13 = true) (gz_let (gz_up V (2, 54, 0) v2.toNatClampNeg (m_added (V (2, 54, 0) v2.toNatClampNeg) r17)) (fun V20 => m_ring_L53 N v1 v2 n V20 (v3 + 1))))))))
theorem w_m_ring_L53 {X : gz_X} {ad : gz_A0} (hX : gz_ok X cX6_ring RX6 "ring" 4 rm_ring (some .int)) (hZ : gz_Z X) {N : Nat} {v1 : Int32} {v2 : Int32} {W1 : gz_V} (k : gW X 4 tw_S tw_R ad W1 0 0 100 [(0, .ref (ad (1, 0, 0))), (1, .int v1), (2, .int v2)] []) : ∀ (n : Nat) {V : gz_V} {v3 : Int32}, m_ring_L53 N v1 v2 n V v3 = some W1 → gW X 4 tw_S tw_R ad V 0 0 53 [(0, .ref (ad (1, 0, 0))), (1, .int v1), (2, .int v2), (3, .int v3)] [] := by
  intro n
  induction n with
  | zero => intro V v3 h; rw [m_ring_L53] at h; cases h
  | succ n ih =>
    intro V v3 h
    rw [m_ring_L53] at h
    refine gz_iload_n (q := 3) hX dX6_ring_53 rfl rfl ?_
    refine gz_iload_n (q := 2) hX dX6_ring_54 rfl rfl ?_
    refine gz_icmp_ge (tgt := 100) hX dX6_ring_55 (by decide) (fun c13 => ?_) (fun c13 => ?_)
    · have h := gz_ifp c13 h
      obtain rfl := gz_in1 h
      exact gz_lv [0, 1, 2] rfl k
    · have h := gz_ifn c13 h
      refine gz_aload_n (q := 0) hX dX6_ring_58 rfl rfl ?_
      refine tg_ringed hX dX6_ring_59 ?_
      refine gz_iload_n (q := 2) hX dX6_ring_62 rfl rfl ?_
      refine gz_aload_n (q := 0) hX dX6_ring_63 rfl rfl ?_
      refine gz_aload_n (q := 0) hX dX6_ring_64 rfl rfl ?_
      refine tg_ringed hX dX6_ring_65 ?_
      refine gz_iload_n (q := 2) hX dX6_ring_68 rfl rfl ?_
      obtain ⟨b14, h⟩ := gz_gd_o h
      refine gz_iald (L := 13) hX tw_S54 (gz_inb_o b14) dX6_ring_69 ?_
      refine gz_aload_n (q := 0) hX dX6_ring_70 rfl rfl ?_
      refine gz_aload_n (q := 0) hX dX6_ring_71 rfl rfl ?_
      refine tg_ringed hX dX6_ring_72 ?_
      refine gz_iload_n (q := 3) hX dX6_ring_75 rfl rfl ?_
      obtain ⟨b15, h⟩ := gz_gd_o h
      refine gz_iald (L := 13) hX tw_S54 (gz_inb_o b15) dX6_ring_76 ?_
      refine gz_aload_n (q := 0) hX dX6_ring_77 rfl rfl ?_
      refine tg_ringed hX dX6_ring_78 ?_
      refine gz_iload_n (q := 2) hX dX6_ring_81 rfl rfl ?_
      refine gz_iconst (v := 1) hX dX6_ring_82 gk_c_1 ?_
      refine gz_isub hX dX6_ring_83 ?_
      refine gz_iload_n (q := 3) hX dX6_ring_84 rfl rfl ?_
      refine gz_isub hX dX6_ring_85 ?_
      obtain ⟨b16, h⟩ := gz_gd_o h
      refine gz_iald (L := 13) hX tw_S54 (gz_inb_o b16) dX6_ring_86 ?_
      obtain ⟨r17, e18, h⟩ := gz_bd_o h
      refine tc_V (As := [.int (V (2, 54, 0) v3.toNatClampNeg), .int (V (2, 54, 0) ((v2 - 1) - v3).toNatClampNeg)]) hX (c_times e18) (lw_times_ q2074) rfl rfl nn_times ⟨Nat.le_of_ble_eq_true rfl, Nat.le_of_ble_eq_true rfl⟩ rfl rfl (Nat.le_of_ble_eq_true rfl) dX6_ring_87 rfl ?_
      refine tc_V (As := [.int (V (2, 54, 0) v2.toNatClampNeg), .int r17]) hX (c_added rfl) (lw_added_ q2078) rfl rfl nn_added ⟨Nat.le_of_ble_eq_true rfl, Nat.le_of_ble_eq_true rfl⟩ rfl rfl (Nat.le_of_ble_eq_true rfl) dX6_ring_90 rfl ?_
      obtain ⟨b19, h⟩ := gz_gd_o h
      obtain ⟨V20, e21, h⟩ := gz_let_o h
      refine gz_iast (L := 13) hX tw_S54 (by decide) (gz_inb_o b19) dX6_ring_93 e21 ?_
      refine gz_iinc (q := 3) (lv2 := [(3, .int (v3 + 1)), (0, .ref (ad (1, 0, 0))), (1, .int v1), (2, .int v2)]) hX dX6_ring_94 rfl gk_c_1 (by decide) rfl ?_
      refine gz_goto (tgt := 53) hX dX6_ring_97 (by decide) ?_
      exact gz_lv [1, 2, 3, 0] rfl (ih h)
noncomputable def m_ring_L29 (N : Nat) (v1 : Int32) : Nat → gz_V → Int32 → Option (gz_V)
  | 0, _, _ => none
  | n + 1, V, v2 => (if (v1 / 2) < v2 then some V else gz_let (if v2 = 0 then (1 : Int32) else (0 : Int32)) (fun y6 => gz_gd (gz_inb v2 13 = true) (gz_let (gz_up V (2, 54, 0) v2.toNatClampNeg y6) (fun V11 => gz_bd (m_ring_L53 N v1 v2 N V11 0) (fun V13 => m_ring_L29 N v1 n V13 (v2 + 1))))))
theorem w_m_ring_L29 {X : gz_X} {ad : gz_A0} (hX : gz_ok X cX6_ring RX6 "ring" 4 rm_ring (some .int)) (hZ : gz_Z X) {N : Nat} {v1 : Int32} {W1 : gz_V} (k : gW X 4 tw_S tw_R ad W1 0 0 106 [(0, .ref (ad (1, 0, 0))), (1, .int v1)] []) : ∀ (n : Nat) {V : gz_V} {v2 : Int32}, m_ring_L29 N v1 n V v2 = some W1 → gW X 4 tw_S tw_R ad V 0 0 29 [(0, .ref (ad (1, 0, 0))), (1, .int v1), (2, .int v2)] [] := by
  intro n
  induction n with
  | zero => intro V v2 h; rw [m_ring_L29] at h; cases h
  | succ n ih =>
    intro V v2 h
    rw [m_ring_L29] at h
    refine gz_iload_n (q := 2) hX dX6_ring_29 rfl rfl ?_
    refine gz_iload_n (q := 1) hX dX6_ring_30 rfl rfl ?_
    refine gz_iconst (v := 2) hX dX6_ring_31 gk_c_2 ?_
    refine gz_idiv hX dX6_ring_32 (by decide) ?_
    refine gz_icmp_gt (tgt := 106) hX dX6_ring_33 (by decide) (fun c5 => ?_) (fun c5 => ?_)
    · have h := gz_ifp c5 h
      obtain rfl := gz_in1 h
      exact gz_lv [0, 1] rfl k
    · have h := gz_ifn c5 h
      refine gz_aload_n (q := 0) hX dX6_ring_36 rfl rfl ?_
      refine tg_ringed hX dX6_ring_37 ?_
      refine gz_iload_n (q := 2) hX dX6_ring_40 rfl rfl ?_
      refine gz_iload_n (q := 2) hX dX6_ring_41 rfl rfl ?_
      obtain ⟨y6, g7, h⟩ := gz_let_o h
      have J8 : gW X 4 tw_S tw_R ad V 0 0 50 [(0, .ref (ad (1, 0, 0))), (1, .int v1), (2, .int v2)] [.int y6, .int v2, .ref (ad (2, 54, 0))] := by
        obtain ⟨b10, h⟩ := gz_gd_o h
        obtain ⟨V11, e12, h⟩ := gz_let_o h
        refine gz_iast (L := 13) hX tw_S54 (by decide) (gz_inb_o b10) dX6_ring_50 e12 ?_
        refine gz_iconst (v := 0) hX dX6_ring_51 gk_c_0 ?_
        refine gz_istore_n (lv2 := [(3, .int 0), (0, .ref (ad (1, 0, 0))), (1, .int v1), (2, .int v2)]) hX dX6_ring_52 rfl (by decide) rfl ?_
        obtain ⟨V13, e14, h⟩ := gz_bd_o h
        refine gz_lv [1, 2, 3, 0] rfl (w_m_ring_L53 hX hZ ?_ N e14)
        refine gz_iinc (q := 2) (lv2 := [(2, .int (v2 + 1)), (0, .ref (ad (1, 0, 0))), (1, .int v1)]) hX dX6_ring_100 rfl gk_c_1 (by decide) rfl ?_
        refine gz_goto (tgt := 29) hX dX6_ring_103 (by decide) ?_
        exact gz_lv [1, 2, 0] rfl (ih h)
      refine gz_if_ne (tgt := 49) hX dX6_ring_42 (by decide) (fun c9 => ?_) (fun c9 => ?_)
      · have g7 := gz_ifn c9 g7
        refine gz_iconst (v := 0) hX dX6_ring_49 gk_c_0 ?_
        obtain rfl := g7
        exact gz_lv [0, 1, 2] rfl J8
      · have g7 := gz_ifp c9 g7
        refine gz_iconst (v := 1) hX dX6_ring_45 gk_c_1 ?_
        refine gz_goto (tgt := 50) hX dX6_ring_46 (by decide) ?_
        obtain rfl := g7
        exact gz_lv [0, 1, 2] rfl J8
noncomputable def m_ring (N : Nat) (V : gz_V) (a1 : Int32) : Option (gz_V × Int32) := gz_let (gz_up V (1, 0, 0) 0 0) (fun V1 => (if (m_isIn a1 0 24) = 0 then some (V1, (-1)) else (if (a1 - a1 / 2 * 2) = 1 then some (V1, 0) else gz_bd (m_ring_L29 N a1 N V1 0) (fun V5 => gz_gd (gz_inb (a1 / 2) 13 = true) (some (V5, (V5 (2, 54, 0) (a1 / 2).toNatClampNeg)))))))
theorem c_ring {l : Launch} {D : va_G} {aC : Nat → ClassId} {ad : gz_A0} {N : Nat} {V : gz_V} {a1 : Int32} {W1 : gz_V} {r : Int32} (h : m_ring N V a1 = some (W1, r)) : gz_Met l yX6_ring cX6_ring 4 (some .int) rm_ring D aC ad tw_S V tw_R [.ref (ad (1, 0, 0)), .int a1] (gz_F1 tw_S tw_R ad W1 (some (.int r))) 0 0 := by
  refine gt_ofW (own := RX6) (mn := "ring") (lv := [(0, .ref (ad (1, 0, 0))), (1, .int a1)]) (by decide) rfl rfl (Nat.le_of_ble_eq_true rfl) rfl ?_
  intro X hX hZ hF
  rw [m_ring] at h
  refine gz_aload_n (q := 0) hX dX6_ring_0 rfl rfl ?_
  refine gz_iconst (v := 0) hX dX6_ring_1 gk_c_0 ?_
  obtain ⟨V1, e2, h⟩ := gz_let_o h
  refine tp_told hX dX6_ring_2 e2 ?_
  refine gz_aload_n (q := 0) hX dX6_ring_5 rfl rfl ?_
  refine gz_iload_n (q := 1) hX dX6_ring_6 rfl rfl ?_
  refine gz_iconst (v := 0) hX dX6_ring_7 gk_c_0 ?_
  refine gz_bipush (v := 24) hX dX6_ring_8 gk_b_24 ?_
  refine tc_V (As := [.int a1, .int 0, .int 24]) hX (c_isIn rfl) (lw_isIn_ q1692) rfl rfl nn_isIn ⟨Nat.le_of_ble_eq_true rfl, Nat.le_of_ble_eq_true rfl⟩ rfl rfl (Nat.le_of_ble_eq_true rfl) dX6_ring_10 rfl ?_
  refine gz_if_ne (tgt := 18) hX dX6_ring_13 (by decide) (fun c3 => ?_) (fun c3 => ?_)
  · have h := gz_ifn c3 h
    refine gz_iload_n (q := 1) hX dX6_ring_18 rfl rfl ?_
    refine gz_iconst (v := 2) hX dX6_ring_19 gk_c_2 ?_
    refine gz_irem hX dX6_ring_20 (by decide) ?_
    refine gz_iconst (v := 1) hX dX6_ring_21 gk_c_1 ?_
    refine gz_icmp_ne (tgt := 27) hX dX6_ring_22 (by decide) (fun c4 => ?_) (fun c4 => ?_)
    · have h := gz_ifn c4 h
      refine gz_iconst (v := 0) hX dX6_ring_27 gk_c_0 ?_
      refine gz_istore_n (lv2 := [(2, .int 0), (0, .ref (ad (1, 0, 0))), (1, .int a1)]) hX dX6_ring_28 rfl (by decide) rfl ?_
      obtain ⟨V5, e6, h⟩ := gz_bd_o h
      refine gz_lv [1, 2, 0] rfl (w_m_ring_L29 hX hZ ?_ N e6)
      refine gz_aload_n (q := 0) hX dX6_ring_106 rfl rfl ?_
      refine tg_ringed hX dX6_ring_107 ?_
      refine gz_iload_n (q := 1) hX dX6_ring_110 rfl rfl ?_
      refine gz_iconst (v := 2) hX dX6_ring_111 gk_c_2 ?_
      refine gz_idiv hX dX6_ring_112 (by decide) ?_
      obtain ⟨b7, h⟩ := gz_gd_o h
      refine gz_iald (L := 13) hX tw_S54 (gz_inb_o b7) dX6_ring_113 ?_
      obtain ⟨e1, e2⟩ := gz_in2 h
      exact gt_iret hX hZ hF e1 e2 dX6_ring_114
    · have h := gz_ifp c4 h
      refine gz_iconst (v := 0) hX dX6_ring_25 gk_c_0 ?_
      obtain ⟨e1, e2⟩ := gz_in2 h
      exact gt_iret hX hZ hF e1 e2 dX6_ring_26
  · have h := gz_ifp c3 h
    refine gz_iconst (v := (-1)) hX dX6_ring_16 gk_c_m1 ?_
    obtain ⟨e1, e2⟩ := gz_in2 h
    exact gt_iret hX hZ hF e1 e2 dX6_ring_17
theorem lw_ring_ {i : Nat} (hl : Cond.methodLink RX6 i yX6_ring ∈ lw_all) : GoodIn lw_all (wsV RX6 i RX6 yX6_ring (ws_ yX6_ring cX6_ring 4 (some .int))) := lw_V hl q2071 q2072 q153 q2073
theorem nn_ring : yX6_ring.cls = RX6 ∧ yX6_ring.cls ≠ "java/lang/invoke/MethodHandle" ∧ yX6_ring.cls ≠ "java/lang/invoke/VarHandle" ∧ (parseMethodDescriptor yX6_ring.desc).map (fun d => d.parameters.length) = some 1 := by decide +kernel
def rm_row : Room := { frames := 1, cells := 0, slots := 0, locals := 23 }
noncomputable def m_row (V : gz_V) (a1 : Int32) : Option (gz_V × Int32) := gz_let (gz_up V (1, 0, 0) 0 0) (fun V1 => (if a1 = (-1) then gz_let (gz_up V1 (1, 0, 0) 62 0) (fun V11 => some (V11, 0)) else (if (m_isIn a1 1 20) = 0 then some (V1, (-1)) else (if (V1 (1, 0, 0) 62) = 6 then some (V1, (-1)) else gz_gd (gz_inb (V1 (1, 0, 0) 62) 6 = true) (gz_let (gz_up V1 (2, 63, 0) (V1 (1, 0, 0) 62).toNatClampNeg a1) (fun V7 => gz_let (gz_up V7 (1, 0, 0) 62 ((V7 (1, 0, 0) 62) + 1)) (fun V9 => some (V9, (V9 (1, 0, 0) 62)))))))))
theorem c_row {l : Launch} {D : va_G} {aC : Nat → ClassId} {ad : gz_A0} {V : gz_V} {a1 : Int32} {W1 : gz_V} {r : Int32} (h : m_row V a1 = some (W1, r)) : gz_Met l yX6_row cX6_row 2 (some .int) rm_row D aC ad tw_S V tw_R [.ref (ad (1, 0, 0)), .int a1] (gz_F1 tw_S tw_R ad W1 (some (.int r))) 0 0 := by
  refine gt_ofW (own := RX6) (mn := "row") (lv := [(0, .ref (ad (1, 0, 0))), (1, .int a1)]) (by decide) rfl rfl (Nat.le_of_ble_eq_true rfl) rfl ?_
  intro X hX hZ hF
  rw [m_row] at h
  refine gz_aload_n (q := 0) hX dX6_row_0 rfl rfl ?_
  refine gz_iconst (v := 0) hX dX6_row_1 gk_c_0 ?_
  obtain ⟨V1, e2, h⟩ := gz_let_o h
  refine tp_told hX dX6_row_2 e2 ?_
  refine gz_iload_n (q := 1) hX dX6_row_5 rfl rfl ?_
  refine gz_iconst (v := (-1)) hX dX6_row_6 gk_c_m1 ?_
  refine gz_icmp_ne (tgt := 17) hX dX6_row_7 (by decide) (fun c3 => ?_) (fun c3 => ?_)
  · have h := gz_ifn c3 h
    refine gz_aload_n (q := 0) hX dX6_row_17 rfl rfl ?_
    refine gz_iload_n (q := 1) hX dX6_row_18 rfl rfl ?_
    refine gz_iconst (v := 1) hX dX6_row_19 gk_c_1 ?_
    refine gz_bipush (v := 20) hX dX6_row_20 gk_b_20 ?_
    refine tc_V (As := [.int a1, .int 1, .int 20]) hX (c_isIn rfl) (lw_isIn_ q1692) rfl rfl nn_isIn ⟨Nat.le_of_ble_eq_true rfl, Nat.le_of_ble_eq_true rfl⟩ rfl rfl (Nat.le_of_ble_eq_true rfl) dX6_row_22 rfl ?_
    refine gz_if_eq (tgt := 37) hX dX6_row_25 (by decide) (fun c4 => ?_) (fun c4 => ?_)
    · have h := gz_ifp c4 h
      refine gz_iconst (v := (-1)) hX dX6_row_37 gk_c_m1 ?_
      obtain ⟨e1, e2⟩ := gz_in2 h
      exact gt_iret hX hZ hF e1 e2 dX6_row_38
    · have h := gz_ifn c4 h
      refine gz_aload_n (q := 0) hX dX6_row_28 rfl rfl ?_
      refine tg_rowMany hX dX6_row_29 ?_
      refine gz_bipush (v := 6) hX dX6_row_32 gk_b_6 ?_
      refine gz_icmp_ne (tgt := 39) hX dX6_row_34 (by decide) (fun c5 => ?_) (fun c5 => ?_)
      · have h := gz_ifn c5 h
        refine gz_aload_n (q := 0) hX dX6_row_39 rfl rfl ?_
        refine tg_handRows hX dX6_row_40 ?_
        refine gz_aload_n (q := 0) hX dX6_row_43 rfl rfl ?_
        refine tg_rowMany hX dX6_row_44 ?_
        refine gz_iload_n (q := 1) hX dX6_row_47 rfl rfl ?_
        obtain ⟨b6, h⟩ := gz_gd_o h
        obtain ⟨V7, e8, h⟩ := gz_let_o h
        refine gz_iast (L := 6) hX tw_S63 (by decide) (gz_inb_o b6) dX6_row_48 e8 ?_
        refine gz_aload_n (q := 0) hX dX6_row_49 rfl rfl ?_
        refine gz_aload_n (q := 0) hX dX6_row_50 rfl rfl ?_
        refine tg_rowMany hX dX6_row_51 ?_
        refine gz_iconst (v := 1) hX dX6_row_54 gk_c_1 ?_
        refine gz_iadd hX dX6_row_55 ?_
        obtain ⟨V9, e10, h⟩ := gz_let_o h
        refine tp_rowMany hX dX6_row_56 e10 ?_
        refine gz_aload_n (q := 0) hX dX6_row_59 rfl rfl ?_
        refine tg_rowMany hX dX6_row_60 ?_
        obtain ⟨e1, e2⟩ := gz_in2 h
        exact gt_iret hX hZ hF e1 e2 dX6_row_63
      · have h := gz_ifp c5 h
        refine gz_iconst (v := (-1)) hX dX6_row_37 gk_c_m1 ?_
        obtain ⟨e1, e2⟩ := gz_in2 h
        exact gt_iret hX hZ hF e1 e2 dX6_row_38
  · have h := gz_ifp c3 h
    refine gz_aload_n (q := 0) hX dX6_row_10 rfl rfl ?_
    refine gz_iconst (v := 0) hX dX6_row_11 gk_c_0 ?_
    obtain ⟨V11, e12, h⟩ := gz_let_o h
    refine tp_rowMany hX dX6_row_12 e12 ?_
    refine gz_iconst (v := 0) hX dX6_row_15 gk_c_0 ?_
    obtain ⟨e1, e2⟩ := gz_in2 h
    exact gt_iret hX hZ hF e1 e2 dX6_row_16
theorem lw_row_ {i : Nat} (hl : Cond.methodLink RX6 i yX6_row ∈ lw_all) : GoodIn lw_all (wsV RX6 i RX6 yX6_row (ws_ yX6_row cX6_row 2 (some .int))) := lw_V hl q2173 q2174 q153 q2175
theorem nn_row : yX6_row.cls = RX6 ∧ yX6_row.cls ≠ "java/lang/invoke/MethodHandle" ∧ yX6_row.cls ≠ "java/lang/invoke/VarHandle" ∧ (parseMethodDescriptor yX6_row.desc).map (fun d => d.parameters.length) = some 1 := by decide +kernel
def rm_set : Room := { frames := 2, cells := 0, slots := 0, locals := 46 }
noncomputable def m_set (V : gz_V) (a1 : Int32) (a2 : Int32) (a3 : Int32) : Option (gz_V × Int32) := gz_let (gz_up V (1, 0, 0) 0 0) (fun V1 => (if (m_canSet V1 a1 a2 a3) = 0 then some (V1, 0) else gz_bd (if 5 ≤ a1 then some V1 else gz_bd (m_hasTrait V1 a2 a1 a3) (fun V9 => some V9)) (fun V4 => gz_bd (if a1 = 5 then gz_gd (gz_inb (65 + a2) 121 = true) (gz_let (gz_up V4 (2, 1, 0) (65 + a2).toNatClampNeg a3) (fun V15 => some V15)) else some V4) (fun V10 => gz_bd (if a1 = 6 then gz_gd (gz_inb a2 10 = true) (gz_let (gz_up V10 (2, 8, 0) a2.toNatClampNeg a3) (fun V22 => some V22)) else some V10) (fun V17 => gz_bd (if a1 = 7 then gz_gd (gz_inb a2 10 = true) (gz_let (gz_up V17 (2, 9, 0) a2.toNatClampNeg a3) (fun V29 => some V29)) else some V17) (fun V24 => gz_let (gz_up V24 (1, 0, 0) 3 0) (fun V31 => some (V31, 1))))))))
theorem c_set {l : Launch} {D : va_G} {aC : Nat → ClassId} {ad : gz_A0} {V : gz_V} {a1 : Int32} {a2 : Int32} {a3 : Int32} {W1 : gz_V} {r : Int32} (h : m_set V a1 a2 a3 = some (W1, r)) : gz_Met l yX6_set cX6_set 4 (some .boolean) rm_set D aC ad tw_S V tw_R [.ref (ad (1, 0, 0)), .int a1, .int a2, .int a3] (gz_F1 tw_S tw_R ad W1 (some (.int r))) 0 0 := by
  refine gt_ofW (own := RX6) (mn := "set") (lv := [(0, .ref (ad (1, 0, 0))), (1, .int a1), (2, .int a2), (3, .int a3)]) (by decide) rfl rfl (Nat.le_of_ble_eq_true rfl) rfl ?_
  intro X hX hZ hF
  rw [m_set] at h
  refine gz_aload_n (q := 0) hX dX6_set_0 rfl rfl ?_
  refine gz_iconst (v := 0) hX dX6_set_1 gk_c_0 ?_
  obtain ⟨V1, e2, h⟩ := gz_let_o h
  refine tp_told hX dX6_set_2 e2 ?_
  refine gz_aload_n (q := 0) hX dX6_set_5 rfl rfl ?_
  refine gz_iload_n (q := 1) hX dX6_set_6 rfl rfl ?_
  refine gz_iload_n (q := 2) hX dX6_set_7 rfl rfl ?_
  refine gz_iload_n (q := 3) hX dX6_set_8 rfl rfl ?_
  refine tc_V (As := [.int a1, .int a2, .int a3]) hX (c_canSet rfl) (lw_canSet_ q1716) rfl rfl nn_canSet ⟨Nat.le_of_ble_eq_true rfl, Nat.le_of_ble_eq_true rfl⟩ rfl rfl (Nat.le_of_ble_eq_true rfl) dX6_set_9 rfl ?_
  refine gz_if_ne (tgt := 17) hX dX6_set_12 (by decide) (fun c3 => ?_) (fun c3 => ?_)
  · have h := gz_ifn c3 h
    refine gz_iload_n (q := 1) hX dX6_set_17 rfl rfl ?_
    refine gz_iconst (v := 5) hX dX6_set_18 gk_c_5 ?_
    obtain ⟨V4, g5, h⟩ := gz_bd_o h
    have J6 : gW X 4 tw_S tw_R ad V4 0 0 29 [(0, .ref (ad (1, 0, 0))), (1, .int a1), (2, .int a2), (3, .int a3)] [] := by
      refine gz_iload_n (q := 1) hX dX6_set_29 rfl rfl ?_
      refine gz_iconst (v := 5) hX dX6_set_30 gk_c_5 ?_
      obtain ⟨V10, g11, h⟩ := gz_bd_o h
      have J12 : gW X 4 tw_S tw_R ad V10 0 0 44 [(0, .ref (ad (1, 0, 0))), (1, .int a1), (2, .int a2), (3, .int a3)] [] := by
        refine gz_iload_n (q := 1) hX dX6_set_44 rfl rfl ?_
        refine gz_bipush (v := 6) hX dX6_set_45 gk_b_6 ?_
        obtain ⟨V17, g18, h⟩ := gz_bd_o h
        have J19 : gW X 4 tw_S tw_R ad V17 0 0 57 [(0, .ref (ad (1, 0, 0))), (1, .int a1), (2, .int a2), (3, .int a3)] [] := by
          refine gz_iload_n (q := 1) hX dX6_set_57 rfl rfl ?_
          refine gz_bipush (v := 7) hX dX6_set_58 gk_b_7 ?_
          obtain ⟨V24, g25, h⟩ := gz_bd_o h
          have J26 : gW X 4 tw_S tw_R ad V24 0 0 70 [(0, .ref (ad (1, 0, 0)))] [] := by
            refine gz_aload_n (q := 0) hX dX6_set_70 rfl rfl ?_
            refine gz_iconst (v := 0) hX dX6_set_71 gk_c_0 ?_
            obtain ⟨V31, e32, h⟩ := gz_let_o h
            refine tp_undoable hX dX6_set_72 e32 ?_
            refine gz_iconst (v := 1) hX dX6_set_75 gk_c_1 ?_
            obtain ⟨e1, e2⟩ := gz_in2 h
            exact gt_zret hX hZ rfl hF e1 e2 dX6_set_76
          refine gz_icmp_ne (tgt := 70) hX dX6_set_60 (by decide) (fun c27 => ?_) (fun c27 => ?_)
          · have g25 := gz_ifn c27 g25
            obtain rfl := gz_in1 g25
            exact gz_lv [0] rfl J26
          · have g25 := gz_ifp c27 g25
            refine gz_aload_n (q := 0) hX dX6_set_63 rfl rfl ?_
            refine tg_spirit hX dX6_set_64 ?_
            refine gz_iload_n (q := 2) hX dX6_set_67 rfl rfl ?_
            refine gz_iload_n (q := 3) hX dX6_set_68 rfl rfl ?_
            obtain ⟨b28, g25⟩ := gz_gd_o g25
            obtain ⟨V29, e30, g25⟩ := gz_let_o g25
            refine gz_iast (L := 10) hX tw_S9 (by decide) (gz_inb_o b28) dX6_set_69 e30 ?_
            obtain rfl := gz_in1 g25
            exact gz_lv [0] rfl J26
        refine gz_icmp_ne (tgt := 57) hX dX6_set_47 (by decide) (fun c20 => ?_) (fun c20 => ?_)
        · have g18 := gz_ifn c20 g18
          obtain rfl := gz_in1 g18
          exact gz_lv [0, 1, 2, 3] rfl J19
        · have g18 := gz_ifp c20 g18
          refine gz_aload_n (q := 0) hX dX6_set_50 rfl rfl ?_
          refine tg_worth hX dX6_set_51 ?_
          refine gz_iload_n (q := 2) hX dX6_set_54 rfl rfl ?_
          refine gz_iload_n (q := 3) hX dX6_set_55 rfl rfl ?_
          obtain ⟨b21, g18⟩ := gz_gd_o g18
          obtain ⟨V22, e23, g18⟩ := gz_let_o g18
          refine gz_iast (L := 10) hX tw_S8 (by decide) (gz_inb_o b21) dX6_set_56 e23 ?_
          obtain rfl := gz_in1 g18
          exact gz_lv [0, 1, 2, 3] rfl J19
      refine gz_icmp_ne (tgt := 44) hX dX6_set_31 (by decide) (fun c13 => ?_) (fun c13 => ?_)
      · have g11 := gz_ifn c13 g11
        obtain rfl := gz_in1 g11
        exact gz_lv [0, 1, 2, 3] rfl J12
      · have g11 := gz_ifp c13 g11
        refine gz_aload_n (q := 0) hX dX6_set_34 rfl rfl ?_
        refine tg_now hX dX6_set_35 ?_
        refine gz_bipush (v := 65) hX dX6_set_38 gk_b_65 ?_
        refine gz_iload_n (q := 2) hX dX6_set_40 rfl rfl ?_
        refine gz_iadd hX dX6_set_41 ?_
        refine gz_iload_n (q := 3) hX dX6_set_42 rfl rfl ?_
        obtain ⟨b14, g11⟩ := gz_gd_o g11
        obtain ⟨V15, e16, g11⟩ := gz_let_o g11
        refine gz_iast (L := 121) hX tw_S1 (by decide) (gz_inb_o b14) dX6_set_43 e16 ?_
        obtain rfl := gz_in1 g11
        exact gz_lv [0, 1, 2, 3] rfl J12
    refine gz_icmp_ge (tgt := 29) hX dX6_set_19 (by decide) (fun c7 => ?_) (fun c7 => ?_)
    · have g5 := gz_ifp c7 g5
      obtain rfl := gz_in1 g5
      exact gz_lv [0, 1, 2, 3] rfl J6
    · have g5 := gz_ifn c7 g5
      refine gz_aload_n (q := 0) hX dX6_set_22 rfl rfl ?_
      refine gz_iload_n (q := 2) hX dX6_set_23 rfl rfl ?_
      refine gz_iload_n (q := 1) hX dX6_set_24 rfl rfl ?_
      refine gz_iload_n (q := 3) hX dX6_set_25 rfl rfl ?_
      obtain ⟨V9, e8, g5⟩ := gz_bd_o g5
      refine tc_V (As := [.int a2, .int a1, .int a3]) hX (c_hasTrait e8) (lw_hasTrait_ q1696) rfl rfl nn_hasTrait ⟨Nat.le_of_ble_eq_true rfl, Nat.le_of_ble_eq_true rfl⟩ rfl rfl (Nat.le_of_ble_eq_true rfl) dX6_set_26 rfl ?_
      obtain rfl := gz_in1 g5
      exact gz_lv [0, 1, 2, 3] rfl J6
  · have h := gz_ifp c3 h
    refine gz_iconst (v := 0) hX dX6_set_15 gk_c_0 ?_
    obtain ⟨e1, e2⟩ := gz_in2 h
    exact gt_zret hX hZ rfl hF e1 e2 dX6_set_16
theorem lw_set_ {i : Nat} (hl : Cond.methodLink RX6 i yX6_set ∈ lw_all) : GoodIn lw_all (wsV RX6 i RX6 yX6_set (ws_ yX6_set cX6_set 4 (some .boolean))) := lw_V hl q1713 q1714 q153 q1715
theorem nn_set : yX6_set.cls = RX6 ∧ yX6_set.cls ≠ "java/lang/invoke/MethodHandle" ∧ yX6_set.cls ≠ "java/lang/invoke/VarHandle" ∧ (parseMethodDescriptor yX6_set.desc).map (fun d => d.parameters.length) = some 3 := by decide +kernel
def rm_signs : Room := { frames := 1, cells := 0, slots := 0, locals := 23 }
noncomputable def m_signs_L28 (N : Nat) (V : gz_V) (v1 : Int32) : Nat → Int32 → Int32 → Int32 → Int32 → Option (Int32 × Int32)
  | 0, _, _, _, _ => none
  | n + 1, v2, v3, v4, v5 => (if v1 ≤ v5 then some (v2, v4) else gz_let (v3 + v4) (fun x5 => gz_let (v2 + v4) (fun x7 => m_signs_L28 N V v1 n x7 v2 x5 (v5 + 1))))
theorem w_m_signs_L28 {X : gz_X} {ad : gz_A0} (hX : gz_ok X cX6_signs RX6 "signs" 7 rm_signs (some .int)) (hZ : gz_Z X) {N : Nat} {V : gz_V} {v1 : Int32} {o2 : Int32} {o4 : Int32} (k : gW X 7 tw_S tw_R ad V 0 0 57 [(2, .int o2), (4, .int o4)] []) : ∀ (n : Nat) {v2 : Int32} {v3 : Int32} {v4 : Int32} {v5 : Int32}, m_signs_L28 N V v1 n v2 v3 v4 v5 = some (o2, o4) → gW X 7 tw_S tw_R ad V 0 0 28 [(1, .int v1), (2, .int v2), (3, .int v3), (4, .int v4), (5, .int v5)] [] := by
  intro n
  induction n with
  | zero => intro v2 v3 v4 v5 h; rw [m_signs_L28] at h; cases h
  | succ n ih =>
    intro v2 v3 v4 v5 h
    rw [m_signs_L28] at h
    refine gz_iload (q := 4) hX dX6_signs_28 rfl ?_
    refine gz_iload_n (q := 0) hX dX6_signs_30 rfl rfl ?_
    refine gz_icmp_ge (tgt := 57) hX dX6_signs_31 (by decide) (fun c4 => ?_) (fun c4 => ?_)
    · have h := gz_ifp c4 h
      obtain ⟨rfl, rfl⟩ := gz_in2 h
      exact gz_lv [1, 3] rfl k
    · have h := gz_ifn c4 h
      refine gz_iload_n (q := 2) hX dX6_signs_34 rfl rfl ?_
      refine gz_iload (q := 3) hX dX6_signs_35 rfl ?_
      refine gz_iadd hX dX6_signs_37 ?_
      obtain ⟨x5, e6, h⟩ := gz_let_o h
      refine gz_nm e6 ?_
      refine gz_istore (lv2 := [(6, .int x5), (1, .int v1), (2, .int v2), (3, .int v3), (4, .int v4), (5, .int v5)]) hX dX6_signs_38 (by decide) rfl ?_
      refine gz_iload_n (q := 2) hX dX6_signs_40 rfl rfl ?_
      refine gz_istore_n (lv2 := [(3, .int v2), (6, .int x5), (1, .int v1), (2, .int v2), (4, .int v4), (5, .int v5)]) hX dX6_signs_41 rfl (by decide) rfl ?_
      refine gz_iload_n (q := 3) hX dX6_signs_42 rfl rfl ?_
      refine gz_iload (q := 4) hX dX6_signs_43 rfl ?_
      refine gz_iadd hX dX6_signs_45 ?_
      obtain ⟨x7, e8, h⟩ := gz_let_o h
      refine gz_nm e8 ?_
      refine gz_istore_n (lv2 := [(2, .int x7), (3, .int v2), (6, .int x5), (1, .int v1), (4, .int v4), (5, .int v5)]) hX dX6_signs_46 rfl (by decide) rfl ?_
      refine gz_iload (q := 2) hX dX6_signs_47 rfl ?_
      refine gz_istore (lv2 := [(4, .int x5), (2, .int x7), (3, .int v2), (6, .int x5), (1, .int v1), (5, .int v5)]) hX dX6_signs_49 (by decide) rfl ?_
      refine gz_iinc (q := 5) (lv2 := [(5, .int (v5 + 1)), (4, .int x5), (2, .int x7), (3, .int v2), (6, .int x5), (1, .int v1)]) hX dX6_signs_51 rfl gk_c_1 (by decide) rfl ?_
      refine gz_goto (tgt := 28) hX dX6_signs_54 (by decide) ?_
      exact gz_lv [5, 2, 3, 1, 0] rfl (ih h)
noncomputable def m_signs (N : Nat) (V : gz_V) (a1 : Int32) : Option (gz_V × Int32) := gz_let (gz_up V (1, 0, 0) 0 0) (fun V1 => (if (m_isIn a1 1 20) = 0 then some (V1, (-1)) else gz_b2 (m_signs_L28 N V1 a1 N 1 0 0 0) (fun x4 x5 => some (V1, (x4 + x5)))))
theorem c_signs {l : Launch} {D : va_G} {aC : Nat → ClassId} {ad : gz_A0} {N : Nat} {V : gz_V} {a1 : Int32} {W1 : gz_V} {r : Int32} (h : m_signs N V a1 = some (W1, r)) : gz_Met l yX6_signs cX6_signs 7 (some .int) rm_signs D aC ad tw_S V tw_R [.ref (ad (1, 0, 0)), .int a1] (gz_F1 tw_S tw_R ad W1 (some (.int r))) 0 0 := by
  refine gt_ofW (own := RX6) (mn := "signs") (lv := [(0, .ref (ad (1, 0, 0))), (1, .int a1)]) (by decide) rfl rfl (Nat.le_of_ble_eq_true rfl) rfl ?_
  intro X hX hZ hF
  rw [m_signs] at h
  refine gz_aload_n (q := 0) hX dX6_signs_0 rfl rfl ?_
  refine gz_iconst (v := 0) hX dX6_signs_1 gk_c_0 ?_
  obtain ⟨V1, e2, h⟩ := gz_let_o h
  refine tp_told hX dX6_signs_2 e2 ?_
  refine gz_aload_n (q := 0) hX dX6_signs_5 rfl rfl ?_
  refine gz_iload_n (q := 1) hX dX6_signs_6 rfl rfl ?_
  refine gz_iconst (v := 1) hX dX6_signs_7 gk_c_1 ?_
  refine gz_bipush (v := 20) hX dX6_signs_8 gk_b_20 ?_
  refine tc_V (As := [.int a1, .int 1, .int 20]) hX (c_isIn rfl) (lw_isIn_ q1692) rfl rfl nn_isIn ⟨Nat.le_of_ble_eq_true rfl, Nat.le_of_ble_eq_true rfl⟩ rfl rfl (Nat.le_of_ble_eq_true rfl) dX6_signs_10 rfl ?_
  refine gz_if_ne (tgt := 18) hX dX6_signs_13 (by decide) (fun c3 => ?_) (fun c3 => ?_)
  · have h := gz_ifn c3 h
    refine gz_iconst (v := 1) hX dX6_signs_18 gk_c_1 ?_
    refine gz_istore_n (lv2 := [(2, .int 1), (0, .ref (ad (1, 0, 0))), (1, .int a1)]) hX dX6_signs_19 rfl (by decide) rfl ?_
    refine gz_iconst (v := 0) hX dX6_signs_20 gk_c_0 ?_
    refine gz_istore_n (lv2 := [(3, .int 0), (2, .int 1), (0, .ref (ad (1, 0, 0))), (1, .int a1)]) hX dX6_signs_21 rfl (by decide) rfl ?_
    refine gz_iconst (v := 0) hX dX6_signs_22 gk_c_0 ?_
    refine gz_istore (lv2 := [(4, .int 0), (3, .int 0), (2, .int 1), (0, .ref (ad (1, 0, 0))), (1, .int a1)]) hX dX6_signs_23 (by decide) rfl ?_
    refine gz_iconst (v := 0) hX dX6_signs_25 gk_c_0 ?_
    refine gz_istore (lv2 := [(5, .int 0), (4, .int 0), (3, .int 0), (2, .int 1), (0, .ref (ad (1, 0, 0))), (1, .int a1)]) hX dX6_signs_26 (by decide) rfl ?_
    obtain ⟨x4, x5, e6, h⟩ := gz_b2_o h
    refine gz_lv [5, 3, 2, 1, 0] rfl (w_m_signs_L28 hX hZ ?_ N e6)
    refine gz_iload_n (q := 0) hX dX6_signs_57 rfl rfl ?_
    refine gz_iload (q := 1) hX dX6_signs_58 rfl ?_
    refine gz_iadd hX dX6_signs_60 ?_
    obtain ⟨e1, e2⟩ := gz_in2 h
    exact gt_iret hX hZ hF e1 e2 dX6_signs_61
  · have h := gz_ifp c3 h
    refine gz_iconst (v := (-1)) hX dX6_signs_16 gk_c_m1 ?_
    obtain ⟨e1, e2⟩ := gz_in2 h
    exact gt_iret hX hZ hF e1 e2 dX6_signs_17
theorem lw_signs_ {i : Nat} (hl : Cond.methodLink RX6 i yX6_signs ∈ lw_all) : GoodIn lw_all (wsV RX6 i RX6 yX6_signs (ws_ yX6_signs cX6_signs 7 (some .int))) := lw_V hl q2169 q2170 q153 q2171
theorem nn_signs : yX6_signs.cls = RX6 ∧ yX6_signs.cls ≠ "java/lang/invoke/MethodHandle" ∧ yX6_signs.cls ≠ "java/lang/invoke/VarHandle" ∧ (parseMethodDescriptor yX6_signs.desc).map (fun d => d.parameters.length) = some 1 := by decide +kernel
def rm_state : Room := { frames := 0, cells := 0, slots := 0, locals := 0 }
noncomputable def m_state (V : gz_V) (a1 : Int32) : Option (gz_V × Int32) := gz_let (gz_up V (1, 0, 0) 0 0) (fun V1 => gz_let (V1 (2, 1, 0) (1 : Int32).toNatClampNeg) (fun x3 => gz_let (gz_up V1 (2, 1, 0) (1 : Int32).toNatClampNeg a1) (fun V5 => gz_let (gz_up V5 (1, 0, 0) 3 0) (fun V7 => some (V7, x3)))))
theorem c_state {l : Launch} {D : va_G} {aC : Nat → ClassId} {ad : gz_A0} {V : gz_V} {a1 : Int32} {W1 : gz_V} {r : Int32} (h : m_state V a1 = some (W1, r)) : gz_Met l yX6_state cX6_state 3 (some .int) rm_state D aC ad tw_S V tw_R [.ref (ad (1, 0, 0)), .int a1] (gz_F1 tw_S tw_R ad W1 (some (.int r))) 0 0 := by
  refine gt_ofW (own := RX6) (mn := "state") (lv := [(0, .ref (ad (1, 0, 0))), (1, .int a1)]) (by decide) rfl rfl (Nat.le_of_ble_eq_true rfl) rfl ?_
  intro X hX hZ hF
  rw [m_state] at h
  refine gz_aload_n (q := 0) hX dX6_state_0 rfl rfl ?_
  refine gz_iconst (v := 0) hX dX6_state_1 gk_c_0 ?_
  obtain ⟨V1, e2, h⟩ := gz_let_o h
  refine tp_told hX dX6_state_2 e2 ?_
  refine gz_aload_n (q := 0) hX dX6_state_5 rfl rfl ?_
  refine tg_now hX dX6_state_6 ?_
  refine gz_iconst (v := 1) hX dX6_state_9 gk_c_1 ?_
  refine gz_iald (L := 121) hX tw_S1 (gz_inb_o (by decide)) dX6_state_10 ?_
  obtain ⟨x3, e4, h⟩ := gz_let_o h
  refine gz_nm e4 ?_
  refine gz_istore_n (lv2 := [(2, .int x3), (0, .ref (ad (1, 0, 0))), (1, .int a1)]) hX dX6_state_11 rfl (by decide) rfl ?_
  refine gz_aload_n (q := 1) hX dX6_state_12 rfl rfl ?_
  refine tg_now hX dX6_state_13 ?_
  refine gz_iconst (v := 1) hX dX6_state_16 gk_c_1 ?_
  refine gz_iload_n (q := 2) hX dX6_state_17 rfl rfl ?_
  obtain ⟨V5, e6, h⟩ := gz_let_o h
  refine gz_iast (L := 121) hX tw_S1 (by decide) (gz_inb_o (by decide)) dX6_state_18 e6 ?_
  refine gz_aload_n (q := 1) hX dX6_state_19 rfl rfl ?_
  refine gz_iconst (v := 0) hX dX6_state_20 gk_c_0 ?_
  obtain ⟨V7, e8, h⟩ := gz_let_o h
  refine tp_undoable hX dX6_state_21 e8 ?_
  refine gz_iload_n (q := 0) hX dX6_state_24 rfl rfl ?_
  obtain ⟨e1, e2⟩ := gz_in2 h
  exact gt_iret hX hZ hF e1 e2 dX6_state_25
theorem lw_state_ {i : Nat} (hl : Cond.methodLink RX6 i yX6_state ∈ lw_all) : GoodIn lw_all (wsV RX6 i RX6 yX6_state (ws_ yX6_state cX6_state 3 (some .int))) := lw_V hl q1685 q1686 q153 q1687
theorem nn_state : yX6_state.cls = RX6 ∧ yX6_state.cls ≠ "java/lang/invoke/MethodHandle" ∧ yX6_state.cls ≠ "java/lang/invoke/VarHandle" ∧ (parseMethodDescriptor yX6_state.desc).map (fun d => d.parameters.length) = some 1 := by decide +kernel
def rm_takesLaw : Room := { frames := 0, cells := 0, slots := 0, locals := 0 }
noncomputable def m_takesLaw_L2 (N : Nat) (v1 : Int32) : Nat → gz_V → Int32 → Option (gz_V)
  | 0, _, _ => none
  | n + 1, V, v2 => (if v1 ≤ v2 then some V else gz_gd (gz_inb (32 + v2) 48 = true) (gz_gd (gz_inb ((16 * (V (1, 0, 0) 25)) + v2) 48 = true) (gz_let (gz_up V (2, 19, 0) ((16 * (V (1, 0, 0) 25)) + v2).toNatClampNeg (V (2, 19, 0) (32 + v2).toNatClampNeg)) (fun V4 => gz_gd (gz_inb (32 + v2) 48 = true) (gz_gd (gz_inb ((16 * (V4 (1, 0, 0) 25)) + v2) 48 = true) (gz_let (gz_up V4 (2, 20, 0) ((16 * (V4 (1, 0, 0) 25)) + v2).toNatClampNeg (V4 (2, 20, 0) (32 + v2).toNatClampNeg)) (fun V8 => gz_gd (gz_inb (32 + v2) 48 = true) (gz_gd (gz_inb ((16 * (V8 (1, 0, 0) 25)) + v2) 48 = true) (gz_let (gz_up V8 (2, 21, 0) ((16 * (V8 (1, 0, 0) 25)) + v2).toNatClampNeg (V8 (2, 21, 0) (32 + v2).toNatClampNeg)) (fun V12 => gz_gd (gz_inb (32 + v2) 48 = true) (gz_gd (gz_inb ((16 * (V12 (1, 0, 0) 25)) + v2) 48 = true) (gz_let (gz_up V12 (2, 22, 0) ((16 * (V12 (1, 0, 0) 25)) + v2).toNatClampNeg (V12 (2, 22, 0) (32 + v2).toNatClampNeg)) (fun V16 => m_takesLaw_L2 N v1 n V16 (v2 + 1))))))))))))))
theorem w_m_takesLaw_L2 {X : gz_X} {ad : gz_A0} (hX : gz_ok X cX6_takesLaw RX6 "takesLaw" 3 rm_takesLaw none) (hZ : gz_Z X) {N : Nat} {v1 : Int32} {W1 : gz_V} (k : gW X 3 tw_S tw_R ad W1 0 0 105 [(0, .ref (ad (1, 0, 0))), (1, .int v1)] []) : ∀ (n : Nat) {V : gz_V} {v2 : Int32}, m_takesLaw_L2 N v1 n V v2 = some W1 → gW X 3 tw_S tw_R ad V 0 0 2 [(0, .ref (ad (1, 0, 0))), (1, .int v1), (2, .int v2)] [] := by
  intro n
  induction n with
  | zero => intro V v2 h; rw [m_takesLaw_L2] at h; cases h
  | succ n ih =>
    intro V v2 h
    rw [m_takesLaw_L2] at h
    refine gz_iload_n (q := 2) hX dX6_takesLaw_2 rfl rfl ?_
    refine gz_iload_n (q := 1) hX dX6_takesLaw_3 rfl rfl ?_
    refine gz_icmp_ge (tgt := 105) hX dX6_takesLaw_4 (by decide) (fun c1 => ?_) (fun c1 => ?_)
    · have h := gz_ifp c1 h
      obtain rfl := gz_in1 h
      exact gz_lv [0, 1] rfl k
    · have h := gz_ifn c1 h
      refine gz_aload_n (q := 0) hX dX6_takesLaw_7 rfl rfl ?_
      refine tg_lineWord hX dX6_takesLaw_8 ?_
      refine gz_bipush (v := 16) hX dX6_takesLaw_11 gk_b_16 ?_
      refine gz_aload_n (q := 0) hX dX6_takesLaw_13 rfl rfl ?_
      refine tg_which hX dX6_takesLaw_14 ?_
      refine gz_imul hX dX6_takesLaw_17 ?_
      refine gz_iload_n (q := 2) hX dX6_takesLaw_18 rfl rfl ?_
      refine gz_iadd hX dX6_takesLaw_19 ?_
      refine gz_aload_n (q := 0) hX dX6_takesLaw_20 rfl rfl ?_
      refine tg_lineWord hX dX6_takesLaw_21 ?_
      refine gz_bipush (v := 32) hX dX6_takesLaw_24 gk_b_32 ?_
      refine gz_iload_n (q := 2) hX dX6_takesLaw_26 rfl rfl ?_
      refine gz_iadd hX dX6_takesLaw_27 ?_
      obtain ⟨b2, h⟩ := gz_gd_o h
      refine gz_iald (L := 48) hX tw_S19 (gz_inb_o b2) dX6_takesLaw_28 ?_
      obtain ⟨b3, h⟩ := gz_gd_o h
      obtain ⟨V4, e5, h⟩ := gz_let_o h
      refine gz_iast (L := 48) hX tw_S19 (by decide) (gz_inb_o b3) dX6_takesLaw_29 e5 ?_
      refine gz_aload_n (q := 0) hX dX6_takesLaw_30 rfl rfl ?_
      refine tg_lineFrom hX dX6_takesLaw_31 ?_
      refine gz_bipush (v := 16) hX dX6_takesLaw_34 gk_b_16 ?_
      refine gz_aload_n (q := 0) hX dX6_takesLaw_36 rfl rfl ?_
      refine tg_which hX dX6_takesLaw_37 ?_
      refine gz_imul hX dX6_takesLaw_40 ?_
      refine gz_iload_n (q := 2) hX dX6_takesLaw_41 rfl rfl ?_
      refine gz_iadd hX dX6_takesLaw_42 ?_
      refine gz_aload_n (q := 0) hX dX6_takesLaw_43 rfl rfl ?_
      refine tg_lineFrom hX dX6_takesLaw_44 ?_
      refine gz_bipush (v := 32) hX dX6_takesLaw_47 gk_b_32 ?_
      refine gz_iload_n (q := 2) hX dX6_takesLaw_49 rfl rfl ?_
      refine gz_iadd hX dX6_takesLaw_50 ?_
      obtain ⟨b6, h⟩ := gz_gd_o h
      refine gz_iald (L := 48) hX tw_S20 (gz_inb_o b6) dX6_takesLaw_51 ?_
      obtain ⟨b7, h⟩ := gz_gd_o h
      obtain ⟨V8, e9, h⟩ := gz_let_o h
      refine gz_iast (L := 48) hX tw_S20 (by decide) (gz_inb_o b7) dX6_takesLaw_52 e9 ?_
      refine gz_aload_n (q := 0) hX dX6_takesLaw_53 rfl rfl ?_
      refine tg_lineWhen hX dX6_takesLaw_54 ?_
      refine gz_bipush (v := 16) hX dX6_takesLaw_57 gk_b_16 ?_
      refine gz_aload_n (q := 0) hX dX6_takesLaw_59 rfl rfl ?_
      refine tg_which hX dX6_takesLaw_60 ?_
      refine gz_imul hX dX6_takesLaw_63 ?_
      refine gz_iload_n (q := 2) hX dX6_takesLaw_64 rfl rfl ?_
      refine gz_iadd hX dX6_takesLaw_65 ?_
      refine gz_aload_n (q := 0) hX dX6_takesLaw_66 rfl rfl ?_
      refine tg_lineWhen hX dX6_takesLaw_67 ?_
      refine gz_bipush (v := 32) hX dX6_takesLaw_70 gk_b_32 ?_
      refine gz_iload_n (q := 2) hX dX6_takesLaw_72 rfl rfl ?_
      refine gz_iadd hX dX6_takesLaw_73 ?_
      obtain ⟨b10, h⟩ := gz_gd_o h
      refine gz_iald (L := 48) hX tw_S21 (gz_inb_o b10) dX6_takesLaw_74 ?_
      obtain ⟨b11, h⟩ := gz_gd_o h
      obtain ⟨V12, e13, h⟩ := gz_let_o h
      refine gz_iast (L := 48) hX tw_S21 (by decide) (gz_inb_o b11) dX6_takesLaw_75 e13 ?_
      refine gz_aload_n (q := 0) hX dX6_takesLaw_76 rfl rfl ?_
      refine tg_lineTo hX dX6_takesLaw_77 ?_
      refine gz_bipush (v := 16) hX dX6_takesLaw_80 gk_b_16 ?_
      refine gz_aload_n (q := 0) hX dX6_takesLaw_82 rfl rfl ?_
      refine tg_which hX dX6_takesLaw_83 ?_
      refine gz_imul hX dX6_takesLaw_86 ?_
      refine gz_iload_n (q := 2) hX dX6_takesLaw_87 rfl rfl ?_
      refine gz_iadd hX dX6_takesLaw_88 ?_
      refine gz_aload_n (q := 0) hX dX6_takesLaw_89 rfl rfl ?_
      refine tg_lineTo hX dX6_takesLaw_90 ?_
      refine gz_bipush (v := 32) hX dX6_takesLaw_93 gk_b_32 ?_
      refine gz_iload_n (q := 2) hX dX6_takesLaw_95 rfl rfl ?_
      refine gz_iadd hX dX6_takesLaw_96 ?_
      obtain ⟨b14, h⟩ := gz_gd_o h
      refine gz_iald (L := 48) hX tw_S22 (gz_inb_o b14) dX6_takesLaw_97 ?_
      obtain ⟨b15, h⟩ := gz_gd_o h
      obtain ⟨V16, e17, h⟩ := gz_let_o h
      refine gz_iast (L := 48) hX tw_S22 (by decide) (gz_inb_o b15) dX6_takesLaw_98 e17 ?_
      refine gz_iinc (q := 2) (lv2 := [(2, .int (v2 + 1)), (0, .ref (ad (1, 0, 0))), (1, .int v1)]) hX dX6_takesLaw_99 rfl gk_c_1 (by decide) rfl ?_
      refine gz_goto (tgt := 2) hX dX6_takesLaw_102 (by decide) ?_
      exact gz_lv [1, 2, 0] rfl (ih h)
noncomputable def m_takesLaw_L107 (N : Nat) (v1 : Int32) : Nat → gz_V → Int32 → Option (gz_V)
  | 0, _, _ => none
  | n + 1, V, v2 => (if (V (1, 0, 0) 26) ≤ v2 then some V else gz_gd (gz_inb (800 + v2) 1200 = true) (gz_gd (gz_inb ((400 * (V (1, 0, 0) 25)) + v2) 1200 = true) (gz_let (gz_up V (2, 23, 0) ((400 * (V (1, 0, 0) 25)) + v2).toNatClampNeg (V (2, 23, 0) (800 + v2).toNatClampNeg)) (fun V6 => gz_gd (gz_inb (800 + v2) 1200 = true) (gz_gd (gz_inb ((400 * (V6 (1, 0, 0) 25)) + v2) 1200 = true) (gz_let (gz_up V6 (2, 24, 0) ((400 * (V6 (1, 0, 0) 25)) + v2).toNatClampNeg (V6 (2, 24, 0) (800 + v2).toNatClampNeg)) (fun V10 => m_takesLaw_L107 N v1 n V10 (v2 + 1))))))))
theorem w_m_takesLaw_L107 {X : gz_X} {ad : gz_A0} (hX : gz_ok X cX6_takesLaw RX6 "takesLaw" 3 rm_takesLaw none) (hZ : gz_Z X) {N : Nat} {v1 : Int32} {W1 : gz_V} (k : gW X 3 tw_S tw_R ad W1 0 0 171 [(0, .ref (ad (1, 0, 0))), (1, .int v1)] []) : ∀ (n : Nat) {V : gz_V} {v2 : Int32}, m_takesLaw_L107 N v1 n V v2 = some W1 → gW X 3 tw_S tw_R ad V 0 0 107 [(0, .ref (ad (1, 0, 0))), (1, .int v1), (2, .int v2)] [] := by
  intro n
  induction n with
  | zero => intro V v2 h; rw [m_takesLaw_L107] at h; cases h
  | succ n ih =>
    intro V v2 h
    rw [m_takesLaw_L107] at h
    refine gz_iload_n (q := 2) hX dX6_takesLaw_107 rfl rfl ?_
    refine gz_aload_n (q := 0) hX dX6_takesLaw_108 rfl rfl ?_
    refine tg_codes hX dX6_takesLaw_109 ?_
    refine gz_icmp_ge (tgt := 171) hX dX6_takesLaw_112 (by decide) (fun c3 => ?_) (fun c3 => ?_)
    · have h := gz_ifp c3 h
      obtain rfl := gz_in1 h
      exact gz_lv [0, 1] rfl k
    · have h := gz_ifn c3 h
      refine gz_aload_n (q := 0) hX dX6_takesLaw_115 rfl rfl ?_
      refine tg_op hX dX6_takesLaw_116 ?_
      refine gz_sipush (v := 400) hX dX6_takesLaw_119 gk_s_400 ?_
      refine gz_aload_n (q := 0) hX dX6_takesLaw_122 rfl rfl ?_
      refine tg_which hX dX6_takesLaw_123 ?_
      refine gz_imul hX dX6_takesLaw_126 ?_
      refine gz_iload_n (q := 2) hX dX6_takesLaw_127 rfl rfl ?_
      refine gz_iadd hX dX6_takesLaw_128 ?_
      refine gz_aload_n (q := 0) hX dX6_takesLaw_129 rfl rfl ?_
      refine tg_op hX dX6_takesLaw_130 ?_
      refine gz_sipush (v := 800) hX dX6_takesLaw_133 gk_s_800 ?_
      refine gz_iload_n (q := 2) hX dX6_takesLaw_136 rfl rfl ?_
      refine gz_iadd hX dX6_takesLaw_137 ?_
      obtain ⟨b4, h⟩ := gz_gd_o h
      refine gz_iald (L := 1200) hX tw_S23 (gz_inb_o b4) dX6_takesLaw_138 ?_
      obtain ⟨b5, h⟩ := gz_gd_o h
      obtain ⟨V6, e7, h⟩ := gz_let_o h
      refine gz_iast (L := 1200) hX tw_S23 (by decide) (gz_inb_o b5) dX6_takesLaw_139 e7 ?_
      refine gz_aload_n (q := 0) hX dX6_takesLaw_140 rfl rfl ?_
      refine tg_arg hX dX6_takesLaw_141 ?_
      refine gz_sipush (v := 400) hX dX6_takesLaw_144 gk_s_400 ?_
      refine gz_aload_n (q := 0) hX dX6_takesLaw_147 rfl rfl ?_
      refine tg_which hX dX6_takesLaw_148 ?_
      refine gz_imul hX dX6_takesLaw_151 ?_
      refine gz_iload_n (q := 2) hX dX6_takesLaw_152 rfl rfl ?_
      refine gz_iadd hX dX6_takesLaw_153 ?_
      refine gz_aload_n (q := 0) hX dX6_takesLaw_154 rfl rfl ?_
      refine tg_arg hX dX6_takesLaw_155 ?_
      refine gz_sipush (v := 800) hX dX6_takesLaw_158 gk_s_800 ?_
      refine gz_iload_n (q := 2) hX dX6_takesLaw_161 rfl rfl ?_
      refine gz_iadd hX dX6_takesLaw_162 ?_
      obtain ⟨b8, h⟩ := gz_gd_o h
      refine gz_iald (L := 1200) hX tw_S24 (gz_inb_o b8) dX6_takesLaw_163 ?_
      obtain ⟨b9, h⟩ := gz_gd_o h
      obtain ⟨V10, e11, h⟩ := gz_let_o h
      refine gz_iast (L := 1200) hX tw_S24 (by decide) (gz_inb_o b9) dX6_takesLaw_164 e11 ?_
      refine gz_iinc (q := 2) (lv2 := [(2, .int (v2 + 1)), (0, .ref (ad (1, 0, 0))), (1, .int v1)]) hX dX6_takesLaw_165 rfl gk_c_1 (by decide) rfl ?_
      refine gz_goto (tgt := 107) hX dX6_takesLaw_168 (by decide) ?_
      exact gz_lv [1, 2, 0] rfl (ih h)
noncomputable def m_takesLaw (N : Nat) (V : gz_V) (a1 : Int32) : Option gz_V := gz_bd (m_takesLaw_L2 N a1 N V 0) (fun V1 => gz_bd (m_takesLaw_L107 N a1 N V1 0) (fun V3 => gz_gd (gz_inb (V3 (1, 0, 0) 25) 2 = true) (gz_let (gz_up V3 (2, 18, 0) (V3 (1, 0, 0) 25).toNatClampNeg a1) (fun V6 => some V6))))
theorem c_takesLaw {l : Launch} {D : va_G} {aC : Nat → ClassId} {ad : gz_A0} {N : Nat} {V : gz_V} {a1 : Int32} {W1 : gz_V} (h : m_takesLaw N V a1 = some W1) : gz_Met l yX6_takesLaw cX6_takesLaw 3 none rm_takesLaw D aC ad tw_S V tw_R [.ref (ad (1, 0, 0)), .int a1] (gz_F1 tw_S tw_R ad W1 none) 0 0 := by
  refine gt_ofW (own := RX6) (mn := "takesLaw") (lv := [(0, .ref (ad (1, 0, 0))), (1, .int a1)]) (by decide) rfl rfl (Nat.le_of_ble_eq_true rfl) rfl ?_
  intro X hX hZ hF
  rw [m_takesLaw] at h
  refine gz_iconst (v := 0) hX dX6_takesLaw_0 gk_c_0 ?_
  refine gz_istore_n (lv2 := [(2, .int 0), (0, .ref (ad (1, 0, 0))), (1, .int a1)]) hX dX6_takesLaw_1 rfl (by decide) rfl ?_
  obtain ⟨V1, e2, h⟩ := gz_bd_o h
  refine gz_lv [1, 2, 0] rfl (w_m_takesLaw_L2 hX hZ ?_ N e2)
  refine gz_iconst (v := 0) hX dX6_takesLaw_105 gk_c_0 ?_
  refine gz_istore_n (lv2 := [(2, .int 0), (0, .ref (ad (1, 0, 0))), (1, .int a1)]) hX dX6_takesLaw_106 rfl (by decide) rfl ?_
  obtain ⟨V3, e4, h⟩ := gz_bd_o h
  refine gz_lv [1, 2, 0] rfl (w_m_takesLaw_L107 hX hZ ?_ N e4)
  refine gz_aload_n (q := 0) hX dX6_takesLaw_171 rfl rfl ?_
  refine tg_lineMany hX dX6_takesLaw_172 ?_
  refine gz_aload_n (q := 0) hX dX6_takesLaw_175 rfl rfl ?_
  refine tg_which hX dX6_takesLaw_176 ?_
  refine gz_iload_n (q := 1) hX dX6_takesLaw_179 rfl rfl ?_
  obtain ⟨b5, h⟩ := gz_gd_o h
  obtain ⟨V6, e7, h⟩ := gz_let_o h
  refine gz_iast (L := 2) hX tw_S18 (by decide) (gz_inb_o b5) dX6_takesLaw_180 e7 ?_
  exact gt_vret hX hZ hF (gz_in1 h) dX6_takesLaw_181
theorem lw_takesLaw_ {i : Nat} (hl : Cond.methodLink RX6 i yX6_takesLaw ∈ lw_all) : GoodIn lw_all (wsV RX6 i RX6 yX6_takesLaw (ws_ yX6_takesLaw cX6_takesLaw 3 none)) := lw_V hl q1862 qs90 q153 q1863
theorem nn_takesLaw : yX6_takesLaw.cls = RX6 ∧ yX6_takesLaw.cls ≠ "java/lang/invoke/MethodHandle" ∧ yX6_takesLaw.cls ≠ "java/lang/invoke/VarHandle" ∧ (parseMethodDescriptor yX6_takesLaw.desc).map (fun d => d.parameters.length) = some 1 := by decide +kernel
def rm_takesOther : Room := { frames := 0, cells := 0, slots := 0, locals := 0 }
noncomputable def m_takesOther_L85 (N : Nat) (v2 : Int32) : Nat → gz_V → Int32 → Option (gz_V)
  | 0, _, _ => none
  | n + 1, V, v3 => (if (5 * v2) ≤ v3 then some V else gz_gd (gz_inb (80 + v3) 160 = true) (gz_gd (gz_inb v3 160 = true) (gz_let (gz_up V (2, 37, 0) v3.toNatClampNeg (V (2, 37, 0) (80 + v3).toNatClampNeg)) (fun V6 => m_takesOther_L85 N v2 n V6 (v3 + 1)))))
theorem w_m_takesOther_L85 {X : gz_X} {ad : gz_A0} (hX : gz_ok X cX6_takesOther RX6 "takesOther" 4 rm_takesOther none) (hZ : gz_Z X) {N : Nat} {v2 : Int32} {W1 : gz_V} (k : gW X 4 tw_S tw_R ad W1 0 0 113 [(0, .ref (ad (1, 0, 0))), (2, .int v2)] []) : ∀ (n : Nat) {V : gz_V} {v3 : Int32}, m_takesOther_L85 N v2 n V v3 = some W1 → gW X 4 tw_S tw_R ad V 0 0 85 [(0, .ref (ad (1, 0, 0))), (2, .int v2), (3, .int v3)] [] := by
  intro n
  induction n with
  | zero => intro V v3 h; rw [m_takesOther_L85] at h; cases h
  | succ n ih =>
    intro V v3 h
    rw [m_takesOther_L85] at h
    refine gz_iload_n (q := 2) hX dX6_takesOther_85 rfl rfl ?_
    refine gz_iconst (v := 5) hX dX6_takesOther_86 gk_c_5 ?_
    refine gz_iload_n (q := 1) hX dX6_takesOther_87 rfl rfl ?_
    refine gz_imul hX dX6_takesOther_88 ?_
    refine gz_icmp_ge (tgt := 113) hX dX6_takesOther_89 (by decide) (fun c3 => ?_) (fun c3 => ?_)
    · have h := gz_ifp c3 h
      obtain rfl := gz_in1 h
      exact gz_lv [0, 1] rfl k
    · have h := gz_ifn c3 h
      refine gz_aload_n (q := 0) hX dX6_takesOther_92 rfl rfl ?_
      refine tg_deeds hX dX6_takesOther_93 ?_
      refine gz_iload_n (q := 2) hX dX6_takesOther_96 rfl rfl ?_
      refine gz_aload_n (q := 0) hX dX6_takesOther_97 rfl rfl ?_
      refine tg_deeds hX dX6_takesOther_98 ?_
      refine gz_bipush (v := 80) hX dX6_takesOther_101 gk_b_80 ?_
      refine gz_iload_n (q := 2) hX dX6_takesOther_103 rfl rfl ?_
      refine gz_iadd hX dX6_takesOther_104 ?_
      obtain ⟨b4, h⟩ := gz_gd_o h
      refine gz_iald (L := 160) hX tw_S37 (gz_inb_o b4) dX6_takesOther_105 ?_
      obtain ⟨b5, h⟩ := gz_gd_o h
      obtain ⟨V6, e7, h⟩ := gz_let_o h
      refine gz_iast (L := 160) hX tw_S37 (by decide) (gz_inb_o b5) dX6_takesOther_106 e7 ?_
      refine gz_iinc (q := 2) (lv2 := [(3, .int (v3 + 1)), (0, .ref (ad (1, 0, 0))), (2, .int v2)]) hX dX6_takesOther_107 rfl gk_c_1 (by decide) rfl ?_
      refine gz_goto (tgt := 85) hX dX6_takesOther_110 (by decide) ?_
      exact gz_lv [1, 2, 0] rfl (ih h)
noncomputable def m_takesOther_L47 (N : Nat) (v2 : Int32) : Nat → gz_V → Int32 → Option (gz_V)
  | 0, _, _ => none
  | n + 1, V, v3 => (if (5 * v2) ≤ v3 then some V else gz_gd (gz_inb (80 + v3) 160 = true) (gz_gd (gz_inb v3 160 = true) (gz_let (gz_up V (2, 35, 0) v3.toNatClampNeg (V (2, 35, 0) (80 + v3).toNatClampNeg)) (fun V10 => m_takesOther_L47 N v2 n V10 (v3 + 1)))))
theorem w_m_takesOther_L47 {X : gz_X} {ad : gz_A0} (hX : gz_ok X cX6_takesOther RX6 "takesOther" 4 rm_takesOther none) (hZ : gz_Z X) {N : Nat} {v2 : Int32} {W1 : gz_V} (k : gW X 4 tw_S tw_R ad W1 0 0 75 [(0, .ref (ad (1, 0, 0))), (2, .int v2)] []) : ∀ (n : Nat) {V : gz_V} {v3 : Int32}, m_takesOther_L47 N v2 n V v3 = some W1 → gW X 4 tw_S tw_R ad V 0 0 47 [(0, .ref (ad (1, 0, 0))), (2, .int v2), (3, .int v3)] [] := by
  intro n
  induction n with
  | zero => intro V v3 h; rw [m_takesOther_L47] at h; cases h
  | succ n ih =>
    intro V v3 h
    rw [m_takesOther_L47] at h
    refine gz_iload_n (q := 2) hX dX6_takesOther_47 rfl rfl ?_
    refine gz_iconst (v := 5) hX dX6_takesOther_48 gk_c_5 ?_
    refine gz_iload_n (q := 1) hX dX6_takesOther_49 rfl rfl ?_
    refine gz_imul hX dX6_takesOther_50 ?_
    refine gz_icmp_ge (tgt := 75) hX dX6_takesOther_51 (by decide) (fun c7 => ?_) (fun c7 => ?_)
    · have h := gz_ifp c7 h
      obtain rfl := gz_in1 h
      exact gz_lv [0, 1] rfl k
    · have h := gz_ifn c7 h
      refine gz_aload_n (q := 0) hX dX6_takesOther_54 rfl rfl ?_
      refine tg_offers hX dX6_takesOther_55 ?_
      refine gz_iload_n (q := 2) hX dX6_takesOther_58 rfl rfl ?_
      refine gz_aload_n (q := 0) hX dX6_takesOther_59 rfl rfl ?_
      refine tg_offers hX dX6_takesOther_60 ?_
      refine gz_bipush (v := 80) hX dX6_takesOther_63 gk_b_80 ?_
      refine gz_iload_n (q := 2) hX dX6_takesOther_65 rfl rfl ?_
      refine gz_iadd hX dX6_takesOther_66 ?_
      obtain ⟨b8, h⟩ := gz_gd_o h
      refine gz_iald (L := 160) hX tw_S35 (gz_inb_o b8) dX6_takesOther_67 ?_
      obtain ⟨b9, h⟩ := gz_gd_o h
      obtain ⟨V10, e11, h⟩ := gz_let_o h
      refine gz_iast (L := 160) hX tw_S35 (by decide) (gz_inb_o b9) dX6_takesOther_68 e11 ?_
      refine gz_iinc (q := 2) (lv2 := [(3, .int (v3 + 1)), (0, .ref (ad (1, 0, 0))), (2, .int v2)]) hX dX6_takesOther_69 rfl gk_c_1 (by decide) rfl ?_
      refine gz_goto (tgt := 47) hX dX6_takesOther_72 (by decide) ?_
      exact gz_lv [1, 2, 0] rfl (ih h)
noncomputable def m_takesOther_L7 (N : Nat) (v2 : Int32) : Nat → gz_V → Int32 → Option (gz_V)
  | 0, _, _ => none
  | n + 1, V, v3 => (if 12 ≤ v3 then some V else gz_gd (gz_inb (12 + v3) 24 = true) (gz_gd (gz_inb v3 24 = true) (gz_let (gz_up V (2, 39, 0) v3.toNatClampNeg (V (2, 39, 0) (12 + v3).toNatClampNeg)) (fun V19 => m_takesOther_L7 N v2 n V19 (v3 + 1)))))
theorem w_m_takesOther_L7 {X : gz_X} {ad : gz_A0} (hX : gz_ok X cX6_takesOther RX6 "takesOther" 4 rm_takesOther none) (hZ : gz_Z X) {N : Nat} {v2 : Int32} {W1 : gz_V} (k : gW X 4 tw_S tw_R ad W1 0 0 34 [(0, .ref (ad (1, 0, 0))), (2, .int v2)] []) : ∀ (n : Nat) {V : gz_V} {v3 : Int32}, m_takesOther_L7 N v2 n V v3 = some W1 → gW X 4 tw_S tw_R ad V 0 0 7 [(0, .ref (ad (1, 0, 0))), (2, .int v2), (3, .int v3)] [] := by
  intro n
  induction n with
  | zero => intro V v3 h; rw [m_takesOther_L7] at h; cases h
  | succ n ih =>
    intro V v3 h
    rw [m_takesOther_L7] at h
    refine gz_iload_n (q := 2) hX dX6_takesOther_7 rfl rfl ?_
    refine gz_bipush (v := 12) hX dX6_takesOther_8 gk_b_12 ?_
    refine gz_icmp_ge (tgt := 34) hX dX6_takesOther_10 (by decide) (fun c16 => ?_) (fun c16 => ?_)
    · have h := gz_ifp c16 h
      obtain rfl := gz_in1 h
      exact gz_lv [0, 1] rfl k
    · have h := gz_ifn c16 h
      refine gz_aload_n (q := 0) hX dX6_takesOther_13 rfl rfl ?_
      refine tg_kinOf hX dX6_takesOther_14 ?_
      refine gz_iload_n (q := 2) hX dX6_takesOther_17 rfl rfl ?_
      refine gz_aload_n (q := 0) hX dX6_takesOther_18 rfl rfl ?_
      refine tg_kinOf hX dX6_takesOther_19 ?_
      refine gz_bipush (v := 12) hX dX6_takesOther_22 gk_b_12 ?_
      refine gz_iload_n (q := 2) hX dX6_takesOther_24 rfl rfl ?_
      refine gz_iadd hX dX6_takesOther_25 ?_
      obtain ⟨b17, h⟩ := gz_gd_o h
      refine gz_iald (L := 24) hX tw_S39 (gz_inb_o b17) dX6_takesOther_26 ?_
      obtain ⟨b18, h⟩ := gz_gd_o h
      obtain ⟨V19, e20, h⟩ := gz_let_o h
      refine gz_iast (L := 24) hX tw_S39 (by decide) (gz_inb_o b18) dX6_takesOther_27 e20 ?_
      refine gz_iinc (q := 2) (lv2 := [(3, .int (v3 + 1)), (0, .ref (ad (1, 0, 0))), (2, .int v2)]) hX dX6_takesOther_28 rfl gk_c_1 (by decide) rfl ?_
      refine gz_goto (tgt := 7) hX dX6_takesOther_31 (by decide) ?_
      exact gz_lv [1, 2, 0] rfl (ih h)
noncomputable def m_takesOther (N : Nat) (V : gz_V) (a1 : Int32) (a2 : Int32) : Option gz_V := (if a1 = 3 then gz_bd (m_takesOther_L7 N a2 N V 0) (fun V16 => gz_let (gz_up V16 (1, 0, 0) 38 a2) (fun V18 => some V18)) else gz_bd (if a1 = 1 then gz_bd (m_takesOther_L47 N a2 N V 0) (fun V10 => gz_let (gz_up V10 (1, 0, 0) 34 a2) (fun V12 => some V12)) else gz_bd (m_takesOther_L85 N a2 N V 0) (fun V6 => gz_let (gz_up V6 (1, 0, 0) 36 a2) (fun V8 => some V8))) (fun V2 => gz_let (gz_up V2 (1, 0, 0) 3 0) (fun V14 => some V14)))
theorem c_takesOther {l : Launch} {D : va_G} {aC : Nat → ClassId} {ad : gz_A0} {N : Nat} {V : gz_V} {a1 : Int32} {a2 : Int32} {W1 : gz_V} (h : m_takesOther N V a1 a2 = some W1) : gz_Met l yX6_takesOther cX6_takesOther 4 none rm_takesOther D aC ad tw_S V tw_R [.ref (ad (1, 0, 0)), .int a1, .int a2] (gz_F1 tw_S tw_R ad W1 none) 0 0 := by
  refine gt_ofW (own := RX6) (mn := "takesOther") (lv := [(0, .ref (ad (1, 0, 0))), (1, .int a1), (2, .int a2)]) (by decide) rfl rfl (Nat.le_of_ble_eq_true rfl) rfl ?_
  intro X hX hZ hF
  rw [m_takesOther] at h
  refine gz_iload_n (q := 1) hX dX6_takesOther_0 rfl rfl ?_
  refine gz_iconst (v := 3) hX dX6_takesOther_1 gk_c_3 ?_
  refine gz_icmp_ne (tgt := 40) hX dX6_takesOther_2 (by decide) (fun c1 => ?_) (fun c1 => ?_)
  · have h := gz_ifn c1 h
    refine gz_iload_n (q := 1) hX dX6_takesOther_40 rfl rfl ?_
    refine gz_iconst (v := 1) hX dX6_takesOther_41 gk_c_1 ?_
    obtain ⟨V2, g3, h⟩ := gz_bd_o h
    have J4 : gW X 4 tw_S tw_R ad V2 0 0 118 [(0, .ref (ad (1, 0, 0)))] [] := by
      refine gz_aload_n (q := 0) hX dX6_takesOther_118 rfl rfl ?_
      refine gz_iconst (v := 0) hX dX6_takesOther_119 gk_c_0 ?_
      obtain ⟨V14, e15, h⟩ := gz_let_o h
      refine tp_undoable hX dX6_takesOther_120 e15 ?_
      exact gt_vret hX hZ hF (gz_in1 h) dX6_takesOther_123
    refine gz_icmp_ne (tgt := 83) hX dX6_takesOther_42 (by decide) (fun c5 => ?_) (fun c5 => ?_)
    · have g3 := gz_ifn c5 g3
      refine gz_iconst (v := 0) hX dX6_takesOther_83 gk_c_0 ?_
      refine gz_istore_n (lv2 := [(3, .int 0), (0, .ref (ad (1, 0, 0))), (1, .int a1), (2, .int a2)]) hX dX6_takesOther_84 rfl (by decide) rfl ?_
      obtain ⟨V6, e7, g3⟩ := gz_bd_o g3
      refine gz_lv [1, 3, 0] rfl (w_m_takesOther_L85 hX hZ ?_ N e7)
      refine gz_aload_n (q := 0) hX dX6_takesOther_113 rfl rfl ?_
      refine gz_iload_n (q := 1) hX dX6_takesOther_114 rfl rfl ?_
      obtain ⟨V8, e9, g3⟩ := gz_let_o g3
      refine tp_deedMany hX dX6_takesOther_115 e9 ?_
      obtain rfl := gz_in1 g3
      exact gz_lv [0] rfl J4
    · have g3 := gz_ifp c5 g3
      refine gz_iconst (v := 0) hX dX6_takesOther_45 gk_c_0 ?_
      refine gz_istore_n (lv2 := [(3, .int 0), (0, .ref (ad (1, 0, 0))), (1, .int a1), (2, .int a2)]) hX dX6_takesOther_46 rfl (by decide) rfl ?_
      obtain ⟨V10, e11, g3⟩ := gz_bd_o g3
      refine gz_lv [1, 3, 0] rfl (w_m_takesOther_L47 hX hZ ?_ N e11)
      refine gz_aload_n (q := 0) hX dX6_takesOther_75 rfl rfl ?_
      refine gz_iload_n (q := 1) hX dX6_takesOther_76 rfl rfl ?_
      obtain ⟨V12, e13, g3⟩ := gz_let_o g3
      refine tp_offerMany hX dX6_takesOther_77 e13 ?_
      refine gz_goto (tgt := 118) hX dX6_takesOther_80 (by decide) ?_
      obtain rfl := gz_in1 g3
      exact gz_lv [0] rfl J4
  · have h := gz_ifp c1 h
    refine gz_iconst (v := 0) hX dX6_takesOther_5 gk_c_0 ?_
    refine gz_istore_n (lv2 := [(3, .int 0), (0, .ref (ad (1, 0, 0))), (1, .int a1), (2, .int a2)]) hX dX6_takesOther_6 rfl (by decide) rfl ?_
    obtain ⟨V16, e17, h⟩ := gz_bd_o h
    refine gz_lv [1, 3, 0] rfl (w_m_takesOther_L7 hX hZ ?_ N e17)
    refine gz_aload_n (q := 0) hX dX6_takesOther_34 rfl rfl ?_
    refine gz_iload_n (q := 1) hX dX6_takesOther_35 rfl rfl ?_
    obtain ⟨V18, e19, h⟩ := gz_let_o h
    refine tp_kinMany hX dX6_takesOther_36 e19 ?_
    exact gt_vret hX hZ hF (gz_in1 h) dX6_takesOther_39
theorem lw_takesOther_ {i : Nat} (hl : Cond.methodLink RX6 i yX6_takesOther ∈ lw_all) : GoodIn lw_all (wsV RX6 i RX6 yX6_takesOther (ws_ yX6_takesOther cX6_takesOther 4 none)) := lw_V hl q1866 qs91 q153 q1867
theorem nn_takesOther : yX6_takesOther.cls = RX6 ∧ yX6_takesOther.cls ≠ "java/lang/invoke/MethodHandle" ∧ yX6_takesOther.cls ≠ "java/lang/invoke/VarHandle" ∧ (parseMethodDescriptor yX6_takesOther.desc).map (fun d => d.parameters.length) = some 2 := by decide +kernel
def rm_text : Room := { frames := 10, cells := 0, slots := 0, locals := 215 }
noncomputable def m_text (N : Nat) (V : gz_V) (a1 : Int32) : Option (gz_V × Int32) := gz_let (gz_up V (1, 0, 0) 0 0) (fun V1 => gz_let (gz_up V1 (1, 0, 0) 32 0) (fun V3 => gz_let (gz_up V3 (1, 0, 0) 33 (-1)) (fun V5 => gz_let (gz_up V5 (1, 0, 0) 13 0) (fun V7 => gz_let (gz_up V7 (1, 0, 0) 26 0) (fun V9 => gz_let (gz_up V9 (1, 0, 0) 27 0) (fun V11 => gz_b2 (if (m_isIn a1 0 3) = 0 then some (V11, ((-1) : Int32)) else gz_b2 (m_readsText N V11 a1) (fun V20 r18 => (if r18 = (-1) then gz_let (gz_up V20 (1, 0, 0) 32 (V20 (1, 0, 0) 30)) (fun V22 => gz_let (gz_up V22 (1, 0, 0) 33 (V22 (1, 0, 0) 31)) (fun V24 => some (V24, r18))) else some (V20, r18)))) (fun V13 y14 => gz_let (gz_up V13 (1, 0, 0) 12 0) (fun V26 => (if y14 = (-1) then some (V26, (-1)) else gz_bd (if a1 = 0 then gz_bd (m_takesLaw N V26 y14) (fun V36 => some V36) else gz_bd (m_takesOther N V26 a1 y14) (fun V34 => some V34)) (fun V29 => some (V29, y14)))))))))))
theorem c_text {l : Launch} {D : va_G} {aC : Nat → ClassId} {ad : gz_A0} {N : Nat} {V : gz_V} {a1 : Int32} {W1 : gz_V} {r : Int32} (h : m_text N V a1 = some (W1, r)) : gz_Met l yX6_text cX6_text 3 (some .int) rm_text D aC ad tw_S V tw_R [.ref (ad (1, 0, 0)), .int a1] (gz_F1 tw_S tw_R ad W1 (some (.int r))) 0 0 := by
  refine gt_ofW (own := RX6) (mn := "text") (lv := [(0, .ref (ad (1, 0, 0))), (1, .int a1)]) (by decide) rfl rfl (Nat.le_of_ble_eq_true rfl) rfl ?_
  intro X hX hZ hF
  rw [m_text] at h
  refine gz_aload_n (q := 0) hX dX6_text_0 rfl rfl ?_
  refine gz_iconst (v := 0) hX dX6_text_1 gk_c_0 ?_
  obtain ⟨V1, e2, h⟩ := gz_let_o h
  refine tp_told hX dX6_text_2 e2 ?_
  refine gz_aload_n (q := 0) hX dX6_text_5 rfl rfl ?_
  refine gz_iconst (v := 0) hX dX6_text_6 gk_c_0 ?_
  obtain ⟨V3, e4, h⟩ := gz_let_o h
  refine tp_faultKind hX dX6_text_7 e4 ?_
  refine gz_aload_n (q := 0) hX dX6_text_10 rfl rfl ?_
  refine gz_iconst (v := (-1)) hX dX6_text_11 gk_c_m1 ?_
  obtain ⟨V5, e6, h⟩ := gz_let_o h
  refine tp_faultPlace hX dX6_text_12 e6 ?_
  refine gz_aload_n (q := 0) hX dX6_text_15 rfl rfl ?_
  refine gz_iconst (v := 0) hX dX6_text_16 gk_c_0 ?_
  obtain ⟨V7, e8, h⟩ := gz_let_o h
  refine tp_spot hX dX6_text_17 e8 ?_
  refine gz_aload_n (q := 0) hX dX6_text_20 rfl rfl ?_
  refine gz_iconst (v := 0) hX dX6_text_21 gk_c_0 ?_
  obtain ⟨V9, e10, h⟩ := gz_let_o h
  refine tp_codes hX dX6_text_22 e10 ?_
  refine gz_aload_n (q := 0) hX dX6_text_25 rfl rfl ?_
  refine gz_iconst (v := 0) hX dX6_text_26 gk_c_0 ?_
  obtain ⟨V11, e12, h⟩ := gz_let_o h
  refine tp_open hX dX6_text_27 e12 ?_
  refine gz_iconst (v := (-1)) hX dX6_text_30 gk_c_m1 ?_
  refine gz_istore_n (lv2 := [(2, .int (-1)), (0, .ref (ad (1, 0, 0))), (1, .int a1)]) hX dX6_text_31 rfl (by decide) rfl ?_
  refine gz_aload_n (q := 1) hX dX6_text_32 rfl rfl ?_
  refine gz_iload_n (q := 2) hX dX6_text_33 rfl rfl ?_
  refine gz_iconst (v := 0) hX dX6_text_34 gk_c_0 ?_
  refine gz_iconst (v := 3) hX dX6_text_35 gk_c_3 ?_
  refine tc_V (As := [.int a1, .int 0, .int 3]) hX (c_isIn rfl) (lw_isIn_ q1692) rfl rfl nn_isIn ⟨Nat.le_of_ble_eq_true rfl, Nat.le_of_ble_eq_true rfl⟩ rfl rfl (Nat.le_of_ble_eq_true rfl) dX6_text_36 rfl ?_
  obtain ⟨V13, y14, g15, h⟩ := gz_b2_o h
  have J16 : gW X 3 tw_S tw_R ad V13 0 0 69 [(0, .ref (ad (1, 0, 0))), (1, .int a1), (2, .int y14)] [] := by
    refine gz_aload_n (q := 0) hX dX6_text_69 rfl rfl ?_
    refine gz_iconst (v := 0) hX dX6_text_70 gk_c_0 ?_
    obtain ⟨V26, e27, h⟩ := gz_let_o h
    refine tp_taped hX dX6_text_71 e27 ?_
    refine gz_iload_n (q := 2) hX dX6_text_74 rfl rfl ?_
    refine gz_iconst (v := (-1)) hX dX6_text_75 gk_c_m1 ?_
    refine gz_icmp_ne (tgt := 81) hX dX6_text_76 (by decide) (fun c28 => ?_) (fun c28 => ?_)
    · have h := gz_ifn c28 h
      refine gz_iload_n (q := 1) hX dX6_text_81 rfl rfl ?_
      obtain ⟨V29, g30, h⟩ := gz_bd_o h
      have J31 : gW X 3 tw_S tw_R ad V29 0 0 99 [(2, .int y14)] [] := by
        refine gz_iload_n (q := 0) hX dX6_text_99 rfl rfl ?_
        obtain ⟨e1, e2⟩ := gz_in2 h
        exact gt_iret hX hZ hF e1 e2 dX6_text_100
      refine gz_if_ne (tgt := 93) hX dX6_text_82 (by decide) (fun c32 => ?_) (fun c32 => ?_)
      · have g30 := gz_ifn c32 g30
        refine gz_aload_n (q := 0) hX dX6_text_93 rfl rfl ?_
        refine gz_iload_n (q := 1) hX dX6_text_94 rfl rfl ?_
        refine gz_iload_n (q := 2) hX dX6_text_95 rfl rfl ?_
        obtain ⟨V34, e33, g30⟩ := gz_bd_o g30
        refine tc_V (As := [.int a1, .int y14]) hX (c_takesOther e33) (lw_takesOther_ q1864) rfl rfl nn_takesOther ⟨Nat.le_of_ble_eq_true rfl, Nat.le_of_ble_eq_true rfl⟩ rfl rfl (Nat.le_of_ble_eq_true rfl) dX6_text_96 rfl ?_
        obtain rfl := gz_in1 g30
        exact gz_lv [2] rfl J31
      · have g30 := gz_ifp c32 g30
        refine gz_aload_n (q := 0) hX dX6_text_85 rfl rfl ?_
        refine gz_iload_n (q := 2) hX dX6_text_86 rfl rfl ?_
        obtain ⟨V36, e35, g30⟩ := gz_bd_o g30
        refine tc_V (As := [.int y14]) hX (c_takesLaw e35) (lw_takesLaw_ q1860) rfl rfl nn_takesLaw ⟨Nat.le_of_ble_eq_true rfl, Nat.le_of_ble_eq_true rfl⟩ rfl rfl (Nat.le_of_ble_eq_true rfl) dX6_text_87 rfl ?_
        refine gz_goto (tgt := 99) hX dX6_text_90 (by decide) ?_
        obtain rfl := gz_in1 g30
        exact gz_lv [2] rfl J31
    · have h := gz_ifp c28 h
      refine gz_iconst (v := (-1)) hX dX6_text_79 gk_c_m1 ?_
      obtain ⟨e1, e2⟩ := gz_in2 h
      exact gt_iret hX hZ hF e1 e2 dX6_text_80
  refine gz_if_eq (tgt := 69) hX dX6_text_39 (by decide) (fun c17 => ?_) (fun c17 => ?_)
  · have g15 := gz_ifp c17 g15
    obtain ⟨rfl, rfl⟩ := gz_in2 g15
    exact gz_lv [1, 2, 0] rfl J16
  · have g15 := gz_ifn c17 g15
    refine gz_aload_n (q := 1) hX dX6_text_42 rfl rfl ?_
    refine gz_iload_n (q := 2) hX dX6_text_43 rfl rfl ?_
    obtain ⟨V20, r18, e19, g15⟩ := gz_b2_o g15
    refine tc_V (As := [.int a1]) hX (c_readsText e19) (lw_readsText_ q1740) rfl rfl nn_readsText ⟨Nat.le_of_ble_eq_true rfl, Nat.le_of_ble_eq_true rfl⟩ rfl rfl (Nat.le_of_ble_eq_true rfl) dX6_text_44 rfl ?_
    refine gz_istore_n (lv2 := [(2, .int r18), (0, .ref (ad (1, 0, 0))), (1, .int a1)]) hX dX6_text_47 rfl (by decide) rfl ?_
    refine gz_iload_n (q := 0) hX dX6_text_48 rfl rfl ?_
    refine gz_iconst (v := (-1)) hX dX6_text_49 gk_c_m1 ?_
    refine gz_icmp_ne (tgt := 69) hX dX6_text_50 (by decide) (fun c21 => ?_) (fun c21 => ?_)
    · have g15 := gz_ifn c21 g15
      obtain ⟨rfl, rfl⟩ := gz_in2 g15
      exact gz_lv [1, 2, 0] rfl J16
    · have g15 := gz_ifp c21 g15
      refine gz_aload_n (q := 1) hX dX6_text_53 rfl rfl ?_
      refine gz_aload_n (q := 1) hX dX6_text_54 rfl rfl ?_
      refine tg_readFault hX dX6_text_55 ?_
      obtain ⟨V22, e23, g15⟩ := gz_let_o g15
      refine tp_faultKind hX dX6_text_58 e23 ?_
      refine gz_aload_n (q := 1) hX dX6_text_61 rfl rfl ?_
      refine gz_aload_n (q := 1) hX dX6_text_62 rfl rfl ?_
      refine tg_readPlace hX dX6_text_63 ?_
      obtain ⟨V24, e25, g15⟩ := gz_let_o g15
      refine tp_faultPlace hX dX6_text_66 e25 ?_
      obtain ⟨rfl, rfl⟩ := gz_in2 g15
      exact gz_lv [1, 2, 0] rfl J16
theorem lw_text_ {i : Nat} (hl : Cond.methodLink RX6 i yX6_text ∈ lw_all) : GoodIn lw_all (wsV RX6 i RX6 yX6_text (ws_ yX6_text cX6_text 3 (some .int))) := lw_V hl q1737 q1738 q153 q1739
theorem nn_text : yX6_text.cls = RX6 ∧ yX6_text.cls ≠ "java/lang/invoke/MethodHandle" ∧ yX6_text.cls ≠ "java/lang/invoke/VarHandle" ∧ (parseMethodDescriptor yX6_text.desc).map (fun d => d.parameters.length) = some 1 := by decide +kernel
