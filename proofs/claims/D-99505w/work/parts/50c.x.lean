/-! CLASPEDFAIR, walked (static part). Printed by wip/D-99505w/gen/mkx.py -/
set_option maxRecDepth 100000
def rm_x0_number : Room := { frames := 1, cells := 0, slots := 0, locals := 22 }
noncomputable def x0_number (V : gz_V) (a1 : Int32) : Option (gz_V × Int32) := (if a1 = (-1) then gz_b2 (x3_ends V 0 1) (fun V6 r7 => some (V6, r7)) else (if (x0_isIn a1 0 8) = 0 then some (V, (-1)) else gz_b2 (x3_tells V 0 1 a1 0) (fun V3 r4 => some (V3, r4))))
theorem c_x0_number {l : Launch} {D : va_G} {aC : Nat → ClassId} {ad : gz_A0} {Ds : gz_S} {Df : gz_R} {V : gz_V} {a1 : Int32} {W1 : gz_V} {r : Int32} (h : x0_number V a1 = some (W1, r)) : gz_Met l yX0_number cX0_number 2 (some .int) rm_x0_number D aC ad (xw_s Ds) V (xw_c Df) [.ref (ad (10, 0, 0)), .int a1] (gz_F1 (xw_s Ds) (xw_c Df) ad W1 (some (.int r))) 0 0 := by
  refine gu_ofW (own := RX0) (mn := "number") (lv := [(0, .ref (ad (10, 0, 0))), (1, .int a1)]) (by decide) rfl rfl (Nat.le_of_ble_eq_true rfl) rfl ?_
  intro X hX hZ hF
  rw [x0_number] at h
  refine gz_iload_n (q := 1) hX dX0_number_0 rfl rfl ?_
  refine gz_iconst (v := (-1)) hX dX0_number_1 gl_c_m1 ?_
  refine gz_icmp_ne (tgt := 18) hX dX0_number_2 (by decide) (fun c1 => ?_) (fun c1 => ?_)
  · have h := gz_ifn c1 h
    refine gz_iload_n (q := 1) hX dX0_number_18 rfl rfl ?_
    refine gz_iconst (v := 0) hX dX0_number_19 gl_c_0 ?_
    refine gz_bipush (v := 8) hX dX0_number_20 gl_b_8 ?_
    refine gu_callS (As := [.int a1, .int 0, .int 8]) hX (c_x0_isIn rfl) (lw_x0_isIn_ q502) rfl rfl nn_x0_isIn ⟨Nat.le_of_ble_eq_true rfl, Nat.le_of_ble_eq_true rfl⟩ ⟨Nat.zero_le _, Nat.zero_le _⟩ rfl rfl (Nat.le_of_ble_eq_true rfl) dX0_number_22 rfl ?_
    refine gz_if_eq (tgt := 43) hX dX0_number_25 (by decide) (fun c2 => ?_) (fun c2 => ?_)
    · have h := gz_ifp c2 h
      refine gz_iconst (v := (-1)) hX dX0_number_43 gl_c_m1 ?_
      obtain ⟨e_V, e_r⟩ := gz_in2 h
      exact gu_iret hX hZ hF e_V rfl e_r dX0_number_44
    · have h := gz_ifn c2 h
      refine gz_aload_n (q := 0) hX dX0_number_28 rfl rfl ?_
      refine xg_X0_20 (n2 := (20, 0, 0)) hX xs_main rfl dX0_number_29 ?_
      refine xg_X0_289 (n2 := (27, 0, 1)) hX (xs_M (by decide)) rfl dX0_number_32 ?_
      refine gz_iload_n (q := 1) hX dX0_number_35 rfl rfl ?_
      refine gz_iconst (v := 0) hX dX0_number_36 gl_c_0 ?_
      obtain ⟨V3, r4, e5, h⟩ := gz_b2_o h
      refine gu_callV (ci := 3) (n := (27, 0, 1)) (As := [.int a1, .int 0]) hX (c_x3_tells (by decide) (by decide) e5) (lw_x3_tells_ q1306) rfl rfl nn_x3_tells ⟨Nat.le_of_ble_eq_true rfl, Nat.le_of_ble_eq_true rfl⟩ ⟨Nat.zero_le _, Nat.zero_le _⟩ (by decide) rfl (xs_RO (by decide) (by decide)) rfl rfl (Nat.le_of_ble_eq_true rfl) dX0_number_37 rfl ?_
      refine gz_goto (tgt := 44) hX dX0_number_40 (by decide) ?_
      obtain ⟨e_V, e_r⟩ := gz_in2 h
      exact gu_iret hX hZ hF e_V rfl e_r dX0_number_44
  · have h := gz_ifp c1 h
    refine gz_aload_n (q := 0) hX dX0_number_5 rfl rfl ?_
    refine xg_X0_20 (n2 := (20, 0, 0)) hX xs_main rfl dX0_number_6 ?_
    refine xg_X0_289 (n2 := (27, 0, 1)) hX (xs_M (by decide)) rfl dX0_number_9 ?_
    obtain ⟨V6, r7, e8, h⟩ := gz_b2_o h
    refine gu_callV (ci := 3) (n := (27, 0, 1)) (As := []) hX (c_x3_ends (by decide) (by decide) e8) (lw_x3_ends_ q1302) rfl rfl nn_x3_ends ⟨Nat.le_of_ble_eq_true rfl, Nat.le_of_ble_eq_true rfl⟩ ⟨Nat.zero_le _, Nat.zero_le _⟩ (by decide) rfl (xs_RO (by decide) (by decide)) rfl rfl (Nat.le_of_ble_eq_true rfl) dX0_number_12 rfl ?_
    refine gz_goto (tgt := 44) hX dX0_number_15 (by decide) ?_
    obtain ⟨e_V, e_r⟩ := gz_in2 h
    exact gu_iret hX hZ hF e_V rfl e_r dX0_number_44
theorem lw_x0_number_ {o : String} {i : Nat} (hl : Cond.methodLink o i yX0_number ∈ lw_all) : GoodIn lw_all (wsV o i RX0 yX0_number (ws_ yX0_number cX0_number 2 (some .int))) := lw_V hl q1319 q1320 q144 q1321
theorem nn_x0_number : yX0_number.cls = RX0 ∧ yX0_number.cls ≠ "java/lang/invoke/MethodHandle" ∧ yX0_number.cls ≠ "java/lang/invoke/VarHandle" ∧ (parseMethodDescriptor yX0_number.desc).map (fun d => d.parameters.length) = some 1 := by decide +kernel
def rm_x0_oddKin : Room := { frames := 1, cells := 0, slots := 0, locals := 20 }
noncomputable def x0_oddKin_L4 (N : Nat) (Ds : gz_S) (Df : gz_R) (V : gz_V) : Nat → Int32 → Int32 → Option (Int32)
  | 0, _, _ => none
  | n + 1, v1, v2 => (if (V (20, 0, 0) 13) ≤ v2 then some v1 else gz_bd (Df (20, 0, 0) 12) (fun n2 => gz_gd (90 ≤ n2.1 ∧ Ds n2 = some (100, 12)) (gz_gd (gz_inb v2 12 = true) (gz_let (if ((j13_bitCount (V n2 v2.toNatClampNeg)) - (j13_bitCount (V n2 v2.toNatClampNeg)) / 2 * 2) = 1 then ((1 : Int32) <<< (v2 &&& 31)) else (0 : Int32)) (fun y6 => gz_let ((v1 ||| y6)) (fun x10 => x0_oddKin_L4 N Ds Df V n x10 (v2 + 1)))))))
theorem w_x0_oddKin_L4 {X : gz_X} {ad : gz_A0} {N : Nat} {Ds : gz_S} {Df : gz_R} {V : gz_V} {o1 : Int32} (hX : gz_ok X cX0_oddKin RX0 "oddKin" 3 rm_x0_oddKin (some .int)) (hZ : gz_Z X) (k : gW X 3 (xw_s Ds) (xw_c Df) ad V 0 0 49 [(1, .int o1)] []) : ∀ (n : Nat) {v1 : Int32} {v2 : Int32}, x0_oddKin_L4 N Ds Df V n v1 v2 = some o1 → gW X 3 (xw_s Ds) (xw_c Df) ad V 0 0 4 [(0, .ref (ad (10, 0, 0))), (1, .int v1), (2, .int v2)] [] := by
  intro n
  induction n with
  | zero => intro v1 v2 h; rw [x0_oddKin_L4] at h; cases h
  | succ n ih =>
    intro v1 v2 h
    rw [x0_oddKin_L4] at h
    refine gz_iload_n (q := 2) hX dX0_oddKin_4 rfl rfl ?_
    refine gz_aload_n (q := 0) hX dX0_oddKin_5 rfl rfl ?_
    refine xg_X0_20 (n2 := (20, 0, 0)) hX xs_main rfl dX0_oddKin_6 ?_
    refine xg_X0_137 hX (xs_M (by decide)) dX0_oddKin_9 ?_
    refine gz_icmp_ge (tgt := 49) hX dX0_oddKin_12 (by decide) (fun c1 => ?_) (fun c1 => ?_)
    · have h := gz_ifp c1 h
      obtain rfl := gz_in1 h
      exact gz_lv [1] rfl k
    · have h := gz_ifn c1 h
      refine gz_iload_n (q := 1) hX dX0_oddKin_15 rfl rfl ?_
      refine gz_aload_n (q := 0) hX dX0_oddKin_16 rfl rfl ?_
      refine xg_X0_20 (n2 := (20, 0, 0)) hX xs_main rfl dX0_oddKin_17 ?_
      obtain ⟨n2, e3, h⟩ := gz_bd_o h
      obtain ⟨b4, h⟩ := gz_gd_o h
      refine xg_X0_107 (n2 := n2) hX (xs_M (by decide)) e3 dX0_oddKin_20 ?_
      refine gz_iload_n (q := 2) hX dX0_oddKin_23 rfl rfl ?_
      obtain ⟨b5, h⟩ := gz_gd_o h
      refine gz_iald (L := 12) hX (xs_dyn b4) (gz_inb_o b5) dX0_oddKin_24 ?_
      refine gu_callS (As := [.int (V n2 v2.toNatClampNeg)]) hX (c_j13_bitCount rfl) (lw_j13_bitCount_ q1368) rfl rfl nn_j13_bitCount ⟨Nat.le_of_ble_eq_true rfl, Nat.le_of_ble_eq_true rfl⟩ ⟨Nat.zero_le _, Nat.zero_le _⟩ rfl rfl (Nat.le_of_ble_eq_true rfl) dX0_oddKin_25 rfl ?_
      refine gz_iconst (v := 2) hX dX0_oddKin_28 gl_c_2 ?_
      refine gz_irem hX dX0_oddKin_29 (by decide) ?_
      refine gz_iconst (v := 1) hX dX0_oddKin_30 gl_c_1 ?_
      obtain ⟨y6, g7, h⟩ := gz_let_o h
      have J8 : gW X 3 (xw_s Ds) (xw_c Df) ad V 0 0 41 [(0, .ref (ad (10, 0, 0))), (2, .int v2)] [.int y6, .int v1] := by
        refine gz_ior hX dX0_oddKin_41 ?_
        obtain ⟨x10, e11, h⟩ := gz_let_o h
        refine gz_nm e11 ?_
        refine gz_istore_n (lv2 := [(1, .int x10), (0, .ref (ad (10, 0, 0))), (2, .int v2)]) hX dX0_oddKin_42 rfl (by decide) rfl ?_
        refine gz_iinc (q := 2) (lv2 := [(2, .int (v2 + 1)), (1, .int x10), (0, .ref (ad (10, 0, 0)))]) hX dX0_oddKin_43 rfl gl_c_1 (by decide) rfl ?_
        refine gz_goto (tgt := 4) hX dX0_oddKin_46 (by decide) ?_
        exact gz_lv [2, 1, 0] rfl (ih h)
      refine gz_icmp_ne (tgt := 40) hX dX0_oddKin_31 (by decide) (fun c9 => ?_) (fun c9 => ?_)
      · have g7 := gz_ifn c9 g7
        refine gz_iconst (v := 0) hX dX0_oddKin_40 gl_c_0 ?_
        obtain rfl := g7
        exact gz_lv [0, 2] rfl J8
      · have g7 := gz_ifp c9 g7
        refine gz_iconst (v := 1) hX dX0_oddKin_34 gl_c_1 ?_
        refine gz_iload_n (q := 2) hX dX0_oddKin_35 rfl rfl ?_
        refine gz_ishl hX dX0_oddKin_36 ?_
        refine gz_goto (tgt := 41) hX dX0_oddKin_37 (by decide) ?_
        obtain rfl := g7
        exact gz_lv [0, 2] rfl J8
noncomputable def x0_oddKin (N : Nat) (Ds : gz_S) (Df : gz_R) (V : gz_V) : Option (Int32) := gz_bd (x0_oddKin_L4 N Ds Df V N 0 0) (fun x1 => some x1)
theorem c_x0_oddKin {l : Launch} {D : va_G} {aC : Nat → ClassId} {ad : gz_A0} {N : Nat} {Ds : gz_S} {Df : gz_R} {V : gz_V} {r : Int32} (h : x0_oddKin N Ds Df V = some r) : gz_Met l yX0_oddKin cX0_oddKin 3 (some .int) rm_x0_oddKin D aC ad (xw_s Ds) V (xw_c Df) [.ref (ad (10, 0, 0))] (gz_F1 (xw_s Ds) (xw_c Df) ad V (some (.int r))) 0 0 := by
  refine gu_ofW (own := RX0) (mn := "oddKin") (lv := [(0, .ref (ad (10, 0, 0)))]) (by decide) rfl rfl (Nat.le_of_ble_eq_true rfl) rfl ?_
  intro X hX hZ hF
  rw [x0_oddKin] at h
  refine gz_iconst (v := 0) hX dX0_oddKin_0 gl_c_0 ?_
  refine gz_istore_n (lv2 := [(1, .int 0), (0, .ref (ad (10, 0, 0)))]) hX dX0_oddKin_1 rfl (by decide) rfl ?_
  refine gz_iconst (v := 0) hX dX0_oddKin_2 gl_c_0 ?_
  refine gz_istore_n (lv2 := [(2, .int 0), (1, .int 0), (0, .ref (ad (10, 0, 0)))]) hX dX0_oddKin_3 rfl (by decide) rfl ?_
  obtain ⟨x1, e2, h⟩ := gz_bd_o h
  refine gz_lv [2, 1, 0] rfl (w_x0_oddKin_L4 hX hZ ?_ N e2)
  refine gz_iload_n (q := 0) hX dX0_oddKin_49 rfl rfl ?_
  exact gu_iret hX hZ hF rfl rfl (gz_in1 h) dX0_oddKin_50
theorem lw_x0_oddKin_ {o : String} {i : Nat} (hl : Cond.methodLink o i yX0_oddKin ∈ lw_all) : GoodIn lw_all (wsV o i RX0 yX0_oddKin (ws_ yX0_oddKin cX0_oddKin 3 (some .int))) := lw_V hl q1366 qs48 q144 q1367
theorem nn_x0_oddKin : yX0_oddKin.cls = RX0 ∧ yX0_oddKin.cls ≠ "java/lang/invoke/MethodHandle" ∧ yX0_oddKin.cls ≠ "java/lang/invoke/VarHandle" ∧ (parseMethodDescriptor yX0_oddKin.desc).map (fun d => d.parameters.length) = some 0 := by decide +kernel
def rm_x0_of : Room := { frames := 2, cells := 0, slots := 0, locals := 43 }
noncomputable def x0_of (Ds : gz_S) (Df : gz_R) (V : gz_V) (a1 : Int32) (a2 : Int32) : Option (Int32) := (if (x0_isPerson V a1) = 0 then some (-1) else gz_bd (x0_at a1) (fun w2 => (if a2 = 5 then some (V (40, 0, w2) 1) else if a2 = 6 then some (V (40, 0, w2) 2) else if a2 = 7 then some (V (40, 0, w2) 3) else if a2 = 8 then gz_bd (Df (20, 0, 0) 12) (fun n8 => gz_gd (90 ≤ n8.1 ∧ Ds n8 = some (100, 12)) (gz_gd (gz_inb a1 12 = true) (some (V n8 a1.toNatClampNeg)))) else (if (x0_isIn a2 0 4) = 0 then some (-1) else gz_gd (gz_inb a2 5 = true) (some (V (41, 0, w2) a2.toNatClampNeg))))))
theorem c_x0_of {l : Launch} {D : va_G} {aC : Nat → ClassId} {ad : gz_A0} {Ds : gz_S} {Df : gz_R} {V : gz_V} {a1 : Int32} {a2 : Int32} {r : Int32} (h : x0_of Ds Df V a1 a2 = some r) : gz_Met l yX0_of cX0_of 4 (some .int) rm_x0_of D aC ad (xw_s Ds) V (xw_c Df) [.ref (ad (10, 0, 0)), .int a1, .int a2] (gz_F1 (xw_s Ds) (xw_c Df) ad V (some (.int r))) 0 0 := by
  refine gu_ofW (own := RX0) (mn := "of") (lv := [(0, .ref (ad (10, 0, 0))), (1, .int a1), (2, .int a2)]) (by decide) rfl rfl (Nat.le_of_ble_eq_true rfl) rfl ?_
  intro X hX hZ hF
  rw [x0_of] at h
  refine gz_aload_n (q := 0) hX dX0_of_0 rfl rfl ?_
  refine gz_iload_n (q := 1) hX dX0_of_1 rfl rfl ?_
  refine gu_callV (ci := 0) (n := (10, 0, 0)) (As := [.int a1]) hX (c_x0_isPerson rfl) (lw_x0_isPerson_ q1059) rfl rfl nn_x0_isPerson ⟨Nat.le_of_ble_eq_true rfl, Nat.le_of_ble_eq_true rfl⟩ ⟨Nat.zero_le _, Nat.zero_le _⟩ (by decide) rfl xs_main rfl rfl (Nat.le_of_ble_eq_true rfl) dX0_of_2 rfl ?_
  refine gz_if_ne (tgt := 10) hX dX0_of_5 (by decide) (fun c1 => ?_) (fun c1 => ?_)
  · have h := gz_ifn c1 h
    refine gz_aload_n (q := 0) hX dX0_of_10 rfl rfl ?_
    refine gz_iload_n (q := 1) hX dX0_of_11 rfl rfl ?_
    obtain ⟨w2, e3, h⟩ := gz_bd_o h
    refine gu_callV (ci := 0) (n := (10, 0, 0)) (As := [.int a1]) hX (c_x0_at e3) (lw_x0_at_ q1047) rfl rfl nn_x0_at ⟨Nat.le_of_ble_eq_true rfl, Nat.le_of_ble_eq_true rfl⟩ ⟨Nat.zero_le _, Nat.zero_le _⟩ (by decide) rfl xs_main rfl rfl (Nat.le_of_ble_eq_true rfl) dX0_of_12 rfl ?_
    refine gz_astore_n (lv2 := [(3, .ref (ad (40, 0, w2))), (0, .ref (ad (10, 0, 0))), (1, .int a1), (2, .int a2)]) hX dX0_of_15 rfl (by decide) rfl ?_
    refine gz_iload_n (q := 3) hX dX0_of_16 rfl rfl ?_
    by_cases c4 : a2 = 5
    · have h := gz_ifp c4 h
      refine gz_tableAt (v := 5) (tgt := 48) hX dX0_of_17 c4 (by decide) (by decide) rfl (by decide) ?_
      refine gz_aload_n (q := 0) hX dX0_of_48 rfl rfl ?_
      refine xg_X0_179 hX (xs_P (by decide) (b_x0_at e3)) dX0_of_49 ?_
      exact gu_iret hX hZ hF rfl rfl (gz_in1 h) dX0_of_52
    · have h := gz_ifn c4 h
      by_cases c5 : a2 = 6
      · have h := gz_ifp c5 h
        refine gz_tableAt (v := 6) (tgt := 53) hX dX0_of_17 c5 (by decide) (by decide) rfl (by decide) ?_
        refine gz_aload_n (q := 0) hX dX0_of_53 rfl rfl ?_
        refine xg_X0_213 hX (xs_P (by decide) (b_x0_at e3)) dX0_of_54 ?_
        exact gu_iret hX hZ hF rfl rfl (gz_in1 h) dX0_of_57
      · have h := gz_ifn c5 h
        by_cases c6 : a2 = 7
        · have h := gz_ifp c6 h
          refine gz_tableAt (v := 7) (tgt := 58) hX dX0_of_17 c6 (by decide) (by decide) rfl (by decide) ?_
          refine gz_aload_n (q := 0) hX dX0_of_58 rfl rfl ?_
          refine xg_X0_222 hX (xs_P (by decide) (b_x0_at e3)) dX0_of_59 ?_
          exact gu_iret hX hZ hF rfl rfl (gz_in1 h) dX0_of_62
        · have h := gz_ifn c6 h
          by_cases c7 : a2 = 8
          · have h := gz_ifp c7 h
            refine gz_tableAt (v := 8) (tgt := 63) hX dX0_of_17 c7 (by decide) (by decide) rfl (by decide) ?_
            refine gz_aload_n (q := 1) hX dX0_of_63 rfl rfl ?_
            refine xg_X0_20 (n2 := (20, 0, 0)) hX xs_main rfl dX0_of_64 ?_
            obtain ⟨n8, e9, h⟩ := gz_bd_o h
            obtain ⟨b10, h⟩ := gz_gd_o h
            refine xg_X0_107 (n2 := n8) hX (xs_M (by decide)) e9 dX0_of_67 ?_
            refine gz_iload_n (q := 2) hX dX0_of_70 rfl rfl ?_
            obtain ⟨b11, h⟩ := gz_gd_o h
            refine gz_iald (L := 12) hX (xs_dyn b10) (gz_inb_o b11) dX0_of_71 ?_
            exact gu_iret hX hZ hF rfl rfl (gz_in1 h) dX0_of_72
          · have h := gz_ifn c7 h
            refine gz_tableOut (tgt := 73) hX dX0_of_17 (by have := lv_neT c4 (a := 5) rfl; have := lv_neT c5 (a := 6) rfl; have := lv_neT c6 (a := 7) rfl; have := lv_neT c7 (a := 8) rfl; omega) (by decide) ?_
            refine gz_iload_n (q := 3) hX dX0_of_73 rfl rfl ?_
            refine gz_iconst (v := 0) hX dX0_of_74 gl_c_0 ?_
            refine gz_iconst (v := 4) hX dX0_of_75 gl_c_4 ?_
            refine gu_callS (As := [.int a2, .int 0, .int 4]) hX (c_x0_isIn rfl) (lw_x0_isIn_ q502) rfl rfl nn_x0_isIn ⟨Nat.le_of_ble_eq_true rfl, Nat.le_of_ble_eq_true rfl⟩ ⟨Nat.zero_le _, Nat.zero_le _⟩ rfl rfl (Nat.le_of_ble_eq_true rfl) dX0_of_76 rfl ?_
            refine gz_if_eq (tgt := 91) hX dX0_of_79 (by decide) (fun c12 => ?_) (fun c12 => ?_)
            · have h := gz_ifp c12 h
              refine gz_iconst (v := (-1)) hX dX0_of_91 gl_c_m1 ?_
              exact gu_iret hX hZ hF rfl rfl (gz_in1 h) dX0_of_92
            · have h := gz_ifn c12 h
              refine gz_aload_n (q := 0) hX dX0_of_82 rfl rfl ?_
              refine xg_X0_188 (n2 := (41, 0, w2)) hX (xs_P (by decide) (b_x0_at e3)) rfl dX0_of_83 ?_
              refine gz_iload_n (q := 3) hX dX0_of_86 rfl rfl ?_
              obtain ⟨b13, h⟩ := gz_gd_o h
              refine gz_iald (L := 5) hX (xs_T (by decide) (b_x0_at e3)) (gz_inb_o b13) dX0_of_87 ?_
              refine gz_goto (tgt := 92) hX dX0_of_88 (by decide) ?_
              exact gu_iret hX hZ hF rfl rfl (gz_in1 h) dX0_of_92
  · have h := gz_ifp c1 h
    refine gz_iconst (v := (-1)) hX dX0_of_8 gl_c_m1 ?_
    exact gu_iret hX hZ hF rfl rfl (gz_in1 h) dX0_of_9
theorem lw_x0_of_ {o : String} {i : Nat} (hl : Cond.methodLink o i yX0_of ∈ lw_all) : GoodIn lw_all (wsV o i RX0 yX0_of (ws_ yX0_of cX0_of 4 (some .int))) := lw_V hl q1254 q1255 q144 q1256
theorem nn_x0_of : yX0_of.cls = RX0 ∧ yX0_of.cls ≠ "java/lang/invoke/MethodHandle" ∧ yX0_of.cls ≠ "java/lang/invoke/VarHandle" ∧ (parseMethodDescriptor yX0_of.desc).map (fun d => d.parameters.length) = some 2 := by decide +kernel
def rm_x0_partner : Room := { frames := 1, cells := 0, slots := 0, locals := 21 }
noncomputable def x0_partner_L9 (N : Nat) (Ds : gz_S) (Df : gz_R) (V : gz_V) (v1 : Int32) (v2 : Int32) : Nat → Int32 → Option ((Int32) ⊕ (Unit))
  | 0, _ => none
  | n + 1, v3 => (if (V (20, 0, 0) 13) ≤ v3 then some (.inr ()) else (if ((v1 >>> (v3 &&& 31)) &&& 1) = 1 then gz_bd (Df (20, 0, 0) 12) (fun n7 => gz_gd (90 ≤ n7.1 ∧ Ds n7 = some (100, 12)) (gz_gd (gz_inb v2 12 = true) ((if (((V n7 v2.toNatClampNeg) >>> (v3 &&& 31)) &&& 1) = 0 then gz_gd (gz_inb (v1 &&& ((((1 : Int32) <<< (v2 &&& 31)) ||| ((1 : Int32) <<< (v3 &&& 31))) ^^^ (-1))) 4096 = true) (gz_gd (gz_inb v1 4096 = true) ((if (1 + (V (11, 11, 0) (v1 &&& ((((1 : Int32) <<< (v2 &&& 31)) ||| ((1 : Int32) <<< (v3 &&& 31))) ^^^ (-1))).toNatClampNeg)) = (V (11, 11, 0) v1.toNatClampNeg) then some (.inl v3) else x0_partner_L9 N Ds Df V v1 v2 n (v3 + 1)))) else x0_partner_L9 N Ds Df V v1 v2 n (v3 + 1))))) else x0_partner_L9 N Ds Df V v1 v2 n (v3 + 1)))
theorem w_x0_partner_L9 {X : gz_X} {ad : gz_A0} {N : Nat} {Ds : gz_S} {Df : gz_R} {V : gz_V} {v1 : Int32} {v2 : Int32} {out : (Int32) ⊕ (Unit)} (hX : gz_ok X cX0_partner RX0 "partner" 4 rm_x0_partner (some .int)) (hZ : gz_Z X) (hout : (∃ (r : Int32), out = .inl r ∧ gx_F X (xw_s Ds) V (xw_c Df) ad (some (.int r))) ∨ (out = .inr () ∧ gW X 4 (xw_s Ds) (xw_c Df) ad V 0 0 80 [] [])) : ∀ (n : Nat) {v3 : Int32}, x0_partner_L9 N Ds Df V v1 v2 n v3 = some out → gW X 4 (xw_s Ds) (xw_c Df) ad V 0 0 9 [(0, .ref (ad (10, 0, 0))), (1, .int v1), (2, .int v2), (3, .int v3)] [] := by
  intro n
  induction n with
  | zero => intro v3 h; rw [x0_partner_L9] at h; cases h
  | succ n ih =>
    intro v3 h
    rw [x0_partner_L9] at h
    refine gz_iload_n (q := 3) hX dX0_partner_9 rfl rfl ?_
    refine gz_aload_n (q := 0) hX dX0_partner_10 rfl rfl ?_
    refine xg_X0_20 (n2 := (20, 0, 0)) hX xs_main rfl dX0_partner_11 ?_
    refine xg_X0_137 hX (xs_M (by decide)) dX0_partner_14 ?_
    refine gz_icmp_ge (tgt := 80) hX dX0_partner_17 (by decide) (fun c5 => ?_) (fun c5 => ?_)
    · have h := gz_ifp c5 h
      obtain rfl := gz_in1 h
      obtain ⟨_, e0, _⟩ | ⟨e0, k⟩ := hout
      · cases e0
      · cases e0
        exact gz_lv [] rfl k
    · have h := gz_ifn c5 h
      refine gz_iload_n (q := 1) hX dX0_partner_20 rfl rfl ?_
      refine gz_iload_n (q := 3) hX dX0_partner_21 rfl rfl ?_
      refine gz_ishr hX dX0_partner_22 ?_
      refine gz_iconst (v := 1) hX dX0_partner_23 gl_c_1 ?_
      refine gz_iand hX dX0_partner_24 ?_
      refine gz_iconst (v := 1) hX dX0_partner_25 gl_c_1 ?_
      refine gz_icmp_ne (tgt := 74) hX dX0_partner_26 (by decide) (fun c6 => ?_) (fun c6 => ?_)
      · have h := gz_ifn c6 h
        refine gz_iinc (q := 3) (lv2 := [(3, .int (v3 + 1)), (0, .ref (ad (10, 0, 0))), (1, .int v1), (2, .int v2)]) hX dX0_partner_74 rfl gl_c_1 (by decide) rfl ?_
        refine gz_goto (tgt := 9) hX dX0_partner_77 (by decide) ?_
        exact gz_lv [1, 2, 3, 0] rfl (ih h)
      · have h := gz_ifp c6 h
        refine gz_aload_n (q := 0) hX dX0_partner_29 rfl rfl ?_
        refine xg_X0_20 (n2 := (20, 0, 0)) hX xs_main rfl dX0_partner_30 ?_
        obtain ⟨n7, e8, h⟩ := gz_bd_o h
        obtain ⟨b9, h⟩ := gz_gd_o h
        refine xg_X0_107 (n2 := n7) hX (xs_M (by decide)) e8 dX0_partner_33 ?_
        refine gz_iload_n (q := 2) hX dX0_partner_36 rfl rfl ?_
        obtain ⟨b10, h⟩ := gz_gd_o h
        refine gz_iald (L := 12) hX (xs_dyn b9) (gz_inb_o b10) dX0_partner_37 ?_
        refine gz_iload_n (q := 3) hX dX0_partner_38 rfl rfl ?_
        refine gz_ishr hX dX0_partner_39 ?_
        refine gz_iconst (v := 1) hX dX0_partner_40 gl_c_1 ?_
        refine gz_iand hX dX0_partner_41 ?_
        refine gz_if_ne (tgt := 74) hX dX0_partner_42 (by decide) (fun c11 => ?_) (fun c11 => ?_)
        · have h := gz_ifn c11 h
          refine gz_iinc (q := 3) (lv2 := [(3, .int (v3 + 1)), (0, .ref (ad (10, 0, 0))), (1, .int v1), (2, .int v2)]) hX dX0_partner_74 rfl gl_c_1 (by decide) rfl ?_
          refine gz_goto (tgt := 9) hX dX0_partner_77 (by decide) ?_
          exact gz_lv [1, 2, 3, 0] rfl (ih h)
        · have h := gz_ifp c11 h
          refine gz_iconst (v := 1) hX dX0_partner_45 gl_c_1 ?_
          refine gz_aload_n (q := 0) hX dX0_partner_46 rfl rfl ?_
          refine xg_X0_42 (n2 := (11, 11, 0)) hX xs_main rfl dX0_partner_47 ?_
          refine gz_iload_n (q := 1) hX dX0_partner_50 rfl rfl ?_
          refine gz_iconst (v := 1) hX dX0_partner_51 gl_c_1 ?_
          refine gz_iload_n (q := 2) hX dX0_partner_52 rfl rfl ?_
          refine gz_ishl hX dX0_partner_53 ?_
          refine gz_iconst (v := 1) hX dX0_partner_54 gl_c_1 ?_
          refine gz_iload_n (q := 3) hX dX0_partner_55 rfl rfl ?_
          refine gz_ishl hX dX0_partner_56 ?_
          refine gz_ior hX dX0_partner_57 ?_
          refine gz_iconst (v := (-1)) hX dX0_partner_58 gl_c_m1 ?_
          refine gz_ixor hX dX0_partner_59 ?_
          refine gz_iand hX dX0_partner_60 ?_
          obtain ⟨b12, h⟩ := gz_gd_o h
          refine gz_iald (L := 4096) hX xs_pairs (gz_inb_o b12) dX0_partner_61 ?_
          refine gz_iadd hX dX0_partner_62 ?_
          refine gz_aload_n (q := 0) hX dX0_partner_63 rfl rfl ?_
          refine xg_X0_42 (n2 := (11, 11, 0)) hX xs_main rfl dX0_partner_64 ?_
          refine gz_iload_n (q := 1) hX dX0_partner_67 rfl rfl ?_
          obtain ⟨b13, h⟩ := gz_gd_o h
          refine gz_iald (L := 4096) hX xs_pairs (gz_inb_o b13) dX0_partner_68 ?_
          refine gz_icmp_ne (tgt := 74) hX dX0_partner_69 (by decide) (fun c14 => ?_) (fun c14 => ?_)
          · have h := gz_ifn c14 h
            refine gz_iinc (q := 3) (lv2 := [(3, .int (v3 + 1)), (0, .ref (ad (10, 0, 0))), (1, .int v1), (2, .int v2)]) hX dX0_partner_74 rfl gl_c_1 (by decide) rfl ?_
            refine gz_goto (tgt := 9) hX dX0_partner_77 (by decide) ?_
            exact gz_lv [1, 2, 3, 0] rfl (ih h)
          · have h := gz_ifp c14 h
            refine gz_iload_n (q := 3) hX dX0_partner_72 rfl rfl ?_
            obtain rfl := gz_in1 h
            obtain ⟨_, e0, hF⟩ | ⟨e0, _⟩ := hout
            · cases e0
              exact gu_iret hX hZ hF rfl rfl rfl dX0_partner_73
            · cases e0
noncomputable def x0_partner (N : Nat) (Ds : gz_S) (Df : gz_R) (V : gz_V) (a1 : Int32) : Option (Int32) := gz_let ((j13_numberOfTrailingZeros a1)) (fun x1 => gz_let ((x1 + 1)) (fun x3 => gz_lp (x0_partner_L9 N Ds Df V a1 x1 N x3) some (fun _ => some (-1))))
theorem c_x0_partner {l : Launch} {D : va_G} {aC : Nat → ClassId} {ad : gz_A0} {N : Nat} {Ds : gz_S} {Df : gz_R} {V : gz_V} {a1 : Int32} {r : Int32} (h : x0_partner N Ds Df V a1 = some r) : gz_Met l yX0_partner cX0_partner 4 (some .int) rm_x0_partner D aC ad (xw_s Ds) V (xw_c Df) [.ref (ad (10, 0, 0)), .int a1] (gz_F1 (xw_s Ds) (xw_c Df) ad V (some (.int r))) 0 0 := by
  refine gu_ofW (own := RX0) (mn := "partner") (lv := [(0, .ref (ad (10, 0, 0))), (1, .int a1)]) (by decide) rfl rfl (Nat.le_of_ble_eq_true rfl) rfl ?_
  intro X hX hZ hF
  rw [x0_partner] at h
  refine gz_iload_n (q := 1) hX dX0_partner_0 rfl rfl ?_
  refine gu_callS (As := [.int a1]) hX (c_j13_numberOfTrailingZeros rfl) (lw_j13_numberOfTrailingZeros_ q1344) rfl rfl nn_j13_numberOfTrailingZeros ⟨Nat.le_of_ble_eq_true rfl, Nat.le_of_ble_eq_true rfl⟩ ⟨Nat.zero_le _, Nat.zero_le _⟩ rfl rfl (Nat.le_of_ble_eq_true rfl) dX0_partner_1 rfl ?_
  obtain ⟨x1, e2, h⟩ := gz_let_o h
  refine gz_nm e2 ?_
  refine gz_istore_n (lv2 := [(2, .int x1), (0, .ref (ad (10, 0, 0))), (1, .int a1)]) hX dX0_partner_4 rfl (by decide) rfl ?_
  refine gz_iload_n (q := 0) hX dX0_partner_5 rfl rfl ?_
  refine gz_iconst (v := 1) hX dX0_partner_6 gl_c_1 ?_
  refine gz_iadd hX dX0_partner_7 ?_
  obtain ⟨x3, e4, h⟩ := gz_let_o h
  refine gz_nm e4 ?_
  refine gz_istore_n (lv2 := [(3, .int x3), (2, .int x1), (0, .ref (ad (10, 0, 0))), (1, .int a1)]) hX dX0_partner_8 rfl (by decide) rfl ?_
  rcases gz_lp_o h with ⟨p6, e5, h⟩ | ⟨_, e5, h⟩
  · obtain rfl := gz_in1 h
    exact gz_lv [2, 3, 1, 0] rfl (w_x0_partner_L9 hX hZ (Or.inl ⟨_, rfl, hF⟩) N e5)
  · refine gz_lv [2, 3, 1, 0] rfl (w_x0_partner_L9 hX hZ (Or.inr ⟨rfl, ?_⟩) N e5)
    refine gz_iconst (v := (-1)) hX dX0_partner_80 gl_c_m1 ?_
    exact gu_iret hX hZ hF rfl rfl (gz_in1 h) dX0_partner_81
theorem lw_x0_partner_ {o : String} {i : Nat} (hl : Cond.methodLink o i yX0_partner ∈ lw_all) : GoodIn lw_all (wsV o i RX0 yX0_partner (ws_ yX0_partner cX0_partner 4 (some .int))) := lw_V hl q1350 qs45 q144 q1351
theorem nn_x0_partner : yX0_partner.cls = RX0 ∧ yX0_partner.cls ≠ "java/lang/invoke/MethodHandle" ∧ yX0_partner.cls ≠ "java/lang/invoke/VarHandle" ∧ (parseMethodDescriptor yX0_partner.desc).map (fun d => d.parameters.length) = some 1 := by decide +kernel
def rm_x0_pairs : Room := { frames := 2, cells := 0, slots := 0, locals := 45 }
noncomputable def x0_pairs_L35 (N : Nat) (Ds : gz_S) (Df : gz_R) (V : gz_V) (v1 : Int32) (v3 : Int32) : Nat → Int32 → Option ((gz_V × Int32) ⊕ (Unit))
  | 0, _ => none
  | n + 1, v2 => (if v1 = 0 then some (.inr ()) else (if v2 = 0 then some (.inr ()) else gz_let ((j13_numberOfTrailingZeros v2)) (fun x9 => gz_bd (x0_partner N Ds Df V v2) (fun r11 => (if x9 = (v1 - 10) then some (.inl (V, r11)) else (if r11 = (v1 - 10) then some (.inl (V, x9)) else gz_let (if r11 = (-1) then ((-1) : Int32) else (((1 : Int32) <<< (r11 &&& 31)) ^^^ (-1))) (fun y15 => gz_let ((v2 &&& ((((1 : Int32) <<< (x9 &&& 31)) ^^^ (-1)) &&& y15))) (fun x19 => x0_pairs_L35 N Ds Df V v1 v3 n x19))))))))
theorem w_x0_pairs_L35 {X : gz_X} {ad : gz_A0} {N : Nat} {Ds : gz_S} {Df : gz_R} {V : gz_V} {v1 : Int32} {v3 : Int32} {out : (gz_V × Int32) ⊕ (Unit)} (hX : gz_ok X cX0_pairs RX0 "pairs" 6 rm_x0_pairs (some .int)) (hZ : gz_Z X) (hout : (∃ (W2 : gz_V) (r : Int32), out = .inl (W2, r) ∧ gx_F X (xw_s Ds) W2 (xw_c Df) ad (some (.int r))) ∨ (out = .inr () ∧ gW X 6 (xw_s Ds) (xw_c Df) ad V 0 0 109 [(3, .int v3)] [])) : ∀ (n : Nat) {v2 : Int32}, x0_pairs_L35 N Ds Df V v1 v3 n v2 = some out → gW X 6 (xw_s Ds) (xw_c Df) ad V 0 0 35 [(0, .ref (ad (10, 0, 0))), (1, .int v1), (2, .int v2), (3, .int v3)] [] := by
  intro n
  induction n with
  | zero => intro v2 h; rw [x0_pairs_L35] at h; cases h
  | succ n ih =>
    intro v2 h
    rw [x0_pairs_L35] at h
    refine gz_iload_n (q := 1) hX dX0_pairs_35 rfl rfl ?_
    refine gz_if_eq (tgt := 109) hX dX0_pairs_36 (by decide) (fun c7 => ?_) (fun c7 => ?_)
    · have h := gz_ifp c7 h
      obtain rfl := gz_in1 h
      obtain ⟨_, _, e0, _⟩ | ⟨e0, k⟩ := hout
      · cases e0
      · cases e0
        exact gz_lv [3] rfl k
    · have h := gz_ifn c7 h
      refine gz_iload_n (q := 2) hX dX0_pairs_39 rfl rfl ?_
      refine gz_if_eq (tgt := 109) hX dX0_pairs_40 (by decide) (fun c8 => ?_) (fun c8 => ?_)
      · have h := gz_ifp c8 h
        obtain rfl := gz_in1 h
        obtain ⟨_, _, e0, _⟩ | ⟨e0, k⟩ := hout
        · cases e0
        · cases e0
          exact gz_lv [3] rfl k
      · have h := gz_ifn c8 h
        refine gz_iload_n (q := 2) hX dX0_pairs_43 rfl rfl ?_
        refine gu_callS (As := [.int v2]) hX (c_j13_numberOfTrailingZeros rfl) (lw_j13_numberOfTrailingZeros_ q1344) rfl rfl nn_j13_numberOfTrailingZeros ⟨Nat.le_of_ble_eq_true rfl, Nat.le_of_ble_eq_true rfl⟩ ⟨Nat.zero_le _, Nat.zero_le _⟩ rfl rfl (Nat.le_of_ble_eq_true rfl) dX0_pairs_44 rfl ?_
        obtain ⟨x9, e10, h⟩ := gz_let_o h
        refine gz_nm e10 ?_
        refine gz_istore (lv2 := [(4, .int x9), (0, .ref (ad (10, 0, 0))), (1, .int v1), (2, .int v2), (3, .int v3)]) hX dX0_pairs_47 (by decide) rfl ?_
        refine gz_aload_n (q := 1) hX dX0_pairs_49 rfl rfl ?_
        refine gz_iload_n (q := 3) hX dX0_pairs_50 rfl rfl ?_
        obtain ⟨r11, e12, h⟩ := gz_bd_o h
        refine gu_callV (ci := 0) (n := (10, 0, 0)) (As := [.int v2]) hX (c_x0_partner e12) (lw_x0_partner_ q1348) rfl rfl nn_x0_partner ⟨Nat.le_of_ble_eq_true rfl, Nat.le_of_ble_eq_true rfl⟩ ⟨Nat.zero_le _, Nat.zero_le _⟩ (by decide) rfl xs_main rfl rfl (Nat.le_of_ble_eq_true rfl) dX0_pairs_51 rfl ?_
        refine gz_istore (lv2 := [(5, .int r11), (4, .int x9), (0, .ref (ad (10, 0, 0))), (1, .int v1), (2, .int v2), (3, .int v3)]) hX dX0_pairs_54 (by decide) rfl ?_
        refine gz_iload (q := 1) hX dX0_pairs_56 rfl ?_
        refine gz_iload_n (q := 3) hX dX0_pairs_58 rfl rfl ?_
        refine gz_bipush (v := 10) hX dX0_pairs_59 gl_b_10 ?_
        refine gz_isub hX dX0_pairs_61 ?_
        refine gz_icmp_ne (tgt := 68) hX dX0_pairs_62 (by decide) (fun c13 => ?_) (fun c13 => ?_)
        · have h := gz_ifn c13 h
          refine gz_iload (q := 0) hX dX0_pairs_68 rfl ?_
          refine gz_iload_n (q := 3) hX dX0_pairs_70 rfl rfl ?_
          refine gz_bipush (v := 10) hX dX0_pairs_71 gl_b_10 ?_
          refine gz_isub hX dX0_pairs_73 ?_
          refine gz_icmp_ne (tgt := 80) hX dX0_pairs_74 (by decide) (fun c14 => ?_) (fun c14 => ?_)
          · have h := gz_ifn c14 h
            refine gz_iload_n (q := 4) hX dX0_pairs_80 rfl rfl ?_
            refine gz_iconst (v := 1) hX dX0_pairs_81 gl_c_1 ?_
            refine gz_iload (q := 1) hX dX0_pairs_82 rfl ?_
            refine gz_ishl hX dX0_pairs_84 ?_
            refine gz_iconst (v := (-1)) hX dX0_pairs_85 gl_c_m1 ?_
            refine gz_ixor hX dX0_pairs_86 ?_
            refine gz_iload (q := 0) hX dX0_pairs_87 rfl ?_
            refine gz_iconst (v := (-1)) hX dX0_pairs_89 gl_c_m1 ?_
            obtain ⟨y15, g16, h⟩ := gz_let_o h
            have J17 : gW X 6 (xw_s Ds) (xw_c Df) ad V 0 0 103 [(0, .ref (ad (10, 0, 0))), (1, .int v1), (3, .int v3)] [.int y15, .int (((1 : Int32) <<< (x9 &&& 31)) ^^^ (-1)), .int v2] := by
              refine gz_iand hX dX0_pairs_103 ?_
              refine gz_iand hX dX0_pairs_104 ?_
              obtain ⟨x19, e20, h⟩ := gz_let_o h
              refine gz_nm e20 ?_
              refine gz_istore_n (lv2 := [(2, .int x19), (0, .ref (ad (10, 0, 0))), (1, .int v1), (3, .int v3)]) hX dX0_pairs_105 rfl (by decide) rfl ?_
              refine gz_goto (tgt := 35) hX dX0_pairs_106 (by decide) ?_
              exact gz_lv [1, 2, 0, 3] rfl (ih h)
            refine gz_icmp_ne (tgt := 97) hX dX0_pairs_90 (by decide) (fun c18 => ?_) (fun c18 => ?_)
            · have g16 := gz_ifn c18 g16
              refine gz_iconst (v := 1) hX dX0_pairs_97 gl_c_1 ?_
              refine gz_iload (q := 0) hX dX0_pairs_98 rfl ?_
              refine gz_ishl hX dX0_pairs_100 ?_
              refine gz_iconst (v := (-1)) hX dX0_pairs_101 gl_c_m1 ?_
              refine gz_ixor hX dX0_pairs_102 ?_
              obtain rfl := g16
              exact gz_lv [2, 3, 5] rfl J17
            · have g16 := gz_ifp c18 g16
              refine gz_iconst (v := (-1)) hX dX0_pairs_93 gl_c_m1 ?_
              refine gz_goto (tgt := 103) hX dX0_pairs_94 (by decide) ?_
              obtain rfl := g16
              exact gz_lv [2, 3, 5] rfl J17
          · have h := gz_ifp c14 h
            refine gz_iload (q := 1) hX dX0_pairs_77 rfl ?_
            obtain rfl := gz_in1 h
            obtain ⟨_, _, e0, hF⟩ | ⟨e0, _⟩ := hout
            · cases e0
              exact gu_iret hX hZ hF rfl rfl rfl dX0_pairs_79
            · cases e0
        · have h := gz_ifp c13 h
          refine gz_iload (q := 0) hX dX0_pairs_65 rfl ?_
          obtain rfl := gz_in1 h
          obtain ⟨_, _, e0, hF⟩ | ⟨e0, _⟩ := hout
          · cases e0
            exact gu_iret hX hZ hF rfl rfl rfl dX0_pairs_67
          · cases e0
noncomputable def x0_pairs (N : Nat) (Ds : gz_S) (Df : gz_R) (V : gz_V) (a1 : Int32) : Option (gz_V × Int32) := (if a1 = 0 then gz_let ((((1 : Int32) <<< ((V (20, 0, 0) 13) &&& 31)) - 1)) (fun x2 => gz_b2 (x0_mostPairs N Ds Df V x2) (fun V4 r5 => gz_lp (x0_pairs_L35 N Ds Df V4 a1 r5 N x2) some (fun _ => some (V4, r5)))) else (if (x0_isPerson V (a1 - 10)) = 0 then some (V, (-1)) else gz_let ((((1 : Int32) <<< ((V (20, 0, 0) 13) &&& 31)) - 1)) (fun x10 => gz_b2 (x0_mostPairs N Ds Df V x10) (fun V12 r13 => gz_lp (x0_pairs_L35 N Ds Df V12 a1 r13 N x10) some (fun _ => some (V12, r13))))))
theorem c_x0_pairs {l : Launch} {D : va_G} {aC : Nat → ClassId} {ad : gz_A0} {N : Nat} {Ds : gz_S} {Df : gz_R} {V : gz_V} {a1 : Int32} {W1 : gz_V} {r : Int32} (h : x0_pairs N Ds Df V a1 = some (W1, r)) : gz_Met l yX0_pairs cX0_pairs 6 (some .int) rm_x0_pairs D aC ad (xw_s Ds) V (xw_c Df) [.ref (ad (10, 0, 0)), .int a1] (gz_F1 (xw_s Ds) (xw_c Df) ad W1 (some (.int r))) 0 0 := by
  refine gu_ofW (own := RX0) (mn := "pairs") (lv := [(0, .ref (ad (10, 0, 0))), (1, .int a1)]) (by decide) rfl rfl (Nat.le_of_ble_eq_true rfl) rfl ?_
  intro X hX hZ hF
  rw [x0_pairs] at h
  refine gz_iload_n (q := 1) hX dX0_pairs_0 rfl rfl ?_
  refine gz_if_eq (tgt := 17) hX dX0_pairs_1 (by decide) (fun c1 => ?_) (fun c1 => ?_)
  · have h := gz_ifp c1 h
    refine gz_iconst (v := 1) hX dX0_pairs_17 gl_c_1 ?_
    refine gz_aload_n (q := 0) hX dX0_pairs_18 rfl rfl ?_
    refine xg_X0_20 (n2 := (20, 0, 0)) hX xs_main rfl dX0_pairs_19 ?_
    refine xg_X0_137 hX (xs_M (by decide)) dX0_pairs_22 ?_
    refine gz_ishl hX dX0_pairs_25 ?_
    refine gz_iconst (v := 1) hX dX0_pairs_26 gl_c_1 ?_
    refine gz_isub hX dX0_pairs_27 ?_
    obtain ⟨x2, e3, h⟩ := gz_let_o h
    refine gz_nm e3 ?_
    refine gz_istore_n (lv2 := [(2, .int x2), (0, .ref (ad (10, 0, 0))), (1, .int a1)]) hX dX0_pairs_28 rfl (by decide) rfl ?_
    refine gz_aload_n (q := 1) hX dX0_pairs_29 rfl rfl ?_
    refine gz_iload_n (q := 0) hX dX0_pairs_30 rfl rfl ?_
    obtain ⟨V4, r5, e6, h⟩ := gz_b2_o h
    refine gu_callV (ci := 0) (n := (10, 0, 0)) (As := [.int x2]) hX (c_x0_mostPairs e6) (lw_x0_mostPairs_ q1340) rfl rfl nn_x0_mostPairs ⟨Nat.le_of_ble_eq_true rfl, Nat.le_of_ble_eq_true rfl⟩ ⟨Nat.zero_le _, Nat.zero_le _⟩ (by decide) rfl xs_main rfl rfl (Nat.le_of_ble_eq_true rfl) dX0_pairs_31 rfl ?_
    refine gz_istore_n (lv2 := [(3, .int r5), (2, .int x2), (0, .ref (ad (10, 0, 0))), (1, .int a1)]) hX dX0_pairs_34 rfl (by decide) rfl ?_
    rcases gz_lp_o h with ⟨p8, e7, h⟩ | ⟨_, e7, h⟩
    · obtain rfl := gz_in1 h
      exact gz_lv [2, 3, 1, 0] rfl (w_x0_pairs_L35 hX hZ (Or.inl ⟨_, _, rfl, hF⟩) N e7)
    · refine gz_lv [2, 3, 1, 0] rfl (w_x0_pairs_L35 hX hZ (Or.inr ⟨rfl, ?_⟩) N e7)
      refine gz_iload_n (q := 0) hX dX0_pairs_109 rfl rfl ?_
      obtain ⟨e_V, e_r⟩ := gz_in2 h
      exact gu_iret hX hZ hF e_V rfl e_r dX0_pairs_110
  · have h := gz_ifn c1 h
    refine gz_aload_n (q := 0) hX dX0_pairs_4 rfl rfl ?_
    refine gz_iload_n (q := 1) hX dX0_pairs_5 rfl rfl ?_
    refine gz_bipush (v := 10) hX dX0_pairs_6 gl_b_10 ?_
    refine gz_isub hX dX0_pairs_8 ?_
    refine gu_callV (ci := 0) (n := (10, 0, 0)) (As := [.int (a1 - 10)]) hX (c_x0_isPerson rfl) (lw_x0_isPerson_ q1059) rfl rfl nn_x0_isPerson ⟨Nat.le_of_ble_eq_true rfl, Nat.le_of_ble_eq_true rfl⟩ ⟨Nat.zero_le _, Nat.zero_le _⟩ (by decide) rfl xs_main rfl rfl (Nat.le_of_ble_eq_true rfl) dX0_pairs_9 rfl ?_
    refine gz_if_ne (tgt := 17) hX dX0_pairs_12 (by decide) (fun c9 => ?_) (fun c9 => ?_)
    · have h := gz_ifn c9 h
      refine gz_iconst (v := 1) hX dX0_pairs_17 gl_c_1 ?_
      refine gz_aload_n (q := 0) hX dX0_pairs_18 rfl rfl ?_
      refine xg_X0_20 (n2 := (20, 0, 0)) hX xs_main rfl dX0_pairs_19 ?_
      refine xg_X0_137 hX (xs_M (by decide)) dX0_pairs_22 ?_
      refine gz_ishl hX dX0_pairs_25 ?_
      refine gz_iconst (v := 1) hX dX0_pairs_26 gl_c_1 ?_
      refine gz_isub hX dX0_pairs_27 ?_
      obtain ⟨x10, e11, h⟩ := gz_let_o h
      refine gz_nm e11 ?_
      refine gz_istore_n (lv2 := [(2, .int x10), (0, .ref (ad (10, 0, 0))), (1, .int a1)]) hX dX0_pairs_28 rfl (by decide) rfl ?_
      refine gz_aload_n (q := 1) hX dX0_pairs_29 rfl rfl ?_
      refine gz_iload_n (q := 0) hX dX0_pairs_30 rfl rfl ?_
      obtain ⟨V12, r13, e14, h⟩ := gz_b2_o h
      refine gu_callV (ci := 0) (n := (10, 0, 0)) (As := [.int x10]) hX (c_x0_mostPairs e14) (lw_x0_mostPairs_ q1340) rfl rfl nn_x0_mostPairs ⟨Nat.le_of_ble_eq_true rfl, Nat.le_of_ble_eq_true rfl⟩ ⟨Nat.zero_le _, Nat.zero_le _⟩ (by decide) rfl xs_main rfl rfl (Nat.le_of_ble_eq_true rfl) dX0_pairs_31 rfl ?_
      refine gz_istore_n (lv2 := [(3, .int r13), (2, .int x10), (0, .ref (ad (10, 0, 0))), (1, .int a1)]) hX dX0_pairs_34 rfl (by decide) rfl ?_
      rcases gz_lp_o h with ⟨p16, e15, h⟩ | ⟨_, e15, h⟩
      · obtain rfl := gz_in1 h
        exact gz_lv [2, 3, 1, 0] rfl (w_x0_pairs_L35 hX hZ (Or.inl ⟨_, _, rfl, hF⟩) N e15)
      · refine gz_lv [2, 3, 1, 0] rfl (w_x0_pairs_L35 hX hZ (Or.inr ⟨rfl, ?_⟩) N e15)
        refine gz_iload_n (q := 0) hX dX0_pairs_109 rfl rfl ?_
        obtain ⟨e_V, e_r⟩ := gz_in2 h
        exact gu_iret hX hZ hF e_V rfl e_r dX0_pairs_110
    · have h := gz_ifp c9 h
      refine gz_iconst (v := (-1)) hX dX0_pairs_15 gl_c_m1 ?_
      obtain ⟨e_V, e_r⟩ := gz_in2 h
      exact gu_iret hX hZ hF e_V rfl e_r dX0_pairs_16
theorem lw_x0_pairs_ {o : String} {i : Nat} (hl : Cond.methodLink o i yX0_pairs ∈ lw_all) : GoodIn lw_all (wsV o i RX0 yX0_pairs (ws_ yX0_pairs cX0_pairs 6 (some .int))) := lw_V hl q1337 q1338 q144 q1339
theorem nn_x0_pairs : yX0_pairs.cls = RX0 ∧ yX0_pairs.cls ≠ "java/lang/invoke/MethodHandle" ∧ yX0_pairs.cls ≠ "java/lang/invoke/VarHandle" ∧ (parseMethodDescriptor yX0_pairs.desc).map (fun d => d.parameters.length) = some 1 := by decide +kernel
theorem lw_x0_shares_ {o : String} {i : Nat} (hl : Cond.methodLink o i yX0_shares ∈ lw_all) : GoodIn lw_all (wsV o i RX0 yX0_shares (ws_ yX0_shares cX0_shares 6 none)) := lw_V hl q1431 qs51 q144 q1432
theorem nn_x0_shares : yX0_shares.cls = RX0 ∧ yX0_shares.cls ≠ "java/lang/invoke/MethodHandle" ∧ yX0_shares.cls ≠ "java/lang/invoke/VarHandle" ∧ (parseMethodDescriptor yX0_shares.desc).map (fun d => d.parameters.length) = some 2 := by decide +kernel
def rm_x0_shares (d : Nat) : Room := { frames := d + 1, cells := 0, slots := 0, locals := d * 25 + 21 }
noncomputable def x0_shares_L86 (N : Nat) (rc : gz_V → Int32 → Int32 → Option (gz_V)) (V : gz_V) (v2 : Int32) : Nat → Int32 → Int32 → Int32 → Option (Int32 × Int32)
  | 0, _, _, _ => none
  | n + 1, v3, v4, v5 => (if v2 ≤ v5 then some (v3, v4) else gz_gd (gz_inb v5 4 = true) (gz_let ((gz_max v3 (V (11, 12, 0) v5.toNatClampNeg))) (fun x4 => gz_gd (gz_inb v5 4 = true) (gz_let ((gz_min v4 (V (11, 12, 0) v5.toNatClampNeg))) (fun x7 => x0_shares_L86 N rc V v2 n x4 x7 (v5 + 1))))))
theorem w_x0_shares_L86 {X : gz_X} {ad : gz_A0} {N : Nat} {d : Nat} {rc : gz_V → Int32 → Int32 → Option (gz_V)} {Ds : gz_S} {Df : gz_R} {V : gz_V} {v2 : Int32} {o3 : Int32} {o4 : Int32} (hX : gz_ok X cX0_shares RX0 "shares" 6 (rm_x0_shares (d + 1)) none) (hZ : gz_Z X) (hrc : ∀ {l : Launch} {D : va_G} {aC : Nat → ClassId} {ad : gz_A0} {V : gz_V} {a1 : Int32} {a2 : Int32} {W1 : gz_V}, rc V a1 a2 = some W1 → gz_Met l yX0_shares cX0_shares 6 none (rm_x0_shares d) D aC ad (xw_s Ds) V (xw_c Df) [.ref (ad (10, 0, 0)), .int a1, .int a2] (gz_F1 (xw_s Ds) (xw_c Df) ad W1 none) 0 0) (k : gW X 6 (xw_s Ds) (xw_c Df) ad V 0 0 124 [(0, .ref (ad (10, 0, 0))), (3, .int o3), (4, .int o4)] []) : ∀ (n : Nat) {v3 : Int32} {v4 : Int32} {v5 : Int32}, x0_shares_L86 N rc V v2 n v3 v4 v5 = some (o3, o4) → gW X 6 (xw_s Ds) (xw_c Df) ad V 0 0 86 [(0, .ref (ad (10, 0, 0))), (2, .int v2), (3, .int v3), (4, .int v4), (5, .int v5)] [] := by
  intro n
  induction n with
  | zero => intro v3 v4 v5 h; rw [x0_shares_L86] at h; cases h
  | succ n ih =>
    intro v3 v4 v5 h
    rw [x0_shares_L86] at h
    refine gz_iload (q := 4) hX dX0_shares_86 rfl ?_
    refine gz_iload_n (q := 1) hX dX0_shares_88 rfl rfl ?_
    refine gz_icmp_ge (tgt := 124) hX dX0_shares_89 (by decide) (fun c2 => ?_) (fun c2 => ?_)
    · have h := gz_ifp c2 h
      obtain ⟨rfl, rfl⟩ := gz_in2 h
      exact gz_lv [0, 2, 3] rfl k
    · have h := gz_ifn c2 h
      refine gz_iload_n (q := 2) hX dX0_shares_92 rfl rfl ?_
      refine gz_aload_n (q := 0) hX dX0_shares_93 rfl rfl ?_
      refine xg_X0_45 (n2 := (11, 12, 0)) hX xs_main rfl dX0_shares_94 ?_
      refine gz_iload (q := 4) hX dX0_shares_97 rfl ?_
      obtain ⟨b3, h⟩ := gz_gd_o h
      refine gz_iald (L := 4) hX xs_pen (gz_inb_o b3) dX0_shares_99 ?_
      refine gz_mmax hX q1153 q867 q156 q868 ⟨by simp only [rm_x0_shares]; omega, by simp only [rm_x0_shares]; omega, Nat.zero_le _, Nat.zero_le _⟩ (Nat.le_of_ble_eq_true rfl) dX0_shares_100 ?_
      obtain ⟨x4, e5, h⟩ := gz_let_o h
      refine gz_nm e5 ?_
      refine gz_istore_n (lv2 := [(3, .int x4), (0, .ref (ad (10, 0, 0))), (2, .int v2), (4, .int v4), (5, .int v5)]) hX dX0_shares_103 rfl (by decide) rfl ?_
      refine gz_iload (q := 3) hX dX0_shares_104 rfl ?_
      refine gz_aload_n (q := 1) hX dX0_shares_106 rfl rfl ?_
      refine xg_X0_45 (n2 := (11, 12, 0)) hX xs_main rfl dX0_shares_107 ?_
      refine gz_iload (q := 4) hX dX0_shares_110 rfl ?_
      obtain ⟨b6, h⟩ := gz_gd_o h
      refine gz_iald (L := 4) hX xs_pen (gz_inb_o b6) dX0_shares_112 ?_
      refine gz_mmin hX q1152 q906 q156 q907 ⟨by simp only [rm_x0_shares]; omega, by simp only [rm_x0_shares]; omega, Nat.zero_le _, Nat.zero_le _⟩ (Nat.le_of_ble_eq_true rfl) dX0_shares_113 ?_
      obtain ⟨x7, e8, h⟩ := gz_let_o h
      refine gz_nm e8 ?_
      refine gz_istore (lv2 := [(4, .int x7), (3, .int x4), (0, .ref (ad (10, 0, 0))), (2, .int v2), (5, .int v5)]) hX dX0_shares_116 (by decide) rfl ?_
      refine gz_iinc (q := 4) (lv2 := [(5, .int (v5 + 1)), (4, .int x7), (3, .int x4), (0, .ref (ad (10, 0, 0))), (2, .int v2)]) hX dX0_shares_118 rfl gl_c_1 (by decide) rfl ?_
      refine gz_goto (tgt := 86) hX dX0_shares_121 (by decide) ?_
      exact gz_lv [3, 4, 2, 1, 0] rfl (ih h)
noncomputable def x0_shares_L16 (N : Nat) (rc : gz_V → Int32 → Int32 → Option (gz_V)) (v1 : Int32) (v2 : Int32) : Nat → gz_V → Int32 → Option (gz_V)
  | 0, _, _ => none
  | n + 1, V, v3 => (if v2 ≤ v3 then some V else gz_gd (gz_inb v3 4 = true) (gz_bd (x3_first V 0 3 v1) (fun r18 => gz_gd (gz_inb v3 4 = true) (gz_let (gz_up V (11, 12, 0) v3.toNatClampNeg ((V (11, 12, 0) v3.toNatClampNeg) + r18)) (fun V21 => gz_bd (rc V21 (v1 + 1) v2) (fun V23 => gz_gd (gz_inb v3 4 = true) (gz_bd (x3_first V23 0 3 v1) (fun r26 => gz_gd (gz_inb v3 4 = true) (gz_let (gz_up V23 (11, 12, 0) v3.toNatClampNeg ((V23 (11, 12, 0) v3.toNatClampNeg) - r26)) (fun V29 => x0_shares_L16 N rc v1 v2 n V29 (v3 + 1)))))))))))
theorem w_x0_shares_L16 {X : gz_X} {ad : gz_A0} {N : Nat} {d : Nat} {rc : gz_V → Int32 → Int32 → Option (gz_V)} {Ds : gz_S} {Df : gz_R} {v1 : Int32} {v2 : Int32} {W1 : gz_V} (hX : gz_ok X cX0_shares RX0 "shares" 6 (rm_x0_shares (d + 1)) none) (hZ : gz_Z X) (hrc : ∀ {l : Launch} {D : va_G} {aC : Nat → ClassId} {ad : gz_A0} {V : gz_V} {a1 : Int32} {a2 : Int32} {W1 : gz_V}, rc V a1 a2 = some W1 → gz_Met l yX0_shares cX0_shares 6 none (rm_x0_shares d) D aC ad (xw_s Ds) V (xw_c Df) [.ref (ad (10, 0, 0)), .int a1, .int a2] (gz_F1 (xw_s Ds) (xw_c Df) ad W1 none) 0 0) (k : gW X 6 (xw_s Ds) (xw_c Df) ad W1 0 0 75 [] []) : ∀ (n : Nat) {V : gz_V} {v3 : Int32}, x0_shares_L16 N rc v1 v2 n V v3 = some W1 → gW X 6 (xw_s Ds) (xw_c Df) ad V 0 0 16 [(0, .ref (ad (10, 0, 0))), (1, .int v1), (2, .int v2), (3, .int v3)] [] := by
  intro n
  induction n with
  | zero => intro V v3 h; rw [x0_shares_L16] at h; cases h
  | succ n ih =>
    intro V v3 h
    rw [x0_shares_L16] at h
    refine gz_iload_n (q := 3) hX dX0_shares_16 rfl rfl ?_
    refine gz_iload_n (q := 2) hX dX0_shares_17 rfl rfl ?_
    refine gz_icmp_ge (tgt := 75) hX dX0_shares_18 (by decide) (fun c16 => ?_) (fun c16 => ?_)
    · have h := gz_ifp c16 h
      obtain rfl := gz_in1 h
      exact gz_lv [] rfl k
    · have h := gz_ifn c16 h
      refine gz_aload_n (q := 0) hX dX0_shares_21 rfl rfl ?_
      refine xg_X0_45 (n2 := (11, 12, 0)) hX xs_main rfl dX0_shares_22 ?_
      refine gz_iload_n (q := 3) hX dX0_shares_25 rfl rfl ?_
      refine gz_dup2 hX dX0_shares_26 rfl rfl ?_
      obtain ⟨b17, h⟩ := gz_gd_o h
      refine gz_iald (L := 4) hX xs_pen (gz_inb_o b17) dX0_shares_27 ?_
      refine gz_aload_n (q := 0) hX dX0_shares_28 rfl rfl ?_
      refine xg_X0_20 (n2 := (20, 0, 0)) hX xs_main rfl dX0_shares_29 ?_
      refine xg_X0_341 (n2 := (27, 0, 3)) hX (xs_M (by decide)) rfl dX0_shares_32 ?_
      refine gz_iload_n (q := 1) hX dX0_shares_35 rfl rfl ?_
      obtain ⟨r18, e19, h⟩ := gz_bd_o h
      refine gu_callV (ci := 3) (n := (27, 0, 3)) (As := [.int v1]) hX (c_x3_first (by decide) (by decide) e19) (lw_x3_first_ q1326) rfl rfl nn_x3_first ⟨by simp only [rm_x0_shares, rm_x3_first]; omega, by simp only [rm_x0_shares, rm_x3_first]; omega⟩ ⟨Nat.zero_le _, Nat.zero_le _⟩ (by decide) rfl (xs_RO (by decide) (by decide)) rfl rfl (Nat.le_of_ble_eq_true rfl) dX0_shares_36 rfl ?_
      refine gz_iadd hX dX0_shares_39 ?_
      obtain ⟨b20, h⟩ := gz_gd_o h
      obtain ⟨V21, e22, h⟩ := gz_let_o h
      refine gz_iast (L := 4) hX xs_pen (gz_ne0 10 rfl) (gz_inb_o b20) dX0_shares_40 e22 ?_
      refine gz_aload_n (q := 0) hX dX0_shares_41 rfl rfl ?_
      refine gz_iload_n (q := 1) hX dX0_shares_42 rfl rfl ?_
      refine gz_iconst (v := 1) hX dX0_shares_43 gl_c_1 ?_
      refine gz_iadd hX dX0_shares_44 ?_
      refine gz_iload_n (q := 2) hX dX0_shares_45 rfl rfl ?_
      obtain ⟨V23, e24, h⟩ := gz_bd_o h
      refine gu_callV (ci := 0) (n := (10, 0, 0)) (As := [.int (v1 + 1), .int v2]) hX (hrc e24) (lw_x0_shares_ q1429) rfl rfl nn_x0_shares ⟨by simp only [rm_x0_shares]; omega, by simp only [rm_x0_shares]; omega⟩ ⟨Nat.zero_le _, Nat.zero_le _⟩ (by decide) rfl xs_main rfl rfl (Nat.le_of_ble_eq_true rfl) dX0_shares_46 rfl ?_
      refine gz_aload_n (q := 0) hX dX0_shares_49 rfl rfl ?_
      refine xg_X0_45 (n2 := (11, 12, 0)) hX xs_main rfl dX0_shares_50 ?_
      refine gz_iload_n (q := 3) hX dX0_shares_53 rfl rfl ?_
      refine gz_dup2 hX dX0_shares_54 rfl rfl ?_
      obtain ⟨b25, h⟩ := gz_gd_o h
      refine gz_iald (L := 4) hX xs_pen (gz_inb_o b25) dX0_shares_55 ?_
      refine gz_aload_n (q := 0) hX dX0_shares_56 rfl rfl ?_
      refine xg_X0_20 (n2 := (20, 0, 0)) hX xs_main rfl dX0_shares_57 ?_
      refine xg_X0_341 (n2 := (27, 0, 3)) hX (xs_M (by decide)) rfl dX0_shares_60 ?_
      refine gz_iload_n (q := 1) hX dX0_shares_63 rfl rfl ?_
      obtain ⟨r26, e27, h⟩ := gz_bd_o h
      refine gu_callV (ci := 3) (n := (27, 0, 3)) (As := [.int v1]) hX (c_x3_first (by decide) (by decide) e27) (lw_x3_first_ q1326) rfl rfl nn_x3_first ⟨by simp only [rm_x0_shares, rm_x3_first]; omega, by simp only [rm_x0_shares, rm_x3_first]; omega⟩ ⟨Nat.zero_le _, Nat.zero_le _⟩ (by decide) rfl (xs_RO (by decide) (by decide)) rfl rfl (Nat.le_of_ble_eq_true rfl) dX0_shares_64 rfl ?_
      refine gz_isub hX dX0_shares_67 ?_
      obtain ⟨b28, h⟩ := gz_gd_o h
      obtain ⟨V29, e30, h⟩ := gz_let_o h
      refine gz_iast (L := 4) hX xs_pen (gz_ne0 10 rfl) (gz_inb_o b28) dX0_shares_68 e30 ?_
      refine gz_iinc (q := 3) (lv2 := [(3, .int (v3 + 1)), (0, .ref (ad (10, 0, 0))), (1, .int v1), (2, .int v2)]) hX dX0_shares_69 rfl gl_c_1 (by decide) rfl ?_
      refine gz_goto (tgt := 16) hX dX0_shares_72 (by decide) ?_
      exact gz_lv [1, 2, 3, 0] rfl (ih h)
noncomputable def x0_shares_B (N : Nat) (rc : gz_V → Int32 → Int32 → Option (gz_V)) (V : gz_V) (a1 : Int32) (a2 : Int32) : Option (gz_V) := (if (V (27, 0, 3) 1) ≤ a1 then gz_b2 (x0_shares_L86 N rc V a2 N 0 1000000 0) (fun x2 x3 => (if (V (10, 0, 0) 13) < x2 then some V else (if x2 = (V (10, 0, 0) 13) then (if (x2 - x3) < (V (10, 0, 0) 14) then gz_let (gz_up V (10, 0, 0) 13 x2) (fun V12 => gz_let (gz_up V12 (10, 0, 0) 14 (x2 - x3)) (fun V14 => some V14)) else some V) else gz_let (gz_up V (10, 0, 0) 13 x2) (fun V7 => gz_let (gz_up V7 (10, 0, 0) 14 (x2 - x3)) (fun V9 => some V9))))) else gz_bd (x0_shares_L16 N rc a1 a2 N V 0) (fun V16 => some V16))
theorem c_x0_shares_B {l : Launch} {D : va_G} {aC : Nat → ClassId} {ad : gz_A0} {N : Nat} {d : Nat} {rc : gz_V → Int32 → Int32 → Option (gz_V)} {Ds : gz_S} {Df : gz_R} {V : gz_V} {a1 : Int32} {a2 : Int32} {W1 : gz_V} (hrc : ∀ {l : Launch} {D : va_G} {aC : Nat → ClassId} {ad : gz_A0} {V : gz_V} {a1 : Int32} {a2 : Int32} {W1 : gz_V}, rc V a1 a2 = some W1 → gz_Met l yX0_shares cX0_shares 6 none (rm_x0_shares d) D aC ad (xw_s Ds) V (xw_c Df) [.ref (ad (10, 0, 0)), .int a1, .int a2] (gz_F1 (xw_s Ds) (xw_c Df) ad W1 none) 0 0) (h : x0_shares_B N rc V a1 a2 = some W1) : gz_Met l yX0_shares cX0_shares 6 none (rm_x0_shares (d + 1)) D aC ad (xw_s Ds) V (xw_c Df) [.ref (ad (10, 0, 0)), .int a1, .int a2] (gz_F1 (xw_s Ds) (xw_c Df) ad W1 none) 0 0 := by
  refine gu_ofW (own := RX0) (mn := "shares") (lv := [(0, .ref (ad (10, 0, 0))), (1, .int a1), (2, .int a2)]) (by decide) rfl rfl (Nat.le_of_ble_eq_true rfl) rfl ?_
  intro X hX hZ hF
  rw [x0_shares_B] at h
  refine gz_iload_n (q := 1) hX dX0_shares_0 rfl rfl ?_
  refine gz_aload_n (q := 0) hX dX0_shares_1 rfl rfl ?_
  refine xg_X0_20 (n2 := (20, 0, 0)) hX xs_main rfl dX0_shares_2 ?_
  refine xg_X0_341 (n2 := (27, 0, 3)) hX (xs_M (by decide)) rfl dX0_shares_5 ?_
  refine xg_X0_280 hX (xs_RO (by decide) (by decide)) dX0_shares_8 ?_
  refine gz_icmp_ge (tgt := 76) hX dX0_shares_11 (by decide) (fun c1 => ?_) (fun c1 => ?_)
  · have h := gz_ifp c1 h
    refine gz_iconst (v := 0) hX dX0_shares_76 gl_c_0 ?_
    refine gz_istore_n (lv2 := [(3, .int 0), (0, .ref (ad (10, 0, 0))), (1, .int a1), (2, .int a2)]) hX dX0_shares_77 rfl (by decide) rfl ?_
    refine gz_ldcw (v := 1000000) hX q1428 dX0_shares_78 ?_
    refine gz_istore (lv2 := [(4, .int 1000000), (3, .int 0), (0, .ref (ad (10, 0, 0))), (1, .int a1), (2, .int a2)]) hX dX0_shares_81 (by decide) rfl ?_
    refine gz_iconst (v := 0) hX dX0_shares_83 gl_c_0 ?_
    refine gz_istore (lv2 := [(5, .int 0), (4, .int 1000000), (3, .int 0), (0, .ref (ad (10, 0, 0))), (1, .int a1), (2, .int a2)]) hX dX0_shares_84 (by decide) rfl ?_
    obtain ⟨x2, x3, e4, h⟩ := gz_b2_o h
    refine gz_lv [3, 5, 2, 1, 0] rfl (w_x0_shares_L86 hX hZ hrc ?_ N e4)
    refine gz_iload_n (q := 1) hX dX0_shares_124 rfl rfl ?_
    refine gz_aload_n (q := 0) hX dX0_shares_125 rfl rfl ?_
    refine xg_X0_348 hX xs_main dX0_shares_126 ?_
    refine gz_icmp_gt (tgt := 151) hX dX0_shares_129 (by decide) (fun c5 => ?_) (fun c5 => ?_)
    · have h := gz_ifp c5 h
      exact gu_vret hX hZ hF (gz_in1 h) rfl dX0_shares_151
    · have h := gz_ifn c5 h
      refine gz_iload_n (q := 1) hX dX0_shares_132 rfl rfl ?_
      refine gz_aload_n (q := 0) hX dX0_shares_133 rfl rfl ?_
      refine xg_X0_348 hX xs_main dX0_shares_134 ?_
      refine gz_icmp_ne (tgt := 152) hX dX0_shares_137 (by decide) (fun c6 => ?_) (fun c6 => ?_)
      · have h := gz_ifn c6 h
        refine gz_aload_n (q := 0) hX dX0_shares_152 rfl rfl ?_
        refine gz_iload_n (q := 1) hX dX0_shares_153 rfl rfl ?_
        obtain ⟨V7, e8, h⟩ := gz_let_o h
        refine xp_X0_348 hX xs_main (gz_ne0 9 rfl) dX0_shares_154 e8 ?_
        refine gz_aload_n (q := 0) hX dX0_shares_157 rfl rfl ?_
        refine gz_iload_n (q := 1) hX dX0_shares_158 rfl rfl ?_
        refine gz_iload (q := 2) hX dX0_shares_159 rfl ?_
        refine gz_isub hX dX0_shares_161 ?_
        obtain ⟨V9, e10, h⟩ := gz_let_o h
        refine xp_X0_351 hX xs_main (gz_ne0 9 rfl) dX0_shares_162 e10 ?_
        exact gu_vret hX hZ hF (gz_in1 h) rfl dX0_shares_165
      · have h := gz_ifp c6 h
        refine gz_iload_n (q := 1) hX dX0_shares_140 rfl rfl ?_
        refine gz_iload (q := 2) hX dX0_shares_141 rfl ?_
        refine gz_isub hX dX0_shares_143 ?_
        refine gz_aload_n (q := 0) hX dX0_shares_144 rfl rfl ?_
        refine xg_X0_351 hX xs_main dX0_shares_145 ?_
        refine gz_icmp_lt (tgt := 152) hX dX0_shares_148 (by decide) (fun c11 => ?_) (fun c11 => ?_)
        · have h := gz_ifp c11 h
          refine gz_aload_n (q := 0) hX dX0_shares_152 rfl rfl ?_
          refine gz_iload_n (q := 1) hX dX0_shares_153 rfl rfl ?_
          obtain ⟨V12, e13, h⟩ := gz_let_o h
          refine xp_X0_348 hX xs_main (gz_ne0 9 rfl) dX0_shares_154 e13 ?_
          refine gz_aload_n (q := 0) hX dX0_shares_157 rfl rfl ?_
          refine gz_iload_n (q := 1) hX dX0_shares_158 rfl rfl ?_
          refine gz_iload (q := 2) hX dX0_shares_159 rfl ?_
          refine gz_isub hX dX0_shares_161 ?_
          obtain ⟨V14, e15, h⟩ := gz_let_o h
          refine xp_X0_351 hX xs_main (gz_ne0 9 rfl) dX0_shares_162 e15 ?_
          exact gu_vret hX hZ hF (gz_in1 h) rfl dX0_shares_165
        · have h := gz_ifn c11 h
          exact gu_vret hX hZ hF (gz_in1 h) rfl dX0_shares_151
  · have h := gz_ifn c1 h
    refine gz_iconst (v := 0) hX dX0_shares_14 gl_c_0 ?_
    refine gz_istore_n (lv2 := [(3, .int 0), (0, .ref (ad (10, 0, 0))), (1, .int a1), (2, .int a2)]) hX dX0_shares_15 rfl (by decide) rfl ?_
    obtain ⟨V16, e17, h⟩ := gz_bd_o h
    refine gz_lv [1, 2, 3, 0] rfl (w_x0_shares_L16 hX hZ hrc ?_ N e17)
    exact gu_vret hX hZ hF (gz_in1 h) rfl dX0_shares_75
noncomputable def x0_shares (N : Nat) : Nat → gz_V → Int32 → Int32 → Option (gz_V)
  | 0 => fun _ _ _ => none
  | d + 1 => x0_shares_B N (x0_shares N d)
theorem c_x0_shares_d {N : Nat} {Ds : gz_S} {Df : gz_R} : ∀ (d : Nat) {l : Launch} {D : va_G} {aC : Nat → ClassId} {ad : gz_A0} {V : gz_V} {a1 : Int32} {a2 : Int32} {W1 : gz_V}, x0_shares N d V a1 a2 = some W1 → gz_Met l yX0_shares cX0_shares 6 none (rm_x0_shares d) D aC ad (xw_s Ds) V (xw_c Df) [.ref (ad (10, 0, 0)), .int a1, .int a2] (gz_F1 (xw_s Ds) (xw_c Df) ad W1 none) 0 0 := by
  intro d
  induction d with
  | zero => intro l D aC ad V a1 a2 W1 h; cases h
  | succ d ih => intro l D aC ad V a1 a2 W1 h; exact c_x0_shares_B ih h
theorem c_x0_shares {l : Launch} {D : va_G} {aC : Nat → ClassId} {ad : gz_A0} {N : Nat} {Ds : gz_S} {Df : gz_R} {V : gz_V} {a1 : Int32} {a2 : Int32} {W1 : gz_V} (h : x0_shares N 9 V a1 a2 = some W1) : gz_Met l yX0_shares cX0_shares 6 none (rm_x0_shares 9) D aC ad (xw_s Ds) V (xw_c Df) [.ref (ad (10, 0, 0)), .int a1, .int a2] (gz_F1 (xw_s Ds) (xw_c Df) ad W1 none) 0 0 := c_x0_shares_d 9 h
def rm_x0_pens : Room := { frames := 11, cells := 0, slots := 0, locals := 271 }
noncomputable def x0_pens (N : Nat) (V : gz_V) (a1 : Int32) (a2 : Int32) : Option (gz_V × Int32) := (if (x0_isIn a1 1 4) = 0 then some (V, (-1)) else (if (x0_isIn a2 0 1) = 0 then some (V, (-1)) else gz_let (gz_up V (10, 0, 0) 13 1000000) (fun V3 => gz_let (gz_up V3 (10, 0, 0) 14 1000000) (fun V5 => gz_bd (x0_shares N 9 V5 0 a1) (fun V7 => (if a2 = 0 then some (V7, (V7 (10, 0, 0) 13)) else some (V7, (V7 (10, 0, 0) 14))))))))
theorem c_x0_pens {l : Launch} {D : va_G} {aC : Nat → ClassId} {ad : gz_A0} {N : Nat} {Ds : gz_S} {Df : gz_R} {V : gz_V} {a1 : Int32} {a2 : Int32} {W1 : gz_V} {r : Int32} (h : x0_pens N V a1 a2 = some (W1, r)) : gz_Met l yX0_pens cX0_pens 3 (some .int) rm_x0_pens D aC ad (xw_s Ds) V (xw_c Df) [.ref (ad (10, 0, 0)), .int a1, .int a2] (gz_F1 (xw_s Ds) (xw_c Df) ad W1 (some (.int r))) 0 0 := by
  refine gu_ofW (own := RX0) (mn := "pens") (lv := [(0, .ref (ad (10, 0, 0))), (1, .int a1), (2, .int a2)]) (by decide) rfl rfl (Nat.le_of_ble_eq_true rfl) rfl ?_
  intro X hX hZ hF
  rw [x0_pens] at h
  refine gz_iload_n (q := 1) hX dX0_pens_0 rfl rfl ?_
  refine gz_iconst (v := 1) hX dX0_pens_1 gl_c_1 ?_
  refine gz_iconst (v := 4) hX dX0_pens_2 gl_c_4 ?_
  refine gu_callS (As := [.int a1, .int 1, .int 4]) hX (c_x0_isIn rfl) (lw_x0_isIn_ q502) rfl rfl nn_x0_isIn ⟨Nat.le_of_ble_eq_true rfl, Nat.le_of_ble_eq_true rfl⟩ ⟨Nat.zero_le _, Nat.zero_le _⟩ rfl rfl (Nat.le_of_ble_eq_true rfl) dX0_pens_3 rfl ?_
  refine gz_if_eq (tgt := 18) hX dX0_pens_6 (by decide) (fun c1 => ?_) (fun c1 => ?_)
  · have h := gz_ifp c1 h
    refine gz_iconst (v := (-1)) hX dX0_pens_18 gl_c_m1 ?_
    obtain ⟨e_V, e_r⟩ := gz_in2 h
    exact gu_iret hX hZ hF e_V rfl e_r dX0_pens_19
  · have h := gz_ifn c1 h
    refine gz_iload_n (q := 2) hX dX0_pens_9 rfl rfl ?_
    refine gz_iconst (v := 0) hX dX0_pens_10 gl_c_0 ?_
    refine gz_iconst (v := 1) hX dX0_pens_11 gl_c_1 ?_
    refine gu_callS (As := [.int a2, .int 0, .int 1]) hX (c_x0_isIn rfl) (lw_x0_isIn_ q502) rfl rfl nn_x0_isIn ⟨Nat.le_of_ble_eq_true rfl, Nat.le_of_ble_eq_true rfl⟩ ⟨Nat.zero_le _, Nat.zero_le _⟩ rfl rfl (Nat.le_of_ble_eq_true rfl) dX0_pens_12 rfl ?_
    refine gz_if_ne (tgt := 20) hX dX0_pens_15 (by decide) (fun c2 => ?_) (fun c2 => ?_)
    · have h := gz_ifn c2 h
      refine gz_aload_n (q := 0) hX dX0_pens_20 rfl rfl ?_
      refine gz_ldcw (v := 1000000) hX q1428 dX0_pens_21 ?_
      obtain ⟨V3, e4, h⟩ := gz_let_o h
      refine xp_X0_348 hX xs_main (gz_ne0 9 rfl) dX0_pens_24 e4 ?_
      refine gz_aload_n (q := 0) hX dX0_pens_27 rfl rfl ?_
      refine gz_ldcw (v := 1000000) hX q1428 dX0_pens_28 ?_
      obtain ⟨V5, e6, h⟩ := gz_let_o h
      refine xp_X0_351 hX xs_main (gz_ne0 9 rfl) dX0_pens_31 e6 ?_
      refine gz_aload_n (q := 0) hX dX0_pens_34 rfl rfl ?_
      refine gz_iconst (v := 0) hX dX0_pens_35 gl_c_0 ?_
      refine gz_iload_n (q := 1) hX dX0_pens_36 rfl rfl ?_
      obtain ⟨V7, e8, h⟩ := gz_bd_o h
      refine gu_callV (ci := 0) (n := (10, 0, 0)) (As := [.int 0, .int a1]) hX (c_x0_shares e8) (lw_x0_shares_ q1429) rfl rfl nn_x0_shares ⟨Nat.le_of_ble_eq_true rfl, Nat.le_of_ble_eq_true rfl⟩ ⟨Nat.zero_le _, Nat.zero_le _⟩ (by decide) rfl xs_main rfl rfl (Nat.le_of_ble_eq_true rfl) dX0_pens_37 rfl ?_
      refine gz_iload_n (q := 2) hX dX0_pens_40 rfl rfl ?_
      refine gz_if_ne (tgt := 51) hX dX0_pens_41 (by decide) (fun c9 => ?_) (fun c9 => ?_)
      · have h := gz_ifn c9 h
        refine gz_aload_n (q := 0) hX dX0_pens_51 rfl rfl ?_
        refine xg_X0_351 hX xs_main dX0_pens_52 ?_
        obtain ⟨e_V, e_r⟩ := gz_in2 h
        exact gu_iret hX hZ hF e_V rfl e_r dX0_pens_55
      · have h := gz_ifp c9 h
        refine gz_aload_n (q := 0) hX dX0_pens_44 rfl rfl ?_
        refine xg_X0_348 hX xs_main dX0_pens_45 ?_
        refine gz_goto (tgt := 55) hX dX0_pens_48 (by decide) ?_
        obtain ⟨e_V, e_r⟩ := gz_in2 h
        exact gu_iret hX hZ hF e_V rfl e_r dX0_pens_55
    · have h := gz_ifp c2 h
      refine gz_iconst (v := (-1)) hX dX0_pens_18 gl_c_m1 ?_
      obtain ⟨e_V, e_r⟩ := gz_in2 h
      exact gu_iret hX hZ hF e_V rfl e_r dX0_pens_19
theorem lw_x0_pens_ {o : String} {i : Nat} (hl : Cond.methodLink o i yX0_pens ∈ lw_all) : GoodIn lw_all (wsV o i RX0 yX0_pens (ws_ yX0_pens cX0_pens 3 (some .int))) := lw_V hl q1425 q1426 q144 q1427
theorem nn_x0_pens : yX0_pens.cls = RX0 ∧ yX0_pens.cls ≠ "java/lang/invoke/MethodHandle" ∧ yX0_pens.cls ≠ "java/lang/invoke/VarHandle" ∧ (parseMethodDescriptor yX0_pens.desc).map (fun d => d.parameters.length) = some 2 := by decide +kernel
def rm_x4_begins : Room := { frames := 0, cells := 0, slots := 0, locals := 0 }
noncomputable def x4_begins_L2 (N : Nat) (u1 : Nat) (u2 : Nat) (v1 : Int32) (v2 : Int32) : Nat → gz_V → Int32 → Option (gz_V)
  | 0, _, _ => none
  | n + 1, V, v3 => (if 5 ≤ v3 then some V else gz_gd (gz_inb v3 5 = true) (gz_let (gz_up V (41, u1, u2) v3.toNatClampNeg v2) (fun V3 => x4_begins_L2 N u1 u2 v1 v2 n V3 (v3 + 1))))
theorem w_x4_begins_L2 {X : gz_X} {ad : gz_A0} {N : Nat} {Ds : gz_S} {Df : gz_R} {u1 : Nat} {u2 : Nat} {v1 : Int32} {v2 : Int32} {W1 : gz_V} (hX : gz_ok X cX4_begins RX4 "begins" 4 rm_x4_begins none) (hZ : gz_Z X) (hu1 : u1 < 9) (hu2 : u2 < 12) (k : gW X 4 (xw_s Ds) (xw_c Df) ad W1 0 0 20 [(0, .ref (ad (40, u1, u2))), (1, .int v1)] []) : ∀ (n : Nat) {V : gz_V} {v3 : Int32}, x4_begins_L2 N u1 u2 v1 v2 n V v3 = some W1 → gW X 4 (xw_s Ds) (xw_c Df) ad V 0 0 2 [(0, .ref (ad (40, u1, u2))), (1, .int v1), (2, .int v2), (3, .int v3)] [] := by
  intro n
  induction n with
  | zero => intro V v3 h; rw [x4_begins_L2] at h; cases h
  | succ n ih =>
    intro V v3 h
    rw [x4_begins_L2] at h
    refine gz_iload_n (q := 3) hX dX4_begins_2 rfl rfl ?_
    refine gz_iconst (v := 5) hX dX4_begins_3 gl_c_5 ?_
    refine gz_icmp_ge (tgt := 20) hX dX4_begins_4 (by decide) (fun c1 => ?_) (fun c1 => ?_)
    · have h := gz_ifp c1 h
      obtain rfl := gz_in1 h
      exact gz_lv [0, 1] rfl k
    · have h := gz_ifn c1 h
      refine gz_aload_n (q := 0) hX dX4_begins_7 rfl rfl ?_
      refine xg_X4_9 (n2 := (41, u1, u2)) hX (xs_P hu1 hu2) rfl dX4_begins_8 ?_
      refine gz_iload_n (q := 3) hX dX4_begins_11 rfl rfl ?_
      refine gz_iload_n (q := 2) hX dX4_begins_12 rfl rfl ?_
      obtain ⟨b2, h⟩ := gz_gd_o h
      obtain ⟨V3, e4, h⟩ := gz_let_o h
      refine gz_iast (L := 5) hX (xs_T hu1 hu2) (gz_ne0 40 rfl) (gz_inb_o b2) dX4_begins_13 e4 ?_
      refine gz_iinc (q := 3) (lv2 := [(3, .int (v3 + 1)), (0, .ref (ad (40, u1, u2))), (1, .int v1), (2, .int v2)]) hX dX4_begins_14 rfl gl_c_1 (by decide) rfl ?_
      refine gz_goto (tgt := 2) hX dX4_begins_17 (by decide) ?_
      exact gz_lv [1, 2, 3, 0] rfl (ih h)
noncomputable def x4_begins (N : Nat) (V : gz_V) (u1 : Nat) (u2 : Nat) (a1 : Int32) (a2 : Int32) : Option (gz_V) := gz_bd (x4_begins_L2 N u1 u2 a1 a2 N V 0) (fun V1 => gz_let (gz_up V1 (40, u1, u2) 1 a1) (fun V3 => gz_let (gz_up V3 (40, u1, u2) 2 0) (fun V5 => gz_let (gz_up V5 (40, u1, u2) 3 0) (fun V7 => some V7))))
theorem c_x4_begins {l : Launch} {D : va_G} {aC : Nat → ClassId} {ad : gz_A0} {N : Nat} {Ds : gz_S} {Df : gz_R} {V : gz_V} {u1 : Nat} {u2 : Nat} {a1 : Int32} {a2 : Int32} {W1 : gz_V} (hu1 : u1 < 9) (hu2 : u2 < 12) (h : x4_begins N V u1 u2 a1 a2 = some W1) : gz_Met l yX4_begins cX4_begins 4 none rm_x4_begins D aC ad (xw_s Ds) V (xw_c Df) [.ref (ad (40, u1, u2)), .int a1, .int a2] (gz_F1 (xw_s Ds) (xw_c Df) ad W1 none) 0 0 := by
  refine gu_ofW (own := RX4) (mn := "begins") (lv := [(0, .ref (ad (40, u1, u2))), (1, .int a1), (2, .int a2)]) (by decide) rfl rfl (Nat.le_of_ble_eq_true rfl) rfl ?_
  intro X hX hZ hF
  rw [x4_begins] at h
  refine gz_iconst (v := 0) hX dX4_begins_0 gl_c_0 ?_
  refine gz_istore_n (lv2 := [(3, .int 0), (0, .ref (ad (40, u1, u2))), (1, .int a1), (2, .int a2)]) hX dX4_begins_1 rfl (by decide) rfl ?_
  obtain ⟨V1, e2, h⟩ := gz_bd_o h
  refine gz_lv [1, 2, 3, 0] rfl (w_x4_begins_L2 hX hZ hu1 hu2 ?_ N e2)
  refine gz_aload_n (q := 0) hX dX4_begins_20 rfl rfl ?_
  refine gz_iload_n (q := 1) hX dX4_begins_21 rfl rfl ?_
  obtain ⟨V3, e4, h⟩ := gz_let_o h
  refine xp_X4_15 hX (xs_P hu1 hu2) (gz_ne0 39 rfl) dX4_begins_22 e4 ?_
  refine gz_aload_n (q := 0) hX dX4_begins_25 rfl rfl ?_
  refine gz_iconst (v := 0) hX dX4_begins_26 gl_c_0 ?_
  obtain ⟨V5, e6, h⟩ := gz_let_o h
  refine xp_X4_19 hX (xs_P hu1 hu2) (gz_ne0 39 rfl) dX4_begins_27 e6 ?_
  refine gz_aload_n (q := 0) hX dX4_begins_30 rfl rfl ?_
  refine gz_iconst (v := 0) hX dX4_begins_31 gl_c_0 ?_
  obtain ⟨V7, e8, h⟩ := gz_let_o h
  refine xp_X4_22 hX (xs_P hu1 hu2) (gz_ne0 39 rfl) dX4_begins_32 e8 ?_
  exact gu_vret hX hZ hF (gz_in1 h) rfl dX4_begins_35
theorem lw_x4_begins_ {o : String} {i : Nat} (hl : Cond.methodLink o i yX4_begins ∈ lw_all) : GoodIn lw_all (wsV o i RX4 yX4_begins (ws_ yX4_begins cX4_begins 4 none)) := lw_V hl q1052 q1053 q151 q1054
theorem nn_x4_begins : yX4_begins.cls = RX4 ∧ yX4_begins.cls ≠ "java/lang/invoke/MethodHandle" ∧ yX4_begins.cls ≠ "java/lang/invoke/VarHandle" ∧ (parseMethodDescriptor yX4_begins.desc).map (fun d => d.parameters.length) = some 2 := by decide +kernel
def rm_x0_person : Room := { frames := 1, cells := 0, slots := 0, locals := 23 }
noncomputable def x0_person (N : Nat) (V : gz_V) (a1 : Int32) (a2 : Int32) : Option (gz_V × Int32) := (if (x0_isIn a1 0 9999) = 0 then some (V, (-1)) else (if (x0_isIn a2 0 999) = 0 then some (V, (-1)) else (if (V (20, 0, 0) 13) = 12 then some (V, (-1)) else gz_bd (x0_at (V (20, 0, 0) 13)) (fun w4 => gz_bd (x4_begins N V 0 w4 a1 a2) (fun V6 => gz_let (gz_up V6 (20, 0, 0) 13 ((V6 (20, 0, 0) 13) + 1)) (fun V8 => gz_b2 (x0_forgets V8) (fun V10 r11 => some (V10, ((V10 (20, 0, 0) 13) - 1)))))))))
theorem c_x0_person {l : Launch} {D : va_G} {aC : Nat → ClassId} {ad : gz_A0} {N : Nat} {Ds : gz_S} {Df : gz_R} {V : gz_V} {a1 : Int32} {a2 : Int32} {W1 : gz_V} {r : Int32} (h : x0_person N V a1 a2 = some (W1, r)) : gz_Met l yX0_person cX0_person 3 (some .int) rm_x0_person D aC ad (xw_s Ds) V (xw_c Df) [.ref (ad (10, 0, 0)), .int a1, .int a2] (gz_F1 (xw_s Ds) (xw_c Df) ad W1 (some (.int r))) 0 0 := by
  refine gu_ofW (own := RX0) (mn := "person") (lv := [(0, .ref (ad (10, 0, 0))), (1, .int a1), (2, .int a2)]) (by decide) rfl rfl (Nat.le_of_ble_eq_true rfl) rfl ?_
  intro X hX hZ hF
  rw [x0_person] at h
  refine gz_iload_n (q := 1) hX dX0_person_0 rfl rfl ?_
  refine gz_iconst (v := 0) hX dX0_person_1 gl_c_0 ?_
  refine gz_sipush (v := 9999) hX dX0_person_2 gl_s_9999 ?_
  refine gu_callS (As := [.int a1, .int 0, .int 9999]) hX (c_x0_isIn rfl) (lw_x0_isIn_ q502) rfl rfl nn_x0_isIn ⟨Nat.le_of_ble_eq_true rfl, Nat.le_of_ble_eq_true rfl⟩ ⟨Nat.zero_le _, Nat.zero_le _⟩ rfl rfl (Nat.le_of_ble_eq_true rfl) dX0_person_5 rfl ?_
  refine gz_if_eq (tgt := 34) hX dX0_person_8 (by decide) (fun c1 => ?_) (fun c1 => ?_)
  · have h := gz_ifp c1 h
    refine gz_iconst (v := (-1)) hX dX0_person_34 gl_c_m1 ?_
    obtain ⟨e_V, e_r⟩ := gz_in2 h
    exact gu_iret hX hZ hF e_V rfl e_r dX0_person_35
  · have h := gz_ifn c1 h
    refine gz_iload_n (q := 2) hX dX0_person_11 rfl rfl ?_
    refine gz_iconst (v := 0) hX dX0_person_12 gl_c_0 ?_
    refine gz_sipush (v := 999) hX dX0_person_13 gl_s_999 ?_
    refine gu_callS (As := [.int a2, .int 0, .int 999]) hX (c_x0_isIn rfl) (lw_x0_isIn_ q502) rfl rfl nn_x0_isIn ⟨Nat.le_of_ble_eq_true rfl, Nat.le_of_ble_eq_true rfl⟩ ⟨Nat.zero_le _, Nat.zero_le _⟩ rfl rfl (Nat.le_of_ble_eq_true rfl) dX0_person_16 rfl ?_
    refine gz_if_eq (tgt := 34) hX dX0_person_19 (by decide) (fun c2 => ?_) (fun c2 => ?_)
    · have h := gz_ifp c2 h
      refine gz_iconst (v := (-1)) hX dX0_person_34 gl_c_m1 ?_
      obtain ⟨e_V, e_r⟩ := gz_in2 h
      exact gu_iret hX hZ hF e_V rfl e_r dX0_person_35
    · have h := gz_ifn c2 h
      refine gz_aload_n (q := 0) hX dX0_person_22 rfl rfl ?_
      refine xg_X0_20 (n2 := (20, 0, 0)) hX xs_main rfl dX0_person_23 ?_
      refine xg_X0_137 hX (xs_M (by decide)) dX0_person_26 ?_
      refine gz_bipush (v := 12) hX dX0_person_29 gl_b_12 ?_
      refine gz_icmp_ne (tgt := 36) hX dX0_person_31 (by decide) (fun c3 => ?_) (fun c3 => ?_)
      · have h := gz_ifn c3 h
        refine gz_aload_n (q := 0) hX dX0_person_36 rfl rfl ?_
        refine gz_aload_n (q := 0) hX dX0_person_37 rfl rfl ?_
        refine xg_X0_20 (n2 := (20, 0, 0)) hX xs_main rfl dX0_person_38 ?_
        refine xg_X0_137 hX (xs_M (by decide)) dX0_person_41 ?_
        obtain ⟨w4, e5, h⟩ := gz_bd_o h
        refine gu_callV (ci := 0) (n := (10, 0, 0)) (As := [.int (V (20, 0, 0) 13)]) hX (c_x0_at e5) (lw_x0_at_ q1047) rfl rfl nn_x0_at ⟨Nat.le_of_ble_eq_true rfl, Nat.le_of_ble_eq_true rfl⟩ ⟨Nat.zero_le _, Nat.zero_le _⟩ (by decide) rfl xs_main rfl rfl (Nat.le_of_ble_eq_true rfl) dX0_person_44 rfl ?_
        refine gz_iload_n (q := 1) hX dX0_person_47 rfl rfl ?_
        refine gz_iload_n (q := 2) hX dX0_person_48 rfl rfl ?_
        obtain ⟨V6, e7, h⟩ := gz_bd_o h
        refine gu_callV (ci := 4) (n := (40, 0, w4)) (As := [.int a1, .int a2]) hX (c_x4_begins (by decide) (b_x0_at e5) e7) (lw_x4_begins_ q1051) rfl rfl nn_x4_begins ⟨Nat.le_of_ble_eq_true rfl, Nat.le_of_ble_eq_true rfl⟩ ⟨Nat.zero_le _, Nat.zero_le _⟩ (by decide) rfl (xs_P (by decide) (b_x0_at e5)) rfl rfl (Nat.le_of_ble_eq_true rfl) dX0_person_49 rfl ?_
        refine gz_aload_n (q := 0) hX dX0_person_52 rfl rfl ?_
        refine xg_X0_20 (n2 := (20, 0, 0)) hX xs_main rfl dX0_person_53 ?_
        refine gz_dupa hX dX0_person_56 ?_
        refine xg_X0_137 hX (xs_M (by decide)) dX0_person_57 ?_
        refine gz_iconst (v := 1) hX dX0_person_60 gl_c_1 ?_
        refine gz_iadd hX dX0_person_61 ?_
        obtain ⟨V8, e9, h⟩ := gz_let_o h
        refine xp_X0_137 hX (xs_M (by decide)) (gz_ne0 19 rfl) dX0_person_62 e9 ?_
        refine gz_aload_n (q := 0) hX dX0_person_65 rfl rfl ?_
        obtain ⟨V10, r11, e12, h⟩ := gz_b2_o h
        refine gu_callV (ci := 0) (n := (10, 0, 0)) (As := []) hX (c_x0_forgets e12) (lw_x0_forgets_ q949) rfl rfl nn_x0_forgets ⟨Nat.le_of_ble_eq_true rfl, Nat.le_of_ble_eq_true rfl⟩ ⟨Nat.zero_le _, Nat.zero_le _⟩ (by decide) rfl xs_main rfl rfl (Nat.le_of_ble_eq_true rfl) dX0_person_66 rfl ?_
        refine gz_pop hX dX0_person_69 rfl ?_
        refine gz_aload_n (q := 0) hX dX0_person_70 rfl rfl ?_
        refine xg_X0_20 (n2 := (20, 0, 0)) hX xs_main rfl dX0_person_71 ?_
        refine xg_X0_137 hX (xs_M (by decide)) dX0_person_74 ?_
        refine gz_iconst (v := 1) hX dX0_person_77 gl_c_1 ?_
        refine gz_isub hX dX0_person_78 ?_
        obtain ⟨e_V, e_r⟩ := gz_in2 h
        exact gu_iret hX hZ hF e_V rfl e_r dX0_person_79
      · have h := gz_ifp c3 h
        refine gz_iconst (v := (-1)) hX dX0_person_34 gl_c_m1 ?_
        obtain ⟨e_V, e_r⟩ := gz_in2 h
        exact gu_iret hX hZ hF e_V rfl e_r dX0_person_35
theorem lw_x0_person_ {o : String} {i : Nat} (hl : Cond.methodLink o i yX0_person ∈ lw_all) : GoodIn lw_all (wsV o i RX0 yX0_person (ws_ yX0_person cX0_person 3 (some .int))) := lw_V hl q1044 q1045 q144 q1046
theorem nn_x0_person : yX0_person.cls = RX0 ∧ yX0_person.cls ≠ "java/lang/invoke/MethodHandle" ∧ yX0_person.cls ≠ "java/lang/invoke/VarHandle" ∧ (parseMethodDescriptor yX0_person.desc).map (fun d => d.parameters.length) = some 2 := by decide +kernel
theorem gl_b_60 : (Int8.ofInt 60).toInt32 = 60 := by decide
def rm_x0_prices : Room := { frames := 71, cells := 0, slots := 0, locals := 1491 }
noncomputable def x0_prices (a1 : Int32) (a2 : Int32) (a3 : Int32) : Option (Int32) := (if (x0_isIn a1 2 60) = 0 then some (-1) else (if (x0_isIn a2 2 60) = 0 then some (-1) else (if (x0_isIn a3 0 1) = 0 then some (-1) else gz_bd (x0_common 70 a1 a2) (fun r4 => (if r4 = 1 then (if a3 = 0 then some (((a1 * a2) - a1) - a2) else some (((a1 - 1) * (a2 - 1)) / 2)) else some (-1))))))
theorem c_x0_prices {l : Launch} {D : va_G} {aC : Nat → ClassId} {ad : gz_A0} {Ds : gz_S} {Df : gz_R} {V : gz_V} {a1 : Int32} {a2 : Int32} {a3 : Int32} {r : Int32} (h : x0_prices a1 a2 a3 = some r) : gz_Met l yX0_prices cX0_prices 4 (some .int) rm_x0_prices D aC ad (xw_s Ds) V (xw_c Df) [.ref (ad (10, 0, 0)), .int a1, .int a2, .int a3] (gz_F1 (xw_s Ds) (xw_c Df) ad V (some (.int r))) 0 0 := by
  refine gu_ofW (own := RX0) (mn := "prices") (lv := [(0, .ref (ad (10, 0, 0))), (1, .int a1), (2, .int a2), (3, .int a3)]) (by decide) rfl rfl (Nat.le_of_ble_eq_true rfl) rfl ?_
  intro X hX hZ hF
  rw [x0_prices] at h
  refine gz_iload_n (q := 1) hX dX0_prices_0 rfl rfl ?_
  refine gz_iconst (v := 2) hX dX0_prices_1 gl_c_2 ?_
  refine gz_bipush (v := 60) hX dX0_prices_2 gl_b_60 ?_
  refine gu_callS (As := [.int a1, .int 2, .int 60]) hX (c_x0_isIn rfl) (lw_x0_isIn_ q502) rfl rfl nn_x0_isIn ⟨Nat.le_of_ble_eq_true rfl, Nat.le_of_ble_eq_true rfl⟩ ⟨Nat.zero_le _, Nat.zero_le _⟩ rfl rfl (Nat.le_of_ble_eq_true rfl) dX0_prices_4 rfl ?_
  refine gz_if_eq (tgt := 38) hX dX0_prices_7 (by decide) (fun c1 => ?_) (fun c1 => ?_)
  · have h := gz_ifp c1 h
    refine gz_iconst (v := (-1)) hX dX0_prices_38 gl_c_m1 ?_
    exact gu_iret hX hZ hF rfl rfl (gz_in1 h) dX0_prices_39
  · have h := gz_ifn c1 h
    refine gz_iload_n (q := 2) hX dX0_prices_10 rfl rfl ?_
    refine gz_iconst (v := 2) hX dX0_prices_11 gl_c_2 ?_
    refine gz_bipush (v := 60) hX dX0_prices_12 gl_b_60 ?_
    refine gu_callS (As := [.int a2, .int 2, .int 60]) hX (c_x0_isIn rfl) (lw_x0_isIn_ q502) rfl rfl nn_x0_isIn ⟨Nat.le_of_ble_eq_true rfl, Nat.le_of_ble_eq_true rfl⟩ ⟨Nat.zero_le _, Nat.zero_le _⟩ rfl rfl (Nat.le_of_ble_eq_true rfl) dX0_prices_14 rfl ?_
    refine gz_if_eq (tgt := 38) hX dX0_prices_17 (by decide) (fun c2 => ?_) (fun c2 => ?_)
    · have h := gz_ifp c2 h
      refine gz_iconst (v := (-1)) hX dX0_prices_38 gl_c_m1 ?_
      exact gu_iret hX hZ hF rfl rfl (gz_in1 h) dX0_prices_39
    · have h := gz_ifn c2 h
      refine gz_iload_n (q := 3) hX dX0_prices_20 rfl rfl ?_
      refine gz_iconst (v := 0) hX dX0_prices_21 gl_c_0 ?_
      refine gz_iconst (v := 1) hX dX0_prices_22 gl_c_1 ?_
      refine gu_callS (As := [.int a3, .int 0, .int 1]) hX (c_x0_isIn rfl) (lw_x0_isIn_ q502) rfl rfl nn_x0_isIn ⟨Nat.le_of_ble_eq_true rfl, Nat.le_of_ble_eq_true rfl⟩ ⟨Nat.zero_le _, Nat.zero_le _⟩ rfl rfl (Nat.le_of_ble_eq_true rfl) dX0_prices_23 rfl ?_
      refine gz_if_eq (tgt := 38) hX dX0_prices_26 (by decide) (fun c3 => ?_) (fun c3 => ?_)
      · have h := gz_ifp c3 h
        refine gz_iconst (v := (-1)) hX dX0_prices_38 gl_c_m1 ?_
        exact gu_iret hX hZ hF rfl rfl (gz_in1 h) dX0_prices_39
      · have h := gz_ifn c3 h
        refine gz_iload_n (q := 1) hX dX0_prices_29 rfl rfl ?_
        refine gz_iload_n (q := 2) hX dX0_prices_30 rfl rfl ?_
        obtain ⟨r4, e5, h⟩ := gz_bd_o h
        refine gu_callS (As := [.int a1, .int a2]) hX (c_x0_common e5) (lw_x0_common_ q1382) rfl rfl nn_x0_common ⟨Nat.le_of_ble_eq_true rfl, Nat.le_of_ble_eq_true rfl⟩ ⟨Nat.zero_le _, Nat.zero_le _⟩ rfl rfl (Nat.le_of_ble_eq_true rfl) dX0_prices_31 rfl ?_
        refine gz_iconst (v := 1) hX dX0_prices_34 gl_c_1 ?_
        refine gz_icmp_eq (tgt := 40) hX dX0_prices_35 (by decide) (fun c6 => ?_) (fun c6 => ?_)
        · have h := gz_ifp c6 h
          refine gz_iload_n (q := 3) hX dX0_prices_40 rfl rfl ?_
          refine gz_if_ne (tgt := 54) hX dX0_prices_41 (by decide) (fun c7 => ?_) (fun c7 => ?_)
          · have h := gz_ifn c7 h
            refine gz_iload_n (q := 1) hX dX0_prices_54 rfl rfl ?_
            refine gz_iconst (v := 1) hX dX0_prices_55 gl_c_1 ?_
            refine gz_isub hX dX0_prices_56 ?_
            refine gz_iload_n (q := 2) hX dX0_prices_57 rfl rfl ?_
            refine gz_iconst (v := 1) hX dX0_prices_58 gl_c_1 ?_
            refine gz_isub hX dX0_prices_59 ?_
            refine gz_imul hX dX0_prices_60 ?_
            refine gz_iconst (v := 2) hX dX0_prices_61 gl_c_2 ?_
            refine gz_idiv hX dX0_prices_62 (by decide) ?_
            exact gu_iret hX hZ hF rfl rfl (gz_in1 h) dX0_prices_63
          · have h := gz_ifp c7 h
            refine gz_iload_n (q := 1) hX dX0_prices_44 rfl rfl ?_
            refine gz_iload_n (q := 2) hX dX0_prices_45 rfl rfl ?_
            refine gz_imul hX dX0_prices_46 ?_
            refine gz_iload_n (q := 1) hX dX0_prices_47 rfl rfl ?_
            refine gz_isub hX dX0_prices_48 ?_
            refine gz_iload_n (q := 2) hX dX0_prices_49 rfl rfl ?_
            refine gz_isub hX dX0_prices_50 ?_
            refine gz_goto (tgt := 63) hX dX0_prices_51 (by decide) ?_
            exact gu_iret hX hZ hF rfl rfl (gz_in1 h) dX0_prices_63
        · have h := gz_ifn c6 h
          refine gz_iconst (v := (-1)) hX dX0_prices_38 gl_c_m1 ?_
          exact gu_iret hX hZ hF rfl rfl (gz_in1 h) dX0_prices_39
theorem lw_x0_prices_ {o : String} {i : Nat} (hl : Cond.methodLink o i yX0_prices ∈ lw_all) : GoodIn lw_all (wsV o i RX0 yX0_prices (ws_ yX0_prices cX0_prices 4 (some .int))) := lw_V hl q1379 q1380 q144 q1381
theorem nn_x0_prices : yX0_prices.cls = RX0 ∧ yX0_prices.cls ≠ "java/lang/invoke/MethodHandle" ∧ yX0_prices.cls ≠ "java/lang/invoke/VarHandle" ∧ (parseMethodDescriptor yX0_prices.desc).map (fun d => d.parameters.length) = some 3 := by decide +kernel
def rm_x0_ring : Room := { frames := 1, cells := 0, slots := 0, locals := 22 }
noncomputable def x0_ring_L38 (N : Nat) (v1 : Int32) (v2 : Int32) : Nat → gz_V → Int32 → Option (gz_V)
  | 0, _, _ => none
  | n + 1, V, v3 => (if v2 ≤ v3 then some V else gz_gd (gz_inb v2 13 = true) (gz_gd (gz_inb v3 13 = true) (gz_gd (gz_inb ((v2 - 1) - v3) 13 = true) (gz_gd (gz_inb v2 13 = true) (gz_let (gz_up V (11, 10, 0) v2.toNatClampNeg (((V (11, 10, 0) v2.toNatClampNeg).toInt64 + ((V (11, 10, 0) v3.toNatClampNeg).toInt64 * (V (11, 10, 0) ((v2 - 1) - v3).toNatClampNeg).toInt64)) - ((V (11, 10, 0) v2.toNatClampNeg).toInt64 + ((V (11, 10, 0) v3.toNatClampNeg).toInt64 * (V (11, 10, 0) ((v2 - 1) - v3).toNatClampNeg).toInt64)) / (1000000007 : Int64) * (1000000007 : Int64)).toInt32) (fun V15 => x0_ring_L38 N v1 v2 n V15 (v3 + 1)))))))
theorem w_x0_ring_L38 {X : gz_X} {ad : gz_A0} {N : Nat} {Ds : gz_S} {Df : gz_R} {v1 : Int32} {v2 : Int32} {W1 : gz_V} (hX : gz_ok X cX0_ring RX0 "ring" 4 rm_x0_ring (some .int)) (hZ : gz_Z X) (k : gW X 4 (xw_s Ds) (xw_c Df) ad W1 0 0 87 [(0, .ref (ad (10, 0, 0))), (1, .int v1), (2, .int v2)] []) : ∀ (n : Nat) {V : gz_V} {v3 : Int32}, x0_ring_L38 N v1 v2 n V v3 = some W1 → gW X 4 (xw_s Ds) (xw_c Df) ad V 0 0 38 [(0, .ref (ad (10, 0, 0))), (1, .int v1), (2, .int v2), (3, .int v3)] [] := by
  intro n
  induction n with
  | zero => intro V v3 h; rw [x0_ring_L38] at h; cases h
  | succ n ih =>
    intro V v3 h
    rw [x0_ring_L38] at h
    refine gz_iload_n (q := 3) hX dX0_ring_38 rfl rfl ?_
    refine gz_iload_n (q := 2) hX dX0_ring_39 rfl rfl ?_
    refine gz_icmp_ge (tgt := 87) hX dX0_ring_40 (by decide) (fun c10 => ?_) (fun c10 => ?_)
    · have h := gz_ifp c10 h
      obtain rfl := gz_in1 h
      exact gz_lv [0, 1, 2] rfl k
    · have h := gz_ifn c10 h
      refine gz_aload_n (q := 0) hX dX0_ring_43 rfl rfl ?_
      refine xg_X0_38 (n2 := (11, 10, 0)) hX xs_main rfl dX0_ring_44 ?_
      refine gz_iload_n (q := 2) hX dX0_ring_47 rfl rfl ?_
      refine gz_aload_n (q := 0) hX dX0_ring_48 rfl rfl ?_
      refine xg_X0_38 (n2 := (11, 10, 0)) hX xs_main rfl dX0_ring_49 ?_
      refine gz_iload_n (q := 2) hX dX0_ring_52 rfl rfl ?_
      obtain ⟨b11, h⟩ := gz_gd_o h
      refine gz_iald (L := 13) hX xs_ring (gz_inb_o b11) dX0_ring_53 ?_
      refine gz_i2l hX dX0_ring_54 ?_
      refine gz_aload_n (q := 0) hX dX0_ring_55 rfl rfl ?_
      refine xg_X0_38 (n2 := (11, 10, 0)) hX xs_main rfl dX0_ring_56 ?_
      refine gz_iload_n (q := 3) hX dX0_ring_59 rfl rfl ?_
      obtain ⟨b12, h⟩ := gz_gd_o h
      refine gz_iald (L := 13) hX xs_ring (gz_inb_o b12) dX0_ring_60 ?_
      refine gz_i2l hX dX0_ring_61 ?_
      refine gz_aload_n (q := 0) hX dX0_ring_62 rfl rfl ?_
      refine xg_X0_38 (n2 := (11, 10, 0)) hX xs_main rfl dX0_ring_63 ?_
      refine gz_iload_n (q := 2) hX dX0_ring_66 rfl rfl ?_
      refine gz_iconst (v := 1) hX dX0_ring_67 gl_c_1 ?_
      refine gz_isub hX dX0_ring_68 ?_
      refine gz_iload_n (q := 3) hX dX0_ring_69 rfl rfl ?_
      refine gz_isub hX dX0_ring_70 ?_
      obtain ⟨b13, h⟩ := gz_gd_o h
      refine gz_iald (L := 13) hX xs_ring (gz_inb_o b13) dX0_ring_71 ?_
      refine gz_i2l hX dX0_ring_72 ?_
      refine gz_lmul hX dX0_ring_73 ?_
      refine gz_ladd hX dX0_ring_74 ?_
      refine gz_ldc2 (v := 1000000007) hX q1335 dX0_ring_75 ?_
      refine gz_lrem hX dX0_ring_78 (by decide) ?_
      refine gz_l2i hX dX0_ring_79 ?_
      obtain ⟨b14, h⟩ := gz_gd_o h
      obtain ⟨V15, e16, h⟩ := gz_let_o h
      refine gz_iast (L := 13) hX xs_ring (gz_ne0 10 rfl) (gz_inb_o b14) dX0_ring_80 e16 ?_
      refine gz_iinc (q := 3) (lv2 := [(3, .int (v3 + 1)), (0, .ref (ad (10, 0, 0))), (1, .int v1), (2, .int v2)]) hX dX0_ring_81 rfl gl_c_1 (by decide) rfl ?_
      refine gz_goto (tgt := 38) hX dX0_ring_84 (by decide) ?_
      exact gz_lv [1, 2, 3, 0] rfl (ih h)
noncomputable def x0_ring_L14 (N : Nat) (v1 : Int32) : Nat → gz_V → Int32 → Option (gz_V)
  | 0, _, _ => none
  | n + 1, V, v2 => (if (v1 / 2) < v2 then some V else gz_let (if v2 = 0 then (1 : Int32) else (0 : Int32)) (fun y3 => gz_gd (gz_inb v2 13 = true) (gz_let (gz_up V (11, 10, 0) v2.toNatClampNeg y3) (fun V8 => gz_bd (x0_ring_L38 N v1 v2 N V8 0) (fun V10 => x0_ring_L14 N v1 n V10 (v2 + 1))))))
theorem w_x0_ring_L14 {X : gz_X} {ad : gz_A0} {N : Nat} {Ds : gz_S} {Df : gz_R} {v1 : Int32} {W1 : gz_V} (hX : gz_ok X cX0_ring RX0 "ring" 4 rm_x0_ring (some .int)) (hZ : gz_Z X) (k : gW X 4 (xw_s Ds) (xw_c Df) ad W1 0 0 93 [(0, .ref (ad (10, 0, 0))), (1, .int v1)] []) : ∀ (n : Nat) {V : gz_V} {v2 : Int32}, x0_ring_L14 N v1 n V v2 = some W1 → gW X 4 (xw_s Ds) (xw_c Df) ad V 0 0 14 [(0, .ref (ad (10, 0, 0))), (1, .int v1), (2, .int v2)] [] := by
  intro n
  induction n with
  | zero => intro V v2 h; rw [x0_ring_L14] at h; cases h
  | succ n ih =>
    intro V v2 h
    rw [x0_ring_L14] at h
    refine gz_iload_n (q := 2) hX dX0_ring_14 rfl rfl ?_
    refine gz_iload_n (q := 1) hX dX0_ring_15 rfl rfl ?_
    refine gz_iconst (v := 2) hX dX0_ring_16 gl_c_2 ?_
    refine gz_idiv hX dX0_ring_17 (by decide) ?_
    refine gz_icmp_gt (tgt := 93) hX dX0_ring_18 (by decide) (fun c2 => ?_) (fun c2 => ?_)
    · have h := gz_ifp c2 h
      obtain rfl := gz_in1 h
      exact gz_lv [0, 1] rfl k
    · have h := gz_ifn c2 h
      refine gz_aload_n (q := 0) hX dX0_ring_21 rfl rfl ?_
      refine xg_X0_38 (n2 := (11, 10, 0)) hX xs_main rfl dX0_ring_22 ?_
      refine gz_iload_n (q := 2) hX dX0_ring_25 rfl rfl ?_
      refine gz_iload_n (q := 2) hX dX0_ring_26 rfl rfl ?_
      obtain ⟨y3, g4, h⟩ := gz_let_o h
      have J5 : gW X 4 (xw_s Ds) (xw_c Df) ad V 0 0 35 [(0, .ref (ad (10, 0, 0))), (1, .int v1), (2, .int v2)] [.int y3, .int v2, .ref (ad (11, 10, 0))] := by
        obtain ⟨b7, h⟩ := gz_gd_o h
        obtain ⟨V8, e9, h⟩ := gz_let_o h
        refine gz_iast (L := 13) hX xs_ring (gz_ne0 10 rfl) (gz_inb_o b7) dX0_ring_35 e9 ?_
        refine gz_iconst (v := 0) hX dX0_ring_36 gl_c_0 ?_
        refine gz_istore_n (lv2 := [(3, .int 0), (0, .ref (ad (10, 0, 0))), (1, .int v1), (2, .int v2)]) hX dX0_ring_37 rfl (by decide) rfl ?_
        obtain ⟨V10, e11, h⟩ := gz_bd_o h
        refine gz_lv [1, 2, 3, 0] rfl (w_x0_ring_L38 hX hZ ?_ N e11)
        refine gz_iinc (q := 2) (lv2 := [(2, .int (v2 + 1)), (0, .ref (ad (10, 0, 0))), (1, .int v1)]) hX dX0_ring_87 rfl gl_c_1 (by decide) rfl ?_
        refine gz_goto (tgt := 14) hX dX0_ring_90 (by decide) ?_
        exact gz_lv [1, 2, 0] rfl (ih h)
      refine gz_if_ne (tgt := 34) hX dX0_ring_27 (by decide) (fun c6 => ?_) (fun c6 => ?_)
      · have g4 := gz_ifn c6 g4
        refine gz_iconst (v := 0) hX dX0_ring_34 gl_c_0 ?_
        obtain rfl := g4
        exact gz_lv [0, 1, 2] rfl J5
      · have g4 := gz_ifp c6 g4
        refine gz_iconst (v := 1) hX dX0_ring_30 gl_c_1 ?_
        refine gz_goto (tgt := 35) hX dX0_ring_31 (by decide) ?_
        obtain rfl := g4
        exact gz_lv [0, 1, 2] rfl J5
noncomputable def x0_ring (N : Nat) (V : gz_V) (a1 : Int32) : Option (gz_V × Int32) := (if (x0_isIn a1 0 24) = 0 then some (V, (-1)) else gz_bd (x0_ring_L14 N a1 N V 0) (fun V2 => (if (a1 - a1 / 2 * 2) = 1 then some (V2, 0) else gz_gd (gz_inb (a1 / 2) 13 = true) (some (V2, (V2 (11, 10, 0) (a1 / 2).toNatClampNeg))))))
theorem c_x0_ring {l : Launch} {D : va_G} {aC : Nat → ClassId} {ad : gz_A0} {N : Nat} {Ds : gz_S} {Df : gz_R} {V : gz_V} {a1 : Int32} {W1 : gz_V} {r : Int32} (h : x0_ring N V a1 = some (W1, r)) : gz_Met l yX0_ring cX0_ring 4 (some .int) rm_x0_ring D aC ad (xw_s Ds) V (xw_c Df) [.ref (ad (10, 0, 0)), .int a1] (gz_F1 (xw_s Ds) (xw_c Df) ad W1 (some (.int r))) 0 0 := by
  refine gu_ofW (own := RX0) (mn := "ring") (lv := [(0, .ref (ad (10, 0, 0))), (1, .int a1)]) (by decide) rfl rfl (Nat.le_of_ble_eq_true rfl) rfl ?_
  intro X hX hZ hF
  rw [x0_ring] at h
  refine gz_iload_n (q := 1) hX dX0_ring_0 rfl rfl ?_
  refine gz_iconst (v := 0) hX dX0_ring_1 gl_c_0 ?_
  refine gz_bipush (v := 24) hX dX0_ring_2 gl_b_24 ?_
  refine gu_callS (As := [.int a1, .int 0, .int 24]) hX (c_x0_isIn rfl) (lw_x0_isIn_ q502) rfl rfl nn_x0_isIn ⟨Nat.le_of_ble_eq_true rfl, Nat.le_of_ble_eq_true rfl⟩ ⟨Nat.zero_le _, Nat.zero_le _⟩ rfl rfl (Nat.le_of_ble_eq_true rfl) dX0_ring_4 rfl ?_
  refine gz_if_ne (tgt := 12) hX dX0_ring_7 (by decide) (fun c1 => ?_) (fun c1 => ?_)
  · have h := gz_ifn c1 h
    refine gz_iconst (v := 0) hX dX0_ring_12 gl_c_0 ?_
    refine gz_istore_n (lv2 := [(2, .int 0), (0, .ref (ad (10, 0, 0))), (1, .int a1)]) hX dX0_ring_13 rfl (by decide) rfl ?_
    obtain ⟨V2, e3, h⟩ := gz_bd_o h
    refine gz_lv [1, 2, 0] rfl (w_x0_ring_L14 hX hZ ?_ N e3)
    refine gz_iload_n (q := 1) hX dX0_ring_93 rfl rfl ?_
    refine gz_iconst (v := 2) hX dX0_ring_94 gl_c_2 ?_
    refine gz_irem hX dX0_ring_95 (by decide) ?_
    refine gz_iconst (v := 1) hX dX0_ring_96 gl_c_1 ?_
    refine gz_icmp_ne (tgt := 104) hX dX0_ring_97 (by decide) (fun c4 => ?_) (fun c4 => ?_)
    · have h := gz_ifn c4 h
      refine gz_aload_n (q := 0) hX dX0_ring_104 rfl rfl ?_
      refine xg_X0_38 (n2 := (11, 10, 0)) hX xs_main rfl dX0_ring_105 ?_
      refine gz_iload_n (q := 1) hX dX0_ring_108 rfl rfl ?_
      refine gz_iconst (v := 2) hX dX0_ring_109 gl_c_2 ?_
      refine gz_idiv hX dX0_ring_110 (by decide) ?_
      obtain ⟨b5, h⟩ := gz_gd_o h
      refine gz_iald (L := 13) hX xs_ring (gz_inb_o b5) dX0_ring_111 ?_
      obtain ⟨e_V, e_r⟩ := gz_in2 h
      exact gu_iret hX hZ hF e_V rfl e_r dX0_ring_112
    · have h := gz_ifp c4 h
      refine gz_iconst (v := 0) hX dX0_ring_100 gl_c_0 ?_
      refine gz_goto (tgt := 112) hX dX0_ring_101 (by decide) ?_
      obtain ⟨e_V, e_r⟩ := gz_in2 h
      exact gu_iret hX hZ hF e_V rfl e_r dX0_ring_112
  · have h := gz_ifp c1 h
    refine gz_iconst (v := (-1)) hX dX0_ring_10 gl_c_m1 ?_
    obtain ⟨e_V, e_r⟩ := gz_in2 h
    exact gu_iret hX hZ hF e_V rfl e_r dX0_ring_11
theorem lw_x0_ring_ {o : String} {i : Nat} (hl : Cond.methodLink o i yX0_ring ∈ lw_all) : GoodIn lw_all (wsV o i RX0 yX0_ring (ws_ yX0_ring cX0_ring 4 (some .int))) := lw_V hl q1332 q1333 q144 q1334
theorem nn_x0_ring : yX0_ring.cls = RX0 ∧ yX0_ring.cls ≠ "java/lang/invoke/MethodHandle" ∧ yX0_ring.cls ≠ "java/lang/invoke/VarHandle" ∧ (parseMethodDescriptor yX0_ring.desc).map (fun d => d.parameters.length) = some 1 := by decide +kernel
def rm_x0_row : Room := { frames := 1, cells := 0, slots := 0, locals := 22 }
noncomputable def x0_row (V : gz_V) (a1 : Int32) : Option (gz_V × Int32) := (if a1 = (-1) then gz_b2 (x3_ends V 0 4) (fun V6 r7 => some (V6, r7)) else (if (x0_isIn a1 1 20) = 0 then some (V, (-1)) else gz_b2 (x3_tells V 0 4 a1 0) (fun V3 r4 => some (V3, r4))))
theorem c_x0_row {l : Launch} {D : va_G} {aC : Nat → ClassId} {ad : gz_A0} {Ds : gz_S} {Df : gz_R} {V : gz_V} {a1 : Int32} {W1 : gz_V} {r : Int32} (h : x0_row V a1 = some (W1, r)) : gz_Met l yX0_row cX0_row 2 (some .int) rm_x0_row D aC ad (xw_s Ds) V (xw_c Df) [.ref (ad (10, 0, 0)), .int a1] (gz_F1 (xw_s Ds) (xw_c Df) ad W1 (some (.int r))) 0 0 := by
  refine gu_ofW (own := RX0) (mn := "row") (lv := [(0, .ref (ad (10, 0, 0))), (1, .int a1)]) (by decide) rfl rfl (Nat.le_of_ble_eq_true rfl) rfl ?_
  intro X hX hZ hF
  rw [x0_row] at h
  refine gz_iload_n (q := 1) hX dX0_row_0 rfl rfl ?_
  refine gz_iconst (v := (-1)) hX dX0_row_1 gl_c_m1 ?_
  refine gz_icmp_ne (tgt := 18) hX dX0_row_2 (by decide) (fun c1 => ?_) (fun c1 => ?_)
  · have h := gz_ifn c1 h
    refine gz_iload_n (q := 1) hX dX0_row_18 rfl rfl ?_
    refine gz_iconst (v := 1) hX dX0_row_19 gl_c_1 ?_
    refine gz_bipush (v := 20) hX dX0_row_20 gl_b_20 ?_
    refine gu_callS (As := [.int a1, .int 1, .int 20]) hX (c_x0_isIn rfl) (lw_x0_isIn_ q502) rfl rfl nn_x0_isIn ⟨Nat.le_of_ble_eq_true rfl, Nat.le_of_ble_eq_true rfl⟩ ⟨Nat.zero_le _, Nat.zero_le _⟩ rfl rfl (Nat.le_of_ble_eq_true rfl) dX0_row_22 rfl ?_
    refine gz_if_eq (tgt := 43) hX dX0_row_25 (by decide) (fun c2 => ?_) (fun c2 => ?_)
    · have h := gz_ifp c2 h
      refine gz_iconst (v := (-1)) hX dX0_row_43 gl_c_m1 ?_
      obtain ⟨e_V, e_r⟩ := gz_in2 h
      exact gu_iret hX hZ hF e_V rfl e_r dX0_row_44
    · have h := gz_ifn c2 h
      refine gz_aload_n (q := 0) hX dX0_row_28 rfl rfl ?_
      refine xg_X0_20 (n2 := (20, 0, 0)) hX xs_main rfl dX0_row_29 ?_
      refine xg_X0_354 (n2 := (27, 0, 4)) hX (xs_M (by decide)) rfl dX0_row_32 ?_
      refine gz_iload_n (q := 1) hX dX0_row_35 rfl rfl ?_
      refine gz_iconst (v := 0) hX dX0_row_36 gl_c_0 ?_
      obtain ⟨V3, r4, e5, h⟩ := gz_b2_o h
      refine gu_callV (ci := 3) (n := (27, 0, 4)) (As := [.int a1, .int 0]) hX (c_x3_tells (by decide) (by decide) e5) (lw_x3_tells_ q1306) rfl rfl nn_x3_tells ⟨Nat.le_of_ble_eq_true rfl, Nat.le_of_ble_eq_true rfl⟩ ⟨Nat.zero_le _, Nat.zero_le _⟩ (by decide) rfl (xs_RO (by decide) (by decide)) rfl rfl (Nat.le_of_ble_eq_true rfl) dX0_row_37 rfl ?_
      refine gz_goto (tgt := 44) hX dX0_row_40 (by decide) ?_
      obtain ⟨e_V, e_r⟩ := gz_in2 h
      exact gu_iret hX hZ hF e_V rfl e_r dX0_row_44
  · have h := gz_ifp c1 h
    refine gz_aload_n (q := 0) hX dX0_row_5 rfl rfl ?_
    refine xg_X0_20 (n2 := (20, 0, 0)) hX xs_main rfl dX0_row_6 ?_
    refine xg_X0_354 (n2 := (27, 0, 4)) hX (xs_M (by decide)) rfl dX0_row_9 ?_
    obtain ⟨V6, r7, e8, h⟩ := gz_b2_o h
    refine gu_callV (ci := 3) (n := (27, 0, 4)) (As := []) hX (c_x3_ends (by decide) (by decide) e8) (lw_x3_ends_ q1302) rfl rfl nn_x3_ends ⟨Nat.le_of_ble_eq_true rfl, Nat.le_of_ble_eq_true rfl⟩ ⟨Nat.zero_le _, Nat.zero_le _⟩ (by decide) rfl (xs_RO (by decide) (by decide)) rfl rfl (Nat.le_of_ble_eq_true rfl) dX0_row_12 rfl ?_
    refine gz_goto (tgt := 44) hX dX0_row_15 (by decide) ?_
    obtain ⟨e_V, e_r⟩ := gz_in2 h
    exact gu_iret hX hZ hF e_V rfl e_r dX0_row_44
theorem lw_x0_row_ {o : String} {i : Nat} (hl : Cond.methodLink o i yX0_row ∈ lw_all) : GoodIn lw_all (wsV o i RX0 yX0_row (ws_ yX0_row cX0_row 2 (some .int))) := lw_V hl q1438 q1439 q144 q1440
theorem nn_x0_row : yX0_row.cls = RX0 ∧ yX0_row.cls ≠ "java/lang/invoke/MethodHandle" ∧ yX0_row.cls ≠ "java/lang/invoke/VarHandle" ∧ (parseMethodDescriptor yX0_row.desc).map (fun d => d.parameters.length) = some 1 := by decide +kernel
def rm_x0_set : Room := { frames := 3, cells := 0, slots := 0, locals := 66 }
noncomputable def x0_set (V : gz_V) (a1 : Int32) (a2 : Int32) (a3 : Int32) : Option (gz_V × Int32) := (if (x0_canSet V a1 a2 a3) = 0 then some (V, 0) else gz_bd (if a1 = 5 then gz_bd (x0_at a2) (fun w6 => gz_let (gz_up V (40, 0, w6) 1 a3) (fun V8 => some V8)) else if a1 = 6 then gz_gd (gz_inb a2 10 = true) (gz_let (gz_up V (42, 0, a2.toNatClampNeg) 1 a3) (fun V12 => some V12)) else if a1 = 7 then gz_gd (gz_inb a2 10 = true) (gz_let (gz_up V (42, 0, a2.toNatClampNeg) 2 a3) (fun V16 => some V16)) else gz_bd (x0_at a2) (fun w18 => gz_gd (gz_inb a1 5 = true) (gz_let (gz_up V (41, 0, w18) a1.toNatClampNeg a3) (fun V21 => some V21)))) (fun V2 => gz_b2 (x0_forgets V2) (fun V23 r24 => some (V23, r24))))
theorem c_x0_set {l : Launch} {D : va_G} {aC : Nat → ClassId} {ad : gz_A0} {Ds : gz_S} {Df : gz_R} {V : gz_V} {a1 : Int32} {a2 : Int32} {a3 : Int32} {W1 : gz_V} {r : Int32} (h : x0_set V a1 a2 a3 = some (W1, r)) : gz_Met l yX0_set cX0_set 4 (some .boolean) rm_x0_set D aC ad (xw_s Ds) V (xw_c Df) [.ref (ad (10, 0, 0)), .int a1, .int a2, .int a3] (gz_F1 (xw_s Ds) (xw_c Df) ad W1 (some (.int r))) 0 0 := by
  refine gu_ofW (own := RX0) (mn := "set") (lv := [(0, .ref (ad (10, 0, 0))), (1, .int a1), (2, .int a2), (3, .int a3)]) (by decide) rfl rfl (Nat.le_of_ble_eq_true rfl) rfl ?_
  intro X hX hZ hF
  rw [x0_set] at h
  refine gz_aload_n (q := 0) hX dX0_set_0 rfl rfl ?_
  refine gz_iload_n (q := 1) hX dX0_set_1 rfl rfl ?_
  refine gz_iload_n (q := 2) hX dX0_set_2 rfl rfl ?_
  refine gz_iload_n (q := 3) hX dX0_set_3 rfl rfl ?_
  refine gu_callV (ci := 0) (n := (10, 0, 0)) (As := [.int a1, .int a2, .int a3]) hX (c_x0_canSet rfl) (lw_x0_canSet_ q1068) rfl rfl nn_x0_canSet ⟨Nat.le_of_ble_eq_true rfl, Nat.le_of_ble_eq_true rfl⟩ ⟨Nat.zero_le _, Nat.zero_le _⟩ (by decide) rfl xs_main rfl rfl (Nat.le_of_ble_eq_true rfl) dX0_set_4 rfl ?_
  refine gz_if_ne (tgt := 12) hX dX0_set_7 (by decide) (fun c1 => ?_) (fun c1 => ?_)
  · have h := gz_ifn c1 h
    refine gz_iload_n (q := 1) hX dX0_set_12 rfl rfl ?_
    obtain ⟨V2, g3, h⟩ := gz_bd_o h
    have J4 : gW X 4 (xw_s Ds) (xw_c Df) ad V2 0 0 95 [(0, .ref (ad (10, 0, 0)))] [] := by
      refine gz_aload_n (q := 0) hX dX0_set_95 rfl rfl ?_
      obtain ⟨V23, r24, e25, h⟩ := gz_b2_o h
      refine gu_callV (ci := 0) (n := (10, 0, 0)) (As := []) hX (c_x0_forgets e25) (lw_x0_forgets_ q949) rfl rfl nn_x0_forgets ⟨Nat.le_of_ble_eq_true rfl, Nat.le_of_ble_eq_true rfl⟩ ⟨Nat.zero_le _, Nat.zero_le _⟩ (by decide) rfl xs_main rfl rfl (Nat.le_of_ble_eq_true rfl) dX0_set_96 rfl ?_
      obtain ⟨e_V, e_r⟩ := gz_in2 h
      exact gu_zret hX hZ (gz_nb (b_x0_forgets e25)) hF e_V rfl e_r dX0_set_99
    by_cases c5 : a1 = 5
    · have g3 := gz_ifp c5 g3
      refine gz_tableAt (v := 5) (tgt := 40) hX dX0_set_13 c5 (by decide) (by decide) rfl (by decide) ?_
      refine gz_aload_n (q := 0) hX dX0_set_40 rfl rfl ?_
      refine gz_iload_n (q := 2) hX dX0_set_41 rfl rfl ?_
      obtain ⟨w6, e7, g3⟩ := gz_bd_o g3
      refine gu_callV (ci := 0) (n := (10, 0, 0)) (As := [.int a2]) hX (c_x0_at e7) (lw_x0_at_ q1047) rfl rfl nn_x0_at ⟨Nat.le_of_ble_eq_true rfl, Nat.le_of_ble_eq_true rfl⟩ ⟨Nat.zero_le _, Nat.zero_le _⟩ (by decide) rfl xs_main rfl rfl (Nat.le_of_ble_eq_true rfl) dX0_set_42 rfl ?_
      refine gz_iload_n (q := 3) hX dX0_set_45 rfl rfl ?_
      obtain ⟨V8, e9, g3⟩ := gz_let_o g3
      refine xp_X0_179 hX (xs_P (by decide) (b_x0_at e7)) (gz_ne0 39 rfl) dX0_set_46 e9 ?_
      refine gz_goto (tgt := 95) hX dX0_set_49 (by decide) ?_
      obtain rfl := gz_in1 g3
      exact gz_lv [0] rfl J4
    · have g3 := gz_ifn c5 g3
      by_cases c10 : a1 = 6
      · have g3 := gz_ifp c10 g3
        refine gz_tableAt (v := 6) (tgt := 52) hX dX0_set_13 c10 (by decide) (by decide) rfl (by decide) ?_
        refine gz_aload_n (q := 0) hX dX0_set_52 rfl rfl ?_
        refine xg_X0_20 (n2 := (20, 0, 0)) hX xs_main rfl dX0_set_53 ?_
        refine xg_X0_164 (n2 := (22, 0, 0)) hX (xs_M (by decide)) rfl dX0_set_56 ?_
        refine gz_iload_n (q := 2) hX dX0_set_59 rfl rfl ?_
        obtain ⟨b11, g3⟩ := gz_gd_o g3
        refine gz_aald (L := 10) (t := 111) (t0 := 4) (ty := (.object "ClaspedFair$Horse")) (n2 := (42, 0, a2.toNatClampNeg)) hX (by decide) (by decide) (fun _ => rfl) rfl (xs_HA (by decide)) (gz_inb_o b11) (xr_HA (gz_inb_lt b11)) dX0_set_60 ?_
        refine gz_iload_n (q := 3) hX dX0_set_61 rfl rfl ?_
        obtain ⟨V12, e13, g3⟩ := gz_let_o g3
        refine xp_X0_182 hX (xs_H (by decide) (gz_inb_lt b11)) (gz_ne0 41 rfl) dX0_set_62 e13 ?_
        refine gz_goto (tgt := 95) hX dX0_set_65 (by decide) ?_
        obtain rfl := gz_in1 g3
        exact gz_lv [0] rfl J4
      · have g3 := gz_ifn c10 g3
        by_cases c14 : a1 = 7
        · have g3 := gz_ifp c14 g3
          refine gz_tableAt (v := 7) (tgt := 68) hX dX0_set_13 c14 (by decide) (by decide) rfl (by decide) ?_
          refine gz_aload_n (q := 0) hX dX0_set_68 rfl rfl ?_
          refine xg_X0_20 (n2 := (20, 0, 0)) hX xs_main rfl dX0_set_69 ?_
          refine xg_X0_164 (n2 := (22, 0, 0)) hX (xs_M (by decide)) rfl dX0_set_72 ?_
          refine gz_iload_n (q := 2) hX dX0_set_75 rfl rfl ?_
          obtain ⟨b15, g3⟩ := gz_gd_o g3
          refine gz_aald (L := 10) (t := 111) (t0 := 4) (ty := (.object "ClaspedFair$Horse")) (n2 := (42, 0, a2.toNatClampNeg)) hX (by decide) (by decide) (fun _ => rfl) rfl (xs_HA (by decide)) (gz_inb_o b15) (xr_HA (gz_inb_lt b15)) dX0_set_76 ?_
          refine gz_iload_n (q := 3) hX dX0_set_77 rfl rfl ?_
          obtain ⟨V16, e17, g3⟩ := gz_let_o g3
          refine xp_X0_185 hX (xs_H (by decide) (gz_inb_lt b15)) (gz_ne0 41 rfl) dX0_set_78 e17 ?_
          refine gz_goto (tgt := 95) hX dX0_set_81 (by decide) ?_
          obtain rfl := gz_in1 g3
          exact gz_lv [0] rfl J4
        · have g3 := gz_ifn c14 g3
          refine gz_tableOut (tgt := 84) hX dX0_set_13 (by have := lv_neT c5 (a := 5) rfl; have := lv_neT c10 (a := 6) rfl; have := lv_neT c14 (a := 7) rfl; omega) (by decide) ?_
          refine gz_aload_n (q := 0) hX dX0_set_84 rfl rfl ?_
          refine gz_iload_n (q := 2) hX dX0_set_85 rfl rfl ?_
          obtain ⟨w18, e19, g3⟩ := gz_bd_o g3
          refine gu_callV (ci := 0) (n := (10, 0, 0)) (As := [.int a2]) hX (c_x0_at e19) (lw_x0_at_ q1047) rfl rfl nn_x0_at ⟨Nat.le_of_ble_eq_true rfl, Nat.le_of_ble_eq_true rfl⟩ ⟨Nat.zero_le _, Nat.zero_le _⟩ (by decide) rfl xs_main rfl rfl (Nat.le_of_ble_eq_true rfl) dX0_set_86 rfl ?_
          refine xg_X0_188 (n2 := (41, 0, w18)) hX (xs_P (by decide) (b_x0_at e19)) rfl dX0_set_89 ?_
          refine gz_iload_n (q := 1) hX dX0_set_92 rfl rfl ?_
          refine gz_iload_n (q := 3) hX dX0_set_93 rfl rfl ?_
          obtain ⟨b20, g3⟩ := gz_gd_o g3
          obtain ⟨V21, e22, g3⟩ := gz_let_o g3
          refine gz_iast (L := 5) hX (xs_T (by decide) (b_x0_at e19)) (gz_ne0 40 rfl) (gz_inb_o b20) dX0_set_94 e22 ?_
          obtain rfl := gz_in1 g3
          exact gz_lv [0] rfl J4
  · have h := gz_ifp c1 h
    refine gz_iconst (v := 0) hX dX0_set_10 gl_c_0 ?_
    obtain ⟨e_V, e_r⟩ := gz_in2 h
    exact gu_zret hX hZ rfl hF e_V rfl e_r dX0_set_11
theorem lw_x0_set_ {o : String} {i : Nat} (hl : Cond.methodLink o i yX0_set ∈ lw_all) : GoodIn lw_all (wsV o i RX0 yX0_set (ws_ yX0_set cX0_set 4 (some .boolean))) := lw_V hl q1065 q1066 q144 q1067
theorem nn_x0_set : yX0_set.cls = RX0 ∧ yX0_set.cls ≠ "java/lang/invoke/MethodHandle" ∧ yX0_set.cls ≠ "java/lang/invoke/VarHandle" ∧ (parseMethodDescriptor yX0_set.desc).map (fun d => d.parameters.length) = some 3 := by decide +kernel
def rm_x0_signs : Room := { frames := 1, cells := 0, slots := 0, locals := 22 }
noncomputable def x0_signs_L16 (N : Nat) (v1 : Int32) : Nat → Int32 → Int32 → Option (Int32)
  | 0, _, _ => none
  | n + 1, v2, v3 => (if ((1 : Int32) <<< (v1 &&& 31)) ≤ v3 then some v2 else gz_let (if (v3 &&& (((v3 <<< (1 &&& 31)) ||| (v3 >>> (1 &&& 31))) ^^^ (-1))) = 0 then (1 : Int32) else (0 : Int32)) (fun y3 => gz_let ((v2 + y3)) (fun x7 => x0_signs_L16 N v1 n x7 (v3 + 1))))
theorem w_x0_signs_L16 {X : gz_X} {ad : gz_A0} {N : Nat} {Ds : gz_S} {Df : gz_R} {V : gz_V} {v1 : Int32} {o2 : Int32} (hX : gz_ok X cX0_signs RX0 "signs" 4 rm_x0_signs (some .int)) (hZ : gz_Z X) (k : gW X 4 (xw_s Ds) (xw_c Df) ad V 0 0 51 [(2, .int o2)] []) : ∀ (n : Nat) {v2 : Int32} {v3 : Int32}, x0_signs_L16 N v1 n v2 v3 = some o2 → gW X 4 (xw_s Ds) (xw_c Df) ad V 0 0 16 [(1, .int v1), (2, .int v2), (3, .int v3)] [] := by
  intro n
  induction n with
  | zero => intro v2 v3 h; rw [x0_signs_L16] at h; cases h
  | succ n ih =>
    intro v2 v3 h
    rw [x0_signs_L16] at h
    refine gz_iload_n (q := 2) hX dX0_signs_16 rfl rfl ?_
    refine gz_iconst (v := 1) hX dX0_signs_17 gl_c_1 ?_
    refine gz_iload_n (q := 0) hX dX0_signs_18 rfl rfl ?_
    refine gz_ishl hX dX0_signs_19 ?_
    refine gz_icmp_ge (tgt := 51) hX dX0_signs_20 (by decide) (fun c2 => ?_) (fun c2 => ?_)
    · have h := gz_ifp c2 h
      obtain rfl := gz_in1 h
      exact gz_lv [1] rfl k
    · have h := gz_ifn c2 h
      refine gz_iload_n (q := 1) hX dX0_signs_23 rfl rfl ?_
      refine gz_iload_n (q := 2) hX dX0_signs_24 rfl rfl ?_
      refine gz_iload_n (q := 2) hX dX0_signs_25 rfl rfl ?_
      refine gz_iconst (v := 1) hX dX0_signs_26 gl_c_1 ?_
      refine gz_ishl hX dX0_signs_27 ?_
      refine gz_iload_n (q := 2) hX dX0_signs_28 rfl rfl ?_
      refine gz_iconst (v := 1) hX dX0_signs_29 gl_c_1 ?_
      refine gz_ishr hX dX0_signs_30 ?_
      refine gz_ior hX dX0_signs_31 ?_
      refine gz_iconst (v := (-1)) hX dX0_signs_32 gl_c_m1 ?_
      refine gz_ixor hX dX0_signs_33 ?_
      refine gz_iand hX dX0_signs_34 ?_
      obtain ⟨y3, g4, h⟩ := gz_let_o h
      have J5 : gW X 4 (xw_s Ds) (xw_c Df) ad V 0 0 43 [(1, .int v1), (3, .int v3)] [.int y3, .int v2] := by
        refine gz_iadd hX dX0_signs_43 ?_
        obtain ⟨x7, e8, h⟩ := gz_let_o h
        refine gz_nm e8 ?_
        refine gz_istore_n (lv2 := [(2, .int x7), (1, .int v1), (3, .int v3)]) hX dX0_signs_44 rfl (by decide) rfl ?_
        refine gz_iinc (q := 2) (lv2 := [(3, .int (v3 + 1)), (2, .int x7), (1, .int v1)]) hX dX0_signs_45 rfl gl_c_1 (by decide) rfl ?_
        refine gz_goto (tgt := 16) hX dX0_signs_48 (by decide) ?_
        exact gz_lv [2, 1, 0] rfl (ih h)
      refine gz_if_ne (tgt := 42) hX dX0_signs_35 (by decide) (fun c6 => ?_) (fun c6 => ?_)
      · have g4 := gz_ifn c6 g4
        refine gz_iconst (v := 0) hX dX0_signs_42 gl_c_0 ?_
        obtain rfl := g4
        exact gz_lv [0, 2] rfl J5
      · have g4 := gz_ifp c6 g4
        refine gz_iconst (v := 1) hX dX0_signs_38 gl_c_1 ?_
        refine gz_goto (tgt := 43) hX dX0_signs_39 (by decide) ?_
        obtain rfl := g4
        exact gz_lv [0, 2] rfl J5
noncomputable def x0_signs (N : Nat) (a1 : Int32) : Option (Int32) := (if (x0_isIn a1 1 20) = 0 then some (-1) else gz_bd (x0_signs_L16 N a1 N 0 0) (fun x2 => some x2))
theorem c_x0_signs {l : Launch} {D : va_G} {aC : Nat → ClassId} {ad : gz_A0} {N : Nat} {Ds : gz_S} {Df : gz_R} {V : gz_V} {a1 : Int32} {r : Int32} (h : x0_signs N a1 = some r) : gz_Met l yX0_signs cX0_signs 4 (some .int) rm_x0_signs D aC ad (xw_s Ds) V (xw_c Df) [.ref (ad (10, 0, 0)), .int a1] (gz_F1 (xw_s Ds) (xw_c Df) ad V (some (.int r))) 0 0 := by
  refine gu_ofW (own := RX0) (mn := "signs") (lv := [(0, .ref (ad (10, 0, 0))), (1, .int a1)]) (by decide) rfl rfl (Nat.le_of_ble_eq_true rfl) rfl ?_
  intro X hX hZ hF
  rw [x0_signs] at h
  refine gz_iload_n (q := 1) hX dX0_signs_0 rfl rfl ?_
  refine gz_iconst (v := 1) hX dX0_signs_1 gl_c_1 ?_
  refine gz_bipush (v := 20) hX dX0_signs_2 gl_b_20 ?_
  refine gu_callS (As := [.int a1, .int 1, .int 20]) hX (c_x0_isIn rfl) (lw_x0_isIn_ q502) rfl rfl nn_x0_isIn ⟨Nat.le_of_ble_eq_true rfl, Nat.le_of_ble_eq_true rfl⟩ ⟨Nat.zero_le _, Nat.zero_le _⟩ rfl rfl (Nat.le_of_ble_eq_true rfl) dX0_signs_4 rfl ?_
  refine gz_if_ne (tgt := 12) hX dX0_signs_7 (by decide) (fun c1 => ?_) (fun c1 => ?_)
  · have h := gz_ifn c1 h
    refine gz_iconst (v := 0) hX dX0_signs_12 gl_c_0 ?_
    refine gz_istore_n (lv2 := [(2, .int 0), (0, .ref (ad (10, 0, 0))), (1, .int a1)]) hX dX0_signs_13 rfl (by decide) rfl ?_
    refine gz_iconst (v := 0) hX dX0_signs_14 gl_c_0 ?_
    refine gz_istore_n (lv2 := [(3, .int 0), (2, .int 0), (0, .ref (ad (10, 0, 0))), (1, .int a1)]) hX dX0_signs_15 rfl (by decide) rfl ?_
    obtain ⟨x2, e3, h⟩ := gz_bd_o h
    refine gz_lv [3, 1, 0] rfl (w_x0_signs_L16 hX hZ ?_ N e3)
    refine gz_iload_n (q := 0) hX dX0_signs_51 rfl rfl ?_
    exact gu_iret hX hZ hF rfl rfl (gz_in1 h) dX0_signs_52
  · have h := gz_ifp c1 h
    refine gz_iconst (v := (-1)) hX dX0_signs_10 gl_c_m1 ?_
    exact gu_iret hX hZ hF rfl rfl (gz_in1 h) dX0_signs_11
theorem lw_x0_signs_ {o : String} {i : Nat} (hl : Cond.methodLink o i yX0_signs ∈ lw_all) : GoodIn lw_all (wsV o i RX0 yX0_signs (ws_ yX0_signs cX0_signs 4 (some .int))) := lw_V hl q1434 q1435 q144 q1436
theorem nn_x0_signs : yX0_signs.cls = RX0 ∧ yX0_signs.cls ≠ "java/lang/invoke/MethodHandle" ∧ yX0_signs.cls ≠ "java/lang/invoke/VarHandle" ∧ (parseMethodDescriptor yX0_signs.desc).map (fun d => d.parameters.length) = some 1 := by decide +kernel
def rm_x0_state : Room := { frames := 1, cells := 0, slots := 0, locals := 20 }
noncomputable def x0_state (V : gz_V) (a1 : Int32) : Option (gz_V × Int32) := gz_let ((V (20, 0, 0) 18)) (fun x1 => gz_let (gz_up V (20, 0, 0) 18 a1) (fun V3 => gz_b2 (x0_forgets V3) (fun V5 r6 => some (V5, x1))))
theorem c_x0_state {l : Launch} {D : va_G} {aC : Nat → ClassId} {ad : gz_A0} {Ds : gz_S} {Df : gz_R} {V : gz_V} {a1 : Int32} {W1 : gz_V} {r : Int32} (h : x0_state V a1 = some (W1, r)) : gz_Met l yX0_state cX0_state 3 (some .int) rm_x0_state D aC ad (xw_s Ds) V (xw_c Df) [.ref (ad (10, 0, 0)), .int a1] (gz_F1 (xw_s Ds) (xw_c Df) ad W1 (some (.int r))) 0 0 := by
  refine gu_ofW (own := RX0) (mn := "state") (lv := [(0, .ref (ad (10, 0, 0))), (1, .int a1)]) (by decide) rfl rfl (Nat.le_of_ble_eq_true rfl) rfl ?_
  intro X hX hZ hF
  rw [x0_state] at h
  refine gz_aload_n (q := 0) hX dX0_state_0 rfl rfl ?_
  refine xg_X0_20 (n2 := (20, 0, 0)) hX xs_main rfl dX0_state_1 ?_
  refine xg_X0_147 hX (xs_M (by decide)) dX0_state_4 ?_
  obtain ⟨x1, e2, h⟩ := gz_let_o h
  refine gz_nm e2 ?_
  refine gz_istore_n (lv2 := [(2, .int x1), (0, .ref (ad (10, 0, 0))), (1, .int a1)]) hX dX0_state_7 rfl (by decide) rfl ?_
  refine gz_aload_n (q := 1) hX dX0_state_8 rfl rfl ?_
  refine xg_X0_20 (n2 := (20, 0, 0)) hX xs_main rfl dX0_state_9 ?_
  refine gz_iload_n (q := 2) hX dX0_state_12 rfl rfl ?_
  obtain ⟨V3, e4, h⟩ := gz_let_o h
  refine xp_X0_147 hX (xs_M (by decide)) (gz_ne0 19 rfl) dX0_state_13 e4 ?_
  refine gz_aload_n (q := 1) hX dX0_state_16 rfl rfl ?_
  obtain ⟨V5, r6, e7, h⟩ := gz_b2_o h
  refine gu_callV (ci := 0) (n := (10, 0, 0)) (As := []) hX (c_x0_forgets e7) (lw_x0_forgets_ q949) rfl rfl nn_x0_forgets ⟨Nat.le_of_ble_eq_true rfl, Nat.le_of_ble_eq_true rfl⟩ ⟨Nat.zero_le _, Nat.zero_le _⟩ (by decide) rfl xs_main rfl rfl (Nat.le_of_ble_eq_true rfl) dX0_state_17 rfl ?_
  refine gz_pop hX dX0_state_20 rfl ?_
  refine gz_iload_n (q := 0) hX dX0_state_21 rfl rfl ?_
  obtain ⟨e_V, e_r⟩ := gz_in2 h
  exact gu_iret hX hZ hF e_V rfl e_r dX0_state_22
theorem lw_x0_state_ {o : String} {i : Nat} (hl : Cond.methodLink o i yX0_state ∈ lw_all) : GoodIn lw_all (wsV o i RX0 yX0_state (ws_ yX0_state cX0_state 3 (some .int))) := lw_V hl q1040 q1041 q144 q1042
theorem nn_x0_state : yX0_state.cls = RX0 ∧ yX0_state.cls ≠ "java/lang/invoke/MethodHandle" ∧ yX0_state.cls ≠ "java/lang/invoke/VarHandle" ∧ (parseMethodDescriptor yX0_state.desc).map (fun d => d.parameters.length) = some 1 := by decide +kernel
def rm_x0_told : Room := { frames := 1, cells := 0, slots := 0, locals := 22 }
noncomputable def x0_told (V : gz_V) (a1 : Int32) (a2 : Int32) : Option (gz_V × Int32) := (if a1 = (-1) then gz_b2 (x3_ends V 0 0) (fun V8 r9 => some (V8, r9)) else (if (x0_isIn a1 0 11) = 0 then some (V, (-1)) else (if (x0_isIn a2 0 11) = 0 then some (V, (-1)) else (if a1 = a2 then some (V, (-1)) else gz_b2 (x3_tells V 0 0 a1 a2) (fun V5 r6 => some (V5, r6))))))
theorem c_x0_told {l : Launch} {D : va_G} {aC : Nat → ClassId} {ad : gz_A0} {Ds : gz_S} {Df : gz_R} {V : gz_V} {a1 : Int32} {a2 : Int32} {W1 : gz_V} {r : Int32} (h : x0_told V a1 a2 = some (W1, r)) : gz_Met l yX0_told cX0_told 3 (some .int) rm_x0_told D aC ad (xw_s Ds) V (xw_c Df) [.ref (ad (10, 0, 0)), .int a1, .int a2] (gz_F1 (xw_s Ds) (xw_c Df) ad W1 (some (.int r))) 0 0 := by
  refine gu_ofW (own := RX0) (mn := "told") (lv := [(0, .ref (ad (10, 0, 0))), (1, .int a1), (2, .int a2)]) (by decide) rfl rfl (Nat.le_of_ble_eq_true rfl) rfl ?_
  intro X hX hZ hF
  rw [x0_told] at h
  refine gz_iload_n (q := 1) hX dX0_told_0 rfl rfl ?_
  refine gz_iconst (v := (-1)) hX dX0_told_1 gl_c_m1 ?_
  refine gz_icmp_ne (tgt := 18) hX dX0_told_2 (by decide) (fun c1 => ?_) (fun c1 => ?_)
  · have h := gz_ifn c1 h
    refine gz_iload_n (q := 1) hX dX0_told_18 rfl rfl ?_
    refine gz_iconst (v := 0) hX dX0_told_19 gl_c_0 ?_
    refine gz_bipush (v := 11) hX dX0_told_20 gl_b_11 ?_
    refine gu_callS (As := [.int a1, .int 0, .int 11]) hX (c_x0_isIn rfl) (lw_x0_isIn_ q502) rfl rfl nn_x0_isIn ⟨Nat.le_of_ble_eq_true rfl, Nat.le_of_ble_eq_true rfl⟩ ⟨Nat.zero_le _, Nat.zero_le _⟩ rfl rfl (Nat.le_of_ble_eq_true rfl) dX0_told_22 rfl ?_
    refine gz_if_eq (tgt := 58) hX dX0_told_25 (by decide) (fun c2 => ?_) (fun c2 => ?_)
    · have h := gz_ifp c2 h
      refine gz_iconst (v := (-1)) hX dX0_told_58 gl_c_m1 ?_
      obtain ⟨e_V, e_r⟩ := gz_in2 h
      exact gu_iret hX hZ hF e_V rfl e_r dX0_told_59
    · have h := gz_ifn c2 h
      refine gz_iload_n (q := 2) hX dX0_told_28 rfl rfl ?_
      refine gz_iconst (v := 0) hX dX0_told_29 gl_c_0 ?_
      refine gz_bipush (v := 11) hX dX0_told_30 gl_b_11 ?_
      refine gu_callS (As := [.int a2, .int 0, .int 11]) hX (c_x0_isIn rfl) (lw_x0_isIn_ q502) rfl rfl nn_x0_isIn ⟨Nat.le_of_ble_eq_true rfl, Nat.le_of_ble_eq_true rfl⟩ ⟨Nat.zero_le _, Nat.zero_le _⟩ rfl rfl (Nat.le_of_ble_eq_true rfl) dX0_told_32 rfl ?_
      refine gz_if_eq (tgt := 58) hX dX0_told_35 (by decide) (fun c3 => ?_) (fun c3 => ?_)
      · have h := gz_ifp c3 h
        refine gz_iconst (v := (-1)) hX dX0_told_58 gl_c_m1 ?_
        obtain ⟨e_V, e_r⟩ := gz_in2 h
        exact gu_iret hX hZ hF e_V rfl e_r dX0_told_59
      · have h := gz_ifn c3 h
        refine gz_iload_n (q := 1) hX dX0_told_38 rfl rfl ?_
        refine gz_iload_n (q := 2) hX dX0_told_39 rfl rfl ?_
        refine gz_icmp_eq (tgt := 58) hX dX0_told_40 (by decide) (fun c4 => ?_) (fun c4 => ?_)
        · have h := gz_ifp c4 h
          refine gz_iconst (v := (-1)) hX dX0_told_58 gl_c_m1 ?_
          obtain ⟨e_V, e_r⟩ := gz_in2 h
          exact gu_iret hX hZ hF e_V rfl e_r dX0_told_59
        · have h := gz_ifn c4 h
          refine gz_aload_n (q := 0) hX dX0_told_43 rfl rfl ?_
          refine xg_X0_20 (n2 := (20, 0, 0)) hX xs_main rfl dX0_told_44 ?_
          refine xg_X0_268 (n2 := (27, 0, 0)) hX (xs_M (by decide)) rfl dX0_told_47 ?_
          refine gz_iload_n (q := 1) hX dX0_told_50 rfl rfl ?_
          refine gz_iload_n (q := 2) hX dX0_told_51 rfl rfl ?_
          obtain ⟨V5, r6, e7, h⟩ := gz_b2_o h
          refine gu_callV (ci := 3) (n := (27, 0, 0)) (As := [.int a1, .int a2]) hX (c_x3_tells (by decide) (by decide) e7) (lw_x3_tells_ q1306) rfl rfl nn_x3_tells ⟨Nat.le_of_ble_eq_true rfl, Nat.le_of_ble_eq_true rfl⟩ ⟨Nat.zero_le _, Nat.zero_le _⟩ (by decide) rfl (xs_RO (by decide) (by decide)) rfl rfl (Nat.le_of_ble_eq_true rfl) dX0_told_52 rfl ?_
          refine gz_goto (tgt := 59) hX dX0_told_55 (by decide) ?_
          obtain ⟨e_V, e_r⟩ := gz_in2 h
          exact gu_iret hX hZ hF e_V rfl e_r dX0_told_59
  · have h := gz_ifp c1 h
    refine gz_aload_n (q := 0) hX dX0_told_5 rfl rfl ?_
    refine xg_X0_20 (n2 := (20, 0, 0)) hX xs_main rfl dX0_told_6 ?_
    refine xg_X0_268 (n2 := (27, 0, 0)) hX (xs_M (by decide)) rfl dX0_told_9 ?_
    obtain ⟨V8, r9, e10, h⟩ := gz_b2_o h
    refine gu_callV (ci := 3) (n := (27, 0, 0)) (As := []) hX (c_x3_ends (by decide) (by decide) e10) (lw_x3_ends_ q1302) rfl rfl nn_x3_ends ⟨Nat.le_of_ble_eq_true rfl, Nat.le_of_ble_eq_true rfl⟩ ⟨Nat.zero_le _, Nat.zero_le _⟩ (by decide) rfl (xs_RO (by decide) (by decide)) rfl rfl (Nat.le_of_ble_eq_true rfl) dX0_told_12 rfl ?_
    refine gz_goto (tgt := 59) hX dX0_told_15 (by decide) ?_
    obtain ⟨e_V, e_r⟩ := gz_in2 h
    exact gu_iret hX hZ hF e_V rfl e_r dX0_told_59
theorem lw_x0_told_ {o : String} {i : Nat} (hl : Cond.methodLink o i yX0_told ∈ lw_all) : GoodIn lw_all (wsV o i RX0 yX0_told (ws_ yX0_told cX0_told 3 (some .int))) := lw_V hl q1299 q1300 q144 q1301
theorem nn_x0_told : yX0_told.cls = RX0 ∧ yX0_told.cls ≠ "java/lang/invoke/MethodHandle" ∧ yX0_told.cls ≠ "java/lang/invoke/VarHandle" ∧ (parseMethodDescriptor yX0_told.desc).map (fun d => d.parameters.length) = some 2 := by decide +kernel
def rm_x0_undo : Room := { frames := 3, cells := 0, slots := 0, locals := 66 }
noncomputable def x0_undo (N : Nat) (Ds : gz_S) (Df : gz_R) (V : gz_V) : Option (gz_V × Int32) := (if (V (10, 0, 0) 8) = 0 then some (V, 0) else gz_let (gz_up V (10, 0, 0) 8 ((V (10, 0, 0) 8) - 1)) (fun V2 => gz_gd (gz_inb (V2 (10, 0, 0) 8) 6 = true) (gz_bd (gz_mk (Df (11, 7, 0) (V2 (10, 0, 0) 8).toNatClampNeg)) (fun u5 => gz_bd (x1_moves N V2 0 u5) (fun V7 => some (V7, 1))))))
theorem c_x0_undo {l : Launch} {D : va_G} {aC : Nat → ClassId} {ad : gz_A0} {N : Nat} {Ds : gz_S} {Df : gz_R} {V : gz_V} {W1 : gz_V} {r : Int32} (h : x0_undo N Ds Df V = some (W1, r)) : gz_Met l yX0_undo cX0_undo 1 (some .boolean) rm_x0_undo D aC ad (xw_s Ds) V (xw_c Df) [.ref (ad (10, 0, 0))] (gz_F1 (xw_s Ds) (xw_c Df) ad W1 (some (.int r))) 0 0 := by
  refine gu_ofW (own := RX0) (mn := "undo") (lv := [(0, .ref (ad (10, 0, 0)))]) (by decide) rfl rfl (Nat.le_of_ble_eq_true rfl) rfl ?_
  intro X hX hZ hF
  rw [x0_undo] at h
  refine gz_aload_n (q := 0) hX dX0_undo_0 rfl rfl ?_
  refine xg_X0_130 hX xs_main dX0_undo_1 ?_
  refine gz_if_ne (tgt := 9) hX dX0_undo_4 (by decide) (fun c1 => ?_) (fun c1 => ?_)
  · have h := gz_ifn c1 h
    refine gz_aload_n (q := 0) hX dX0_undo_9 rfl rfl ?_
    refine gz_dupa hX dX0_undo_10 ?_
    refine xg_X0_130 hX xs_main dX0_undo_11 ?_
    refine gz_iconst (v := 1) hX dX0_undo_14 gl_c_1 ?_
    refine gz_isub hX dX0_undo_15 ?_
    obtain ⟨V2, e3, h⟩ := gz_let_o h
    refine xp_X0_130 hX xs_main (gz_ne0 9 rfl) dX0_undo_16 e3 ?_
    refine gz_aload_n (q := 0) hX dX0_undo_19 rfl rfl ?_
    refine xg_X0_20 (n2 := (20, 0, 0)) hX xs_main rfl dX0_undo_20 ?_
    refine gz_aload_n (q := 0) hX dX0_undo_23 rfl rfl ?_
    refine xg_X0_30 (n2 := (11, 7, 0)) hX xs_main rfl dX0_undo_24 ?_
    refine gz_aload_n (q := 0) hX dX0_undo_27 rfl rfl ?_
    refine xg_X0_130 hX xs_main dX0_undo_28 ?_
    obtain ⟨b4, h⟩ := gz_gd_o h
    obtain ⟨u5, e6, h⟩ := gz_bd_o h
    refine gz_aald (L := 6) (t := 113) (t0 := 6) (ty := (.object "ClaspedFair$Market")) (n2 := (20, u5, 0)) hX (by decide) (by decide) (fun _ => rfl) rfl xs_back (gz_inb_o b4) (gz_mk_o e6).1 dX0_undo_31 ?_
    obtain ⟨V7, e8, h⟩ := gz_bd_o h
    refine gu_callV (ci := 1) (n := (20, 0, 0)) (As := [.ref (ad (20, u5, 0))]) hX (c_x1_moves (by decide) (gz_mk_o e6).2 e8) (lw_x1_moves_ q1023) rfl rfl nn_x1_moves ⟨Nat.le_of_ble_eq_true rfl, Nat.le_of_ble_eq_true rfl⟩ ⟨Nat.zero_le _, Nat.zero_le _⟩ (by decide) rfl (xs_M (by decide)) rfl rfl (Nat.le_of_ble_eq_true rfl) dX0_undo_32 rfl ?_
    refine gz_iconst (v := 1) hX dX0_undo_35 gl_c_1 ?_
    obtain ⟨e_V, e_r⟩ := gz_in2 h
    exact gu_zret hX hZ rfl hF e_V rfl e_r dX0_undo_36
  · have h := gz_ifp c1 h
    refine gz_iconst (v := 0) hX dX0_undo_7 gl_c_0 ?_
    obtain ⟨e_V, e_r⟩ := gz_in2 h
    exact gu_zret hX hZ rfl hF e_V rfl e_r dX0_undo_8
theorem lw_x0_undo_ {o : String} {i : Nat} (hl : Cond.methodLink o i yX0_undo ∈ lw_all) : GoodIn lw_all (wsV o i RX0 yX0_undo (ws_ yX0_undo cX0_undo 1 (some .boolean))) := lw_V hl q1020 q1021 q144 q1022
theorem nn_x0_undo : yX0_undo.cls = RX0 ∧ yX0_undo.cls ≠ "java/lang/invoke/MethodHandle" ∧ yX0_undo.cls ≠ "java/lang/invoke/VarHandle" ∧ (parseMethodDescriptor yX0_undo.desc).map (fun d => d.parameters.length) = some 0 := by decide +kernel
def rm_x0_withKin : Room := { frames := 0, cells := 0, slots := 0, locals := 0 }
noncomputable def x0_withKin_L4 (N : Nat) (Ds : gz_S) (Df : gz_R) (V : gz_V) : Nat → Int32 → Int32 → Option (Int32)
  | 0, _, _ => none
  | n + 1, v1, v2 => (if (V (20, 0, 0) 13) ≤ v2 then some v1 else gz_bd (Df (20, 0, 0) 12) (fun n2 => gz_gd (90 ≤ n2.1 ∧ Ds n2 = some (100, 12)) (gz_gd (gz_inb v2 12 = true) (gz_let (if (V n2 v2.toNatClampNeg) = 0 then (0 : Int32) else ((1 : Int32) <<< (v2 &&& 31))) (fun y6 => gz_let ((v1 ||| y6)) (fun x10 => x0_withKin_L4 N Ds Df V n x10 (v2 + 1)))))))
theorem w_x0_withKin_L4 {X : gz_X} {ad : gz_A0} {N : Nat} {Ds : gz_S} {Df : gz_R} {V : gz_V} {o1 : Int32} (hX : gz_ok X cX0_withKin RX0 "withKin" 3 rm_x0_withKin (some .int)) (hZ : gz_Z X) (k : gW X 3 (xw_s Ds) (xw_c Df) ad V 0 0 43 [(1, .int o1)] []) : ∀ (n : Nat) {v1 : Int32} {v2 : Int32}, x0_withKin_L4 N Ds Df V n v1 v2 = some o1 → gW X 3 (xw_s Ds) (xw_c Df) ad V 0 0 4 [(0, .ref (ad (10, 0, 0))), (1, .int v1), (2, .int v2)] [] := by
  intro n
  induction n with
  | zero => intro v1 v2 h; rw [x0_withKin_L4] at h; cases h
  | succ n ih =>
    intro v1 v2 h
    rw [x0_withKin_L4] at h
    refine gz_iload_n (q := 2) hX dX0_withKin_4 rfl rfl ?_
    refine gz_aload_n (q := 0) hX dX0_withKin_5 rfl rfl ?_
    refine xg_X0_20 (n2 := (20, 0, 0)) hX xs_main rfl dX0_withKin_6 ?_
    refine xg_X0_137 hX (xs_M (by decide)) dX0_withKin_9 ?_
    refine gz_icmp_ge (tgt := 43) hX dX0_withKin_12 (by decide) (fun c1 => ?_) (fun c1 => ?_)
    · have h := gz_ifp c1 h
      obtain rfl := gz_in1 h
      exact gz_lv [1] rfl k
    · have h := gz_ifn c1 h
      refine gz_iload_n (q := 1) hX dX0_withKin_15 rfl rfl ?_
      refine gz_aload_n (q := 0) hX dX0_withKin_16 rfl rfl ?_
      refine xg_X0_20 (n2 := (20, 0, 0)) hX xs_main rfl dX0_withKin_17 ?_
      obtain ⟨n2, e3, h⟩ := gz_bd_o h
      obtain ⟨b4, h⟩ := gz_gd_o h
      refine xg_X0_107 (n2 := n2) hX (xs_M (by decide)) e3 dX0_withKin_20 ?_
      refine gz_iload_n (q := 2) hX dX0_withKin_23 rfl rfl ?_
      obtain ⟨b5, h⟩ := gz_gd_o h
      refine gz_iald (L := 12) hX (xs_dyn b4) (gz_inb_o b5) dX0_withKin_24 ?_
      obtain ⟨y6, g7, h⟩ := gz_let_o h
      have J8 : gW X 3 (xw_s Ds) (xw_c Df) ad V 0 0 35 [(0, .ref (ad (10, 0, 0))), (2, .int v2)] [.int y6, .int v1] := by
        refine gz_ior hX dX0_withKin_35 ?_
        obtain ⟨x10, e11, h⟩ := gz_let_o h
        refine gz_nm e11 ?_
        refine gz_istore_n (lv2 := [(1, .int x10), (0, .ref (ad (10, 0, 0))), (2, .int v2)]) hX dX0_withKin_36 rfl (by decide) rfl ?_
        refine gz_iinc (q := 2) (lv2 := [(2, .int (v2 + 1)), (1, .int x10), (0, .ref (ad (10, 0, 0)))]) hX dX0_withKin_37 rfl gl_c_1 (by decide) rfl ?_
        refine gz_goto (tgt := 4) hX dX0_withKin_40 (by decide) ?_
        exact gz_lv [2, 1, 0] rfl (ih h)
      refine gz_if_eq (tgt := 34) hX dX0_withKin_25 (by decide) (fun c9 => ?_) (fun c9 => ?_)
      · have g7 := gz_ifp c9 g7
        refine gz_iconst (v := 0) hX dX0_withKin_34 gl_c_0 ?_
        obtain rfl := g7
        exact gz_lv [0, 2] rfl J8
      · have g7 := gz_ifn c9 g7
        refine gz_iconst (v := 1) hX dX0_withKin_28 gl_c_1 ?_
        refine gz_iload_n (q := 2) hX dX0_withKin_29 rfl rfl ?_
        refine gz_ishl hX dX0_withKin_30 ?_
        refine gz_goto (tgt := 35) hX dX0_withKin_31 (by decide) ?_
        obtain rfl := g7
        exact gz_lv [0, 2] rfl J8
noncomputable def x0_withKin (N : Nat) (Ds : gz_S) (Df : gz_R) (V : gz_V) : Option (Int32) := gz_bd (x0_withKin_L4 N Ds Df V N 0 0) (fun x1 => some x1)
theorem c_x0_withKin {l : Launch} {D : va_G} {aC : Nat → ClassId} {ad : gz_A0} {N : Nat} {Ds : gz_S} {Df : gz_R} {V : gz_V} {r : Int32} (h : x0_withKin N Ds Df V = some r) : gz_Met l yX0_withKin cX0_withKin 3 (some .int) rm_x0_withKin D aC ad (xw_s Ds) V (xw_c Df) [.ref (ad (10, 0, 0))] (gz_F1 (xw_s Ds) (xw_c Df) ad V (some (.int r))) 0 0 := by
  refine gu_ofW (own := RX0) (mn := "withKin") (lv := [(0, .ref (ad (10, 0, 0)))]) (by decide) rfl rfl (Nat.le_of_ble_eq_true rfl) rfl ?_
  intro X hX hZ hF
  rw [x0_withKin] at h
  refine gz_iconst (v := 0) hX dX0_withKin_0 gl_c_0 ?_
  refine gz_istore_n (lv2 := [(1, .int 0), (0, .ref (ad (10, 0, 0)))]) hX dX0_withKin_1 rfl (by decide) rfl ?_
  refine gz_iconst (v := 0) hX dX0_withKin_2 gl_c_0 ?_
  refine gz_istore_n (lv2 := [(2, .int 0), (1, .int 0), (0, .ref (ad (10, 0, 0)))]) hX dX0_withKin_3 rfl (by decide) rfl ?_
  obtain ⟨x1, e2, h⟩ := gz_bd_o h
  refine gz_lv [2, 1, 0] rfl (w_x0_withKin_L4 hX hZ ?_ N e2)
  refine gz_iload_n (q := 0) hX dX0_withKin_43 rfl rfl ?_
  exact gu_iret hX hZ hF rfl rfl (gz_in1 h) dX0_withKin_44
theorem lw_x0_withKin_ {o : String} {i : Nat} (hl : Cond.methodLink o i yX0_withKin ∈ lw_all) : GoodIn lw_all (wsV o i RX0 yX0_withKin (ws_ yX0_withKin cX0_withKin 3 (some .int))) := lw_V hl q1358 qs46 q144 q1359
theorem nn_x0_withKin : yX0_withKin.cls = RX0 ∧ yX0_withKin.cls ≠ "java/lang/invoke/MethodHandle" ∧ yX0_withKin.cls ≠ "java/lang/invoke/VarHandle" ∧ (parseMethodDescriptor yX0_withKin.desc).map (fun d => d.parameters.length) = some 0 := by decide +kernel
def rm_x0_walk : Room := { frames := 2, cells := 0, slots := 0, locals := 42 }
noncomputable def x0_walk_L21 (N : Nat) (Ds : gz_S) (Df : gz_R) (V : gz_V) (v1 : Int32) (v2 : Int32) : Nat → Int32 → Option (Int32)
  | 0, _ => none
  | n + 1, v3 => gz_bd (x0_besideKin N Ds Df V v3) (fun r6 => (if r6 = v3 then some v3 else gz_bd (x0_besideKin N Ds Df V v3) (fun r9 => x0_walk_L21 N Ds Df V v1 v2 n r9)))
theorem w_x0_walk_L21 {X : gz_X} {ad : gz_A0} {N : Nat} {Ds : gz_S} {Df : gz_R} {V : gz_V} {v1 : Int32} {v2 : Int32} {o3 : Int32} (hX : gz_ok X cX0_walk RX0 "walk" 6 rm_x0_walk (some .int)) (hZ : gz_Z X) (k : gW X 6 (xw_s Ds) (xw_c Df) ad V 0 0 39 [(0, .ref (ad (10, 0, 0))), (1, .int v1), (2, .int v2), (3, .int o3)] []) : ∀ (n : Nat) {v3 : Int32}, x0_walk_L21 N Ds Df V v1 v2 n v3 = some o3 → gW X 6 (xw_s Ds) (xw_c Df) ad V 0 0 21 [(0, .ref (ad (10, 0, 0))), (1, .int v1), (2, .int v2), (3, .int v3)] [] := by
  intro n
  induction n with
  | zero => intro v3 h; rw [x0_walk_L21] at h; cases h
  | succ n ih =>
    intro v3 h
    rw [x0_walk_L21] at h
    refine gz_aload_n (q := 0) hX dX0_walk_21 rfl rfl ?_
    refine gz_iload_n (q := 3) hX dX0_walk_22 rfl rfl ?_
    obtain ⟨r6, e7, h⟩ := gz_bd_o h
    refine gu_callV (ci := 0) (n := (10, 0, 0)) (As := [.int v3]) hX (c_x0_besideKin e7) (lw_x0_besideKin_ q1360) rfl rfl nn_x0_besideKin ⟨Nat.le_of_ble_eq_true rfl, Nat.le_of_ble_eq_true rfl⟩ ⟨Nat.zero_le _, Nat.zero_le _⟩ (by decide) rfl xs_main rfl rfl (Nat.le_of_ble_eq_true rfl) dX0_walk_23 rfl ?_
    refine gz_iload_n (q := 3) hX dX0_walk_26 rfl rfl ?_
    refine gz_icmp_eq (tgt := 39) hX dX0_walk_27 (by decide) (fun c8 => ?_) (fun c8 => ?_)
    · have h := gz_ifp c8 h
      obtain rfl := gz_in1 h
      exact gz_lv [0, 1, 2, 3] rfl k
    · have h := gz_ifn c8 h
      refine gz_aload_n (q := 0) hX dX0_walk_30 rfl rfl ?_
      refine gz_iload_n (q := 3) hX dX0_walk_31 rfl rfl ?_
      obtain ⟨r9, e10, h⟩ := gz_bd_o h
      refine gu_callV (ci := 0) (n := (10, 0, 0)) (As := [.int v3]) hX (c_x0_besideKin e10) (lw_x0_besideKin_ q1360) rfl rfl nn_x0_besideKin ⟨Nat.le_of_ble_eq_true rfl, Nat.le_of_ble_eq_true rfl⟩ ⟨Nat.zero_le _, Nat.zero_le _⟩ (by decide) rfl xs_main rfl rfl (Nat.le_of_ble_eq_true rfl) dX0_walk_32 rfl ?_
      refine gz_istore_n (lv2 := [(3, .int r9), (0, .ref (ad (10, 0, 0))), (1, .int v1), (2, .int v2)]) hX dX0_walk_35 rfl (by decide) rfl ?_
      refine gz_goto (tgt := 21) hX dX0_walk_36 (by decide) ?_
      exact gz_lv [1, 2, 3, 0] rfl (ih h)
noncomputable def x0_walk (N : Nat) (Ds : gz_S) (Df : gz_R) (V : gz_V) (a1 : Int32) : Option (Int32) := (if (x0_isIn a1 0 1) = 0 then some (-1) else gz_bd (x0_withKin N Ds Df V) (fun r2 => gz_let ((r2 &&& (-r2))) (fun x4 => gz_bd (x0_walk_L21 N Ds Df V a1 r2 N x4) (fun x6 => gz_bd (x0_oddKin N Ds Df V) (fun r8 => gz_let (if r2 = 0 then (0 : Int32) else (if x6 = r2 then (if 2 < (j13_bitCount r8) then (0 : Int32) else (1 : Int32)) else (0 : Int32))) (fun y10 => (if y10 = 0 then (if a1 = 0 then some 0 else some (-1)) else (if a1 = 1 then gz_let (if r8 = 0 then r2 else r8) (fun y19 => some (j13_numberOfTrailingZeros y19)) else (if r8 = 0 then some 2 else some 1)))))))))
theorem c_x0_walk {l : Launch} {D : va_G} {aC : Nat → ClassId} {ad : gz_A0} {N : Nat} {Ds : gz_S} {Df : gz_R} {V : gz_V} {a1 : Int32} {r : Int32} (h : x0_walk N Ds Df V a1 = some r) : gz_Met l yX0_walk cX0_walk 6 (some .int) rm_x0_walk D aC ad (xw_s Ds) V (xw_c Df) [.ref (ad (10, 0, 0)), .int a1] (gz_F1 (xw_s Ds) (xw_c Df) ad V (some (.int r))) 0 0 := by
  refine gu_ofW (own := RX0) (mn := "walk") (lv := [(0, .ref (ad (10, 0, 0))), (1, .int a1)]) (by decide) rfl rfl (Nat.le_of_ble_eq_true rfl) rfl ?_
  intro X hX hZ hF
  rw [x0_walk] at h
  refine gz_iload_n (q := 1) hX dX0_walk_0 rfl rfl ?_
  refine gz_iconst (v := 0) hX dX0_walk_1 gl_c_0 ?_
  refine gz_iconst (v := 1) hX dX0_walk_2 gl_c_1 ?_
  refine gu_callS (As := [.int a1, .int 0, .int 1]) hX (c_x0_isIn rfl) (lw_x0_isIn_ q502) rfl rfl nn_x0_isIn ⟨Nat.le_of_ble_eq_true rfl, Nat.le_of_ble_eq_true rfl⟩ ⟨Nat.zero_le _, Nat.zero_le _⟩ rfl rfl (Nat.le_of_ble_eq_true rfl) dX0_walk_3 rfl ?_
  refine gz_if_ne (tgt := 11) hX dX0_walk_6 (by decide) (fun c1 => ?_) (fun c1 => ?_)
  · have h := gz_ifn c1 h
    refine gz_aload_n (q := 0) hX dX0_walk_11 rfl rfl ?_
    obtain ⟨r2, e3, h⟩ := gz_bd_o h
    refine gu_callV (ci := 0) (n := (10, 0, 0)) (As := []) hX (c_x0_withKin e3) (lw_x0_withKin_ q1356) rfl rfl nn_x0_withKin ⟨Nat.le_of_ble_eq_true rfl, Nat.le_of_ble_eq_true rfl⟩ ⟨Nat.zero_le _, Nat.zero_le _⟩ (by decide) rfl xs_main rfl rfl (Nat.le_of_ble_eq_true rfl) dX0_walk_12 rfl ?_
    refine gz_istore_n (lv2 := [(2, .int r2), (0, .ref (ad (10, 0, 0))), (1, .int a1)]) hX dX0_walk_15 rfl (by decide) rfl ?_
    refine gz_iload_n (q := 0) hX dX0_walk_16 rfl rfl ?_
    refine gz_iload_n (q := 0) hX dX0_walk_17 rfl rfl ?_
    refine gz_ineg hX dX0_walk_18 ?_
    refine gz_iand hX dX0_walk_19 ?_
    obtain ⟨x4, e5, h⟩ := gz_let_o h
    refine gz_nm e5 ?_
    refine gz_istore_n (lv2 := [(3, .int x4), (2, .int r2), (0, .ref (ad (10, 0, 0))), (1, .int a1)]) hX dX0_walk_20 rfl (by decide) rfl ?_
    obtain ⟨x6, e7, h⟩ := gz_bd_o h
    refine gz_lv [2, 3, 1, 0] rfl (w_x0_walk_L21 hX hZ ?_ N e7)
    refine gz_aload_n (q := 0) hX dX0_walk_39 rfl rfl ?_
    obtain ⟨r8, e9, h⟩ := gz_bd_o h
    refine gu_callV (ci := 0) (n := (10, 0, 0)) (As := []) hX (c_x0_oddKin e9) (lw_x0_oddKin_ q1364) rfl rfl nn_x0_oddKin ⟨Nat.le_of_ble_eq_true rfl, Nat.le_of_ble_eq_true rfl⟩ ⟨Nat.zero_le _, Nat.zero_le _⟩ (by decide) rfl xs_main rfl rfl (Nat.le_of_ble_eq_true rfl) dX0_walk_40 rfl ?_
    refine gz_istore (lv2 := [(4, .int r8), (0, .ref (ad (10, 0, 0))), (1, .int a1), (2, .int r2), (3, .int x6)]) hX dX0_walk_43 (by decide) rfl ?_
    refine gz_iload_n (q := 3) hX dX0_walk_45 rfl rfl ?_
    obtain ⟨y10, g11, h⟩ := gz_let_o h
    have J12 : gW X 6 (xw_s Ds) (xw_c Df) ad V 0 0 68 [(1, .int a1), (2, .int r2), (4, .int r8)] [.int y10] := by
      refine gz_istore (lv2 := [(5, .int y10), (1, .int a1), (2, .int r2), (4, .int r8)]) hX dX0_walk_68 (by decide) rfl ?_
      refine gz_iload (q := 0) hX dX0_walk_70 rfl ?_
      refine gz_if_ne (tgt := 85) hX dX0_walk_72 (by decide) (fun c16 => ?_) (fun c16 => ?_)
      · have h := gz_ifn c16 h
        refine gz_iload_n (q := 1) hX dX0_walk_85 rfl rfl ?_
        refine gz_iconst (v := 1) hX dX0_walk_86 gl_c_1 ?_
        refine gz_icmp_ne (tgt := 107) hX dX0_walk_87 (by decide) (fun c17 => ?_) (fun c17 => ?_)
        · have h := gz_ifn c17 h
          refine gz_iload (q := 3) hX dX0_walk_107 rfl ?_
          refine gz_if_ne (tgt := 116) hX dX0_walk_109 (by decide) (fun c18 => ?_) (fun c18 => ?_)
          · have h := gz_ifn c18 h
            refine gz_iconst (v := 1) hX dX0_walk_116 gl_c_1 ?_
            exact gu_iret hX hZ hF rfl rfl (gz_in1 h) dX0_walk_117
          · have h := gz_ifp c18 h
            refine gz_iconst (v := 2) hX dX0_walk_112 gl_c_2 ?_
            refine gz_goto (tgt := 117) hX dX0_walk_113 (by decide) ?_
            exact gu_iret hX hZ hF rfl rfl (gz_in1 h) dX0_walk_117
        · have h := gz_ifp c17 h
          refine gz_iload (q := 3) hX dX0_walk_90 rfl ?_
          obtain ⟨y19, g20, h⟩ := gz_let_o h
          have J21 : gW X 6 (xw_s Ds) (xw_c Df) ad V 0 0 101 [] [.int y19] := by
            refine gu_callS (As := [.int y19]) hX (c_j13_numberOfTrailingZeros rfl) (lw_j13_numberOfTrailingZeros_ q1344) rfl rfl nn_j13_numberOfTrailingZeros ⟨Nat.le_of_ble_eq_true rfl, Nat.le_of_ble_eq_true rfl⟩ ⟨Nat.zero_le _, Nat.zero_le _⟩ rfl rfl (Nat.le_of_ble_eq_true rfl) dX0_walk_101 rfl ?_
            refine gz_goto (tgt := 117) hX dX0_walk_104 (by decide) ?_
            exact gu_iret hX hZ hF rfl rfl (gz_in1 h) dX0_walk_117
          refine gz_if_ne (tgt := 99) hX dX0_walk_92 (by decide) (fun c22 => ?_) (fun c22 => ?_)
          · have g20 := gz_ifn c22 g20
            refine gz_iload (q := 3) hX dX0_walk_99 rfl ?_
            obtain rfl := g20
            exact gz_lv [] rfl J21
          · have g20 := gz_ifp c22 g20
            refine gz_iload_n (q := 2) hX dX0_walk_95 rfl rfl ?_
            refine gz_goto (tgt := 101) hX dX0_walk_96 (by decide) ?_
            obtain rfl := g20
            exact gz_lv [] rfl J21
      · have h := gz_ifp c16 h
        refine gz_iload_n (q := 1) hX dX0_walk_75 rfl rfl ?_
        refine gz_if_ne (tgt := 83) hX dX0_walk_76 (by decide) (fun c23 => ?_) (fun c23 => ?_)
        · have h := gz_ifn c23 h
          refine gz_iconst (v := (-1)) hX dX0_walk_83 gl_c_m1 ?_
          exact gu_iret hX hZ hF rfl rfl (gz_in1 h) dX0_walk_84
        · have h := gz_ifp c23 h
          refine gz_iconst (v := 0) hX dX0_walk_79 gl_c_0 ?_
          refine gz_goto (tgt := 84) hX dX0_walk_80 (by decide) ?_
          exact gu_iret hX hZ hF rfl rfl (gz_in1 h) dX0_walk_84
    refine gz_if_eq (tgt := 67) hX dX0_walk_46 (by decide) (fun c13 => ?_) (fun c13 => ?_)
    · have g11 := gz_ifp c13 g11
      refine gz_iconst (v := 0) hX dX0_walk_67 gl_c_0 ?_
      obtain rfl := g11
      exact gz_lv [2, 3, 0] rfl J12
    · have g11 := gz_ifn c13 g11
      refine gz_iload_n (q := 4) hX dX0_walk_49 rfl rfl ?_
      refine gz_iload_n (q := 3) hX dX0_walk_50 rfl rfl ?_
      refine gz_icmp_ne (tgt := 67) hX dX0_walk_51 (by decide) (fun c14 => ?_) (fun c14 => ?_)
      · have g11 := gz_ifn c14 g11
        refine gz_iconst (v := 0) hX dX0_walk_67 gl_c_0 ?_
        obtain rfl := g11
        exact gz_lv [2, 3, 0] rfl J12
      · have g11 := gz_ifp c14 g11
        refine gz_iload (q := 0) hX dX0_walk_54 rfl ?_
        refine gu_callS (As := [.int r8]) hX (c_j13_bitCount rfl) (lw_j13_bitCount_ q1368) rfl rfl nn_j13_bitCount ⟨Nat.le_of_ble_eq_true rfl, Nat.le_of_ble_eq_true rfl⟩ ⟨Nat.zero_le _, Nat.zero_le _⟩ rfl rfl (Nat.le_of_ble_eq_true rfl) dX0_walk_56 rfl ?_
        refine gz_iconst (v := 2) hX dX0_walk_59 gl_c_2 ?_
        refine gz_icmp_gt (tgt := 67) hX dX0_walk_60 (by decide) (fun c15 => ?_) (fun c15 => ?_)
        · have g11 := gz_ifp c15 g11
          refine gz_iconst (v := 0) hX dX0_walk_67 gl_c_0 ?_
          obtain rfl := g11
          exact gz_lv [2, 3, 0] rfl J12
        · have g11 := gz_ifn c15 g11
          refine gz_iconst (v := 1) hX dX0_walk_63 gl_c_1 ?_
          refine gz_goto (tgt := 68) hX dX0_walk_64 (by decide) ?_
          obtain rfl := g11
          exact gz_lv [2, 3, 0] rfl J12
  · have h := gz_ifp c1 h
    refine gz_iconst (v := (-1)) hX dX0_walk_9 gl_c_m1 ?_
    exact gu_iret hX hZ hF rfl rfl (gz_in1 h) dX0_walk_10
theorem lw_x0_walk_ {o : String} {i : Nat} (hl : Cond.methodLink o i yX0_walk ∈ lw_all) : GoodIn lw_all (wsV o i RX0 yX0_walk (ws_ yX0_walk cX0_walk 6 (some .int))) := lw_V hl q1353 q1354 q144 q1355
theorem nn_x0_walk : yX0_walk.cls = RX0 ∧ yX0_walk.cls ≠ "java/lang/invoke/MethodHandle" ∧ yX0_walk.cls ≠ "java/lang/invoke/VarHandle" ∧ (parseMethodDescriptor yX0_walk.desc).map (fun d => d.parameters.length) = some 1 := by decide +kernel
theorem gl_s_200 : (Int16.ofInt 200).toInt32 = 200 := by decide
def rm_x0_weight : Room := { frames := 1, cells := 0, slots := 0, locals := 22 }
noncomputable def x0_weight (V : gz_V) (a1 : Int32) : Option (gz_V × Int32) := (if a1 = (-1) then gz_b2 (x3_ends V 0 2) (fun V6 r7 => some (V6, r7)) else (if (x0_isIn a1 1 200) = 0 then some (V, (-1)) else gz_b2 (x3_tells V 0 2 a1 0) (fun V3 r4 => some (V3, r4))))
theorem c_x0_weight {l : Launch} {D : va_G} {aC : Nat → ClassId} {ad : gz_A0} {Ds : gz_S} {Df : gz_R} {V : gz_V} {a1 : Int32} {W1 : gz_V} {r : Int32} (h : x0_weight V a1 = some (W1, r)) : gz_Met l yX0_weight cX0_weight 2 (some .int) rm_x0_weight D aC ad (xw_s Ds) V (xw_c Df) [.ref (ad (10, 0, 0)), .int a1] (gz_F1 (xw_s Ds) (xw_c Df) ad W1 (some (.int r))) 0 0 := by
  refine gu_ofW (own := RX0) (mn := "weight") (lv := [(0, .ref (ad (10, 0, 0))), (1, .int a1)]) (by decide) rfl rfl (Nat.le_of_ble_eq_true rfl) rfl ?_
  intro X hX hZ hF
  rw [x0_weight] at h
  refine gz_iload_n (q := 1) hX dX0_weight_0 rfl rfl ?_
  refine gz_iconst (v := (-1)) hX dX0_weight_1 gl_c_m1 ?_
  refine gz_icmp_ne (tgt := 18) hX dX0_weight_2 (by decide) (fun c1 => ?_) (fun c1 => ?_)
  · have h := gz_ifn c1 h
    refine gz_iload_n (q := 1) hX dX0_weight_18 rfl rfl ?_
    refine gz_iconst (v := 1) hX dX0_weight_19 gl_c_1 ?_
    refine gz_sipush (v := 200) hX dX0_weight_20 gl_s_200 ?_
    refine gu_callS (As := [.int a1, .int 1, .int 200]) hX (c_x0_isIn rfl) (lw_x0_isIn_ q502) rfl rfl nn_x0_isIn ⟨Nat.le_of_ble_eq_true rfl, Nat.le_of_ble_eq_true rfl⟩ ⟨Nat.zero_le _, Nat.zero_le _⟩ rfl rfl (Nat.le_of_ble_eq_true rfl) dX0_weight_23 rfl ?_
    refine gz_if_eq (tgt := 44) hX dX0_weight_26 (by decide) (fun c2 => ?_) (fun c2 => ?_)
    · have h := gz_ifp c2 h
      refine gz_iconst (v := (-1)) hX dX0_weight_44 gl_c_m1 ?_
      obtain ⟨e_V, e_r⟩ := gz_in2 h
      exact gu_iret hX hZ hF e_V rfl e_r dX0_weight_45
    · have h := gz_ifn c2 h
      refine gz_aload_n (q := 0) hX dX0_weight_29 rfl rfl ?_
      refine xg_X0_20 (n2 := (20, 0, 0)) hX xs_main rfl dX0_weight_30 ?_
      refine xg_X0_323 (n2 := (27, 0, 2)) hX (xs_M (by decide)) rfl dX0_weight_33 ?_
      refine gz_iload_n (q := 1) hX dX0_weight_36 rfl rfl ?_
      refine gz_iconst (v := 0) hX dX0_weight_37 gl_c_0 ?_
      obtain ⟨V3, r4, e5, h⟩ := gz_b2_o h
      refine gu_callV (ci := 3) (n := (27, 0, 2)) (As := [.int a1, .int 0]) hX (c_x3_tells (by decide) (by decide) e5) (lw_x3_tells_ q1306) rfl rfl nn_x3_tells ⟨Nat.le_of_ble_eq_true rfl, Nat.le_of_ble_eq_true rfl⟩ ⟨Nat.zero_le _, Nat.zero_le _⟩ (by decide) rfl (xs_RO (by decide) (by decide)) rfl rfl (Nat.le_of_ble_eq_true rfl) dX0_weight_38 rfl ?_
      refine gz_goto (tgt := 45) hX dX0_weight_41 (by decide) ?_
      obtain ⟨e_V, e_r⟩ := gz_in2 h
      exact gu_iret hX hZ hF e_V rfl e_r dX0_weight_45
  · have h := gz_ifp c1 h
    refine gz_aload_n (q := 0) hX dX0_weight_5 rfl rfl ?_
    refine xg_X0_20 (n2 := (20, 0, 0)) hX xs_main rfl dX0_weight_6 ?_
    refine xg_X0_323 (n2 := (27, 0, 2)) hX (xs_M (by decide)) rfl dX0_weight_9 ?_
    obtain ⟨V6, r7, e8, h⟩ := gz_b2_o h
    refine gu_callV (ci := 3) (n := (27, 0, 2)) (As := []) hX (c_x3_ends (by decide) (by decide) e8) (lw_x3_ends_ q1302) rfl rfl nn_x3_ends ⟨Nat.le_of_ble_eq_true rfl, Nat.le_of_ble_eq_true rfl⟩ ⟨Nat.zero_le _, Nat.zero_le _⟩ (by decide) rfl (xs_RO (by decide) (by decide)) rfl rfl (Nat.le_of_ble_eq_true rfl) dX0_weight_12 rfl ?_
    refine gz_goto (tgt := 45) hX dX0_weight_15 (by decide) ?_
    obtain ⟨e_V, e_r⟩ := gz_in2 h
    exact gu_iret hX hZ hF e_V rfl e_r dX0_weight_45
theorem lw_x0_weight_ {o : String} {i : Nat} (hl : Cond.methodLink o i yX0_weight ∈ lw_all) : GoodIn lw_all (wsV o i RX0 yX0_weight (ws_ yX0_weight cX0_weight 2 (some .int))) := lw_V hl q1386 q1387 q144 q1388
theorem nn_x0_weight : yX0_weight.cls = RX0 ∧ yX0_weight.cls ≠ "java/lang/invoke/MethodHandle" ∧ yX0_weight.cls ≠ "java/lang/invoke/VarHandle" ∧ (parseMethodDescriptor yX0_weight.desc).map (fun d => d.parameters.length) = some 1 := by decide +kernel
def rm_x1_fact : Room := { frames := 1, cells := 0, slots := 0, locals := 21 }
noncomputable def x1_fact (Ds : gz_S) (Df : gz_R) (V : gz_V) (u1 : Nat) (a1 : Int32) : Option (Int32) := gz_gd (gz_inb (V (20, u1, 0) 22) 12 = true) (gz_let ((V (20, u1, 0) 22).toNatClampNeg) (fun w2 => (if a1 = 0 then some (gz_max 0 (V (20, u1, 0) 24)) else if a1 = 1 then (if (V (20, u1, 0) 24) = (-1) then some 0 else gz_gd (gz_inb (V (20, u1, 0) 24) 5 = true) (some (V (41, u1, w2) (V (20, u1, 0) 24).toNatClampNeg))) else if a1 = 2 then (if (V (20, u1, 0) 24) = (-1) then some 0 else gz_gd (gz_inb (V (20, u1, 0) 23) 12 = true) (gz_gd (gz_inb (V (20, u1, 0) 24) 5 = true) (some (V (41, u1, (V (20, u1, 0) 23).toNatClampNeg) (V (20, u1, 0) 24).toNatClampNeg)))) else if a1 = 3 then some (V (23, u1, 0) 4) else if a1 = 4 then some (V (23, u1, 0) 5) else if a1 = 5 then some (V (23, u1, 0) 6) else if a1 = 6 then some (V (23, u1, 0) 7) else if a1 = 7 then some (V (40, u1, w2) 3) else if a1 = 8 then some (V (40, u1, w2) 1) else if a1 = 9 then gz_bd (Df (20, u1, 0) 12) (fun n19 => gz_gd (90 ≤ n19.1 ∧ Ds n19 = some (100, 12)) (gz_gd (gz_inb (V (20, u1, 0) 22) 12 = true) (some (((V n19 (V (20, u1, 0) 22).toNatClampNeg) >>> ((V (20, u1, 0) 23) &&& 31)) &&& 1)))) else some (V (20, u1, 0) 17))))
theorem c_x1_fact {l : Launch} {D : va_G} {aC : Nat → ClassId} {ad : gz_A0} {Ds : gz_S} {Df : gz_R} {V : gz_V} {u1 : Nat} {a1 : Int32} {r : Int32} (hu1 : u1 < 9) (h : x1_fact Ds Df V u1 a1 = some r) : gz_Met l yX1_fact cX1_fact 3 (some .int) rm_x1_fact D aC ad (xw_s Ds) V (xw_c Df) [.ref (ad (20, u1, 0)), .int a1] (gz_F1 (xw_s Ds) (xw_c Df) ad V (some (.int r))) 0 0 := by
  refine gu_ofW (own := RX1) (mn := "fact") (lv := [(0, .ref (ad (20, u1, 0))), (1, .int a1)]) (by decide) rfl rfl (Nat.le_of_ble_eq_true rfl) rfl ?_
  intro X hX hZ hF
  rw [x1_fact] at h
  refine gz_aload_n (q := 0) hX dX1_fact_0 rfl rfl ?_
  refine xg_X1_11 (n2 := (21, u1, 0)) hX (xs_M hu1) rfl dX1_fact_1 ?_
  refine gz_aload_n (q := 0) hX dX1_fact_4 rfl rfl ?_
  refine xg_X1_123 hX (xs_M hu1) dX1_fact_5 ?_
  obtain ⟨b1, h⟩ := gz_gd_o h
  refine gz_aald (L := 12) (t := 110) (t0 := 3) (ty := (.object "ClaspedFair$Person")) (n2 := (40, u1, (V (20, u1, 0) 22).toNatClampNeg)) hX (by decide) (by decide) (fun _ => rfl) rfl (xs_PA hu1) (gz_inb_o b1) (xr_PA (gz_inb_lt b1)) dX1_fact_8 ?_
  obtain ⟨w2, e3, h⟩ := gz_let_o h
  refine gz_nmr (congrArg (fun z_ => ((40, u1, z_) : gz_N)) e3) ?_
  refine gz_astore_n (lv2 := [(2, .ref (ad (40, u1, w2))), (0, .ref (ad (20, u1, 0))), (1, .int a1)]) hX dX1_fact_9 rfl (by decide) rfl ?_
  refine gz_iload_n (q := 2) hX dX1_fact_10 rfl rfl ?_
  by_cases c4 : a1 = 0
  · have h := gz_ifp c4 h
    refine gz_tableAt (v := 0) (tgt := 64) hX dX1_fact_11 c4 (by decide) (by decide) rfl (by decide) ?_
    refine gz_iconst (v := 0) hX dX1_fact_64 gl_c_0 ?_
    refine gz_aload_n (q := 1) hX dX1_fact_65 rfl rfl ?_
    refine xg_X1_126 hX (xs_M hu1) dX1_fact_66 ?_
    refine gz_mmax hX q1143 q867 q156 q868 ⟨Nat.le_of_ble_eq_true rfl, Nat.le_of_ble_eq_true rfl, Nat.zero_le _, Nat.zero_le _⟩ (Nat.le_of_ble_eq_true rfl) dX1_fact_69 ?_
    exact gu_iret hX hZ hF rfl rfl (gz_in1 h) dX1_fact_72
  · have h := gz_ifn c4 h
    by_cases c5 : a1 = 1
    · have h := gz_ifp c5 h
      refine gz_tableAt (v := 1) (tgt := 73) hX dX1_fact_11 c5 (by decide) (by decide) rfl (by decide) ?_
      refine gz_aload_n (q := 1) hX dX1_fact_73 rfl rfl ?_
      refine xg_X1_126 hX (xs_M hu1) dX1_fact_74 ?_
      refine gz_iconst (v := (-1)) hX dX1_fact_77 gl_c_m1 ?_
      refine gz_icmp_ne (tgt := 85) hX dX1_fact_78 (by decide) (fun c6 => ?_) (fun c6 => ?_)
      · have h := gz_ifn c6 h
        refine gz_aload_n (q := 0) hX dX1_fact_85 rfl rfl ?_
        refine xg_X1_135 (n2 := (41, u1, w2)) hX (xs_P hu1 (e3 ▸ (gz_inb_lt b1))) rfl dX1_fact_86 ?_
        refine gz_aload_n (q := 1) hX dX1_fact_89 rfl rfl ?_
        refine xg_X1_126 hX (xs_M hu1) dX1_fact_90 ?_
        obtain ⟨b7, h⟩ := gz_gd_o h
        refine gz_iald (L := 5) hX (xs_T hu1 (e3 ▸ (gz_inb_lt b1))) (gz_inb_o b7) dX1_fact_93 ?_
        exact gu_iret hX hZ hF rfl rfl (gz_in1 h) dX1_fact_94
      · have h := gz_ifp c6 h
        refine gz_iconst (v := 0) hX dX1_fact_81 gl_c_0 ?_
        refine gz_goto (tgt := 94) hX dX1_fact_82 (by decide) ?_
        exact gu_iret hX hZ hF rfl rfl (gz_in1 h) dX1_fact_94
    · have h := gz_ifn c5 h
      by_cases c8 : a1 = 2
      · have h := gz_ifp c8 h
        refine gz_tableAt (v := 2) (tgt := 95) hX dX1_fact_11 c8 (by decide) (by decide) rfl (by decide) ?_
        refine gz_aload_n (q := 1) hX dX1_fact_95 rfl rfl ?_
        refine xg_X1_126 hX (xs_M hu1) dX1_fact_96 ?_
        refine gz_iconst (v := (-1)) hX dX1_fact_99 gl_c_m1 ?_
        refine gz_icmp_ne (tgt := 107) hX dX1_fact_100 (by decide) (fun c9 => ?_) (fun c9 => ?_)
        · have h := gz_ifn c9 h
          refine gz_aload_n (q := 1) hX dX1_fact_107 rfl rfl ?_
          refine xg_X1_11 (n2 := (21, u1, 0)) hX (xs_M hu1) rfl dX1_fact_108 ?_
          refine gz_aload_n (q := 1) hX dX1_fact_111 rfl rfl ?_
          refine xg_X1_138 hX (xs_M hu1) dX1_fact_112 ?_
          obtain ⟨b10, h⟩ := gz_gd_o h
          refine gz_aald (L := 12) (t := 110) (t0 := 3) (ty := (.object "ClaspedFair$Person")) (n2 := (40, u1, (V (20, u1, 0) 23).toNatClampNeg)) hX (by decide) (by decide) (fun _ => rfl) rfl (xs_PA hu1) (gz_inb_o b10) (xr_PA (gz_inb_lt b10)) dX1_fact_115 ?_
          refine xg_X1_135 (n2 := (41, u1, (V (20, u1, 0) 23).toNatClampNeg)) hX (xs_P hu1 (gz_inb_lt b10)) rfl dX1_fact_116 ?_
          refine gz_aload_n (q := 1) hX dX1_fact_119 rfl rfl ?_
          refine xg_X1_126 hX (xs_M hu1) dX1_fact_120 ?_
          obtain ⟨b11, h⟩ := gz_gd_o h
          refine gz_iald (L := 5) hX (xs_T hu1 (gz_inb_lt b10)) (gz_inb_o b11) dX1_fact_123 ?_
          exact gu_iret hX hZ hF rfl rfl (gz_in1 h) dX1_fact_124
        · have h := gz_ifp c9 h
          refine gz_iconst (v := 0) hX dX1_fact_103 gl_c_0 ?_
          refine gz_goto (tgt := 124) hX dX1_fact_104 (by decide) ?_
          exact gu_iret hX hZ hF rfl rfl (gz_in1 h) dX1_fact_124
      · have h := gz_ifn c8 h
        by_cases c12 : a1 = 3
        · have h := gz_ifp c12 h
          refine gz_tableAt (v := 3) (tgt := 125) hX dX1_fact_11 c12 (by decide) (by decide) rfl (by decide) ?_
          refine gz_aload_n (q := 1) hX dX1_fact_125 rfl rfl ?_
          refine xg_X1_26 (n2 := (23, u1, 0)) hX (xs_M hu1) rfl dX1_fact_126 ?_
          refine xg_X1_141 hX (xs_G hu1) dX1_fact_129 ?_
          exact gu_iret hX hZ hF rfl rfl (gz_in1 h) dX1_fact_132
        · have h := gz_ifn c12 h
          by_cases c13 : a1 = 4
          · have h := gz_ifp c13 h
            refine gz_tableAt (v := 4) (tgt := 133) hX dX1_fact_11 c13 (by decide) (by decide) rfl (by decide) ?_
            refine gz_aload_n (q := 1) hX dX1_fact_133 rfl rfl ?_
            refine xg_X1_26 (n2 := (23, u1, 0)) hX (xs_M hu1) rfl dX1_fact_134 ?_
            refine xg_X1_144 hX (xs_G hu1) dX1_fact_137 ?_
            exact gu_iret hX hZ hF rfl rfl (gz_in1 h) dX1_fact_140
          · have h := gz_ifn c13 h
            by_cases c14 : a1 = 5
            · have h := gz_ifp c14 h
              refine gz_tableAt (v := 5) (tgt := 141) hX dX1_fact_11 c14 (by decide) (by decide) rfl (by decide) ?_
              refine gz_aload_n (q := 1) hX dX1_fact_141 rfl rfl ?_
              refine xg_X1_26 (n2 := (23, u1, 0)) hX (xs_M hu1) rfl dX1_fact_142 ?_
              refine xg_X1_147 hX (xs_G hu1) dX1_fact_145 ?_
              exact gu_iret hX hZ hF rfl rfl (gz_in1 h) dX1_fact_148
            · have h := gz_ifn c14 h
              by_cases c15 : a1 = 6
              · have h := gz_ifp c15 h
                refine gz_tableAt (v := 6) (tgt := 149) hX dX1_fact_11 c15 (by decide) (by decide) rfl (by decide) ?_
                refine gz_aload_n (q := 1) hX dX1_fact_149 rfl rfl ?_
                refine xg_X1_26 (n2 := (23, u1, 0)) hX (xs_M hu1) rfl dX1_fact_150 ?_
                refine xg_X1_150 hX (xs_G hu1) dX1_fact_153 ?_
                exact gu_iret hX hZ hF rfl rfl (gz_in1 h) dX1_fact_156
              · have h := gz_ifn c15 h
                by_cases c16 : a1 = 7
                · have h := gz_ifp c16 h
                  refine gz_tableAt (v := 7) (tgt := 157) hX dX1_fact_11 c16 (by decide) (by decide) rfl (by decide) ?_
                  refine gz_aload_n (q := 0) hX dX1_fact_157 rfl rfl ?_
                  refine xg_X1_153 hX (xs_P hu1 (e3 ▸ (gz_inb_lt b1))) dX1_fact_158 ?_
                  exact gu_iret hX hZ hF rfl rfl (gz_in1 h) dX1_fact_161
                · have h := gz_ifn c16 h
                  by_cases c17 : a1 = 8
                  · have h := gz_ifp c17 h
                    refine gz_tableAt (v := 8) (tgt := 162) hX dX1_fact_11 c17 (by decide) (by decide) rfl (by decide) ?_
                    refine gz_aload_n (q := 0) hX dX1_fact_162 rfl rfl ?_
                    refine xg_X1_156 hX (xs_P hu1 (e3 ▸ (gz_inb_lt b1))) dX1_fact_163 ?_
                    exact gu_iret hX hZ hF rfl rfl (gz_in1 h) dX1_fact_166
                  · have h := gz_ifn c17 h
                    by_cases c18 : a1 = 9
                    · have h := gz_ifp c18 h
                      refine gz_tableAt (v := 9) (tgt := 167) hX dX1_fact_11 c18 (by decide) (by decide) rfl (by decide) ?_
                      refine gz_aload_n (q := 1) hX dX1_fact_167 rfl rfl ?_
                      obtain ⟨n19, e20, h⟩ := gz_bd_o h
                      obtain ⟨b21, h⟩ := gz_gd_o h
                      refine xg_X1_69 (n2 := n19) hX (xs_M hu1) e20 dX1_fact_168 ?_
                      refine gz_aload_n (q := 1) hX dX1_fact_171 rfl rfl ?_
                      refine xg_X1_123 hX (xs_M hu1) dX1_fact_172 ?_
                      obtain ⟨b22, h⟩ := gz_gd_o h
                      refine gz_iald (L := 12) hX (xs_dyn b21) (gz_inb_o b22) dX1_fact_175 ?_
                      refine gz_aload_n (q := 1) hX dX1_fact_176 rfl rfl ?_
                      refine xg_X1_138 hX (xs_M hu1) dX1_fact_177 ?_
                      refine gz_ishr hX dX1_fact_180 ?_
                      refine gz_iconst (v := 1) hX dX1_fact_181 gl_c_1 ?_
                      refine gz_iand hX dX1_fact_182 ?_
                      exact gu_iret hX hZ hF rfl rfl (gz_in1 h) dX1_fact_183
                    · have h := gz_ifn c18 h
                      refine gz_tableOut (tgt := 184) hX dX1_fact_11 (by have := lv_neT c4 (a := 0) rfl; have := lv_neT c5 (a := 1) rfl; have := lv_neT c8 (a := 2) rfl; have := lv_neT c12 (a := 3) rfl; have := lv_neT c13 (a := 4) rfl; have := lv_neT c14 (a := 5) rfl; have := lv_neT c15 (a := 6) rfl; have := lv_neT c16 (a := 7) rfl; have := lv_neT c17 (a := 8) rfl; have := lv_neT c18 (a := 9) rfl; omega) (by decide) ?_
                      refine gz_aload_n (q := 1) hX dX1_fact_184 rfl rfl ?_
                      refine xg_X1_89 hX (xs_M hu1) dX1_fact_185 ?_
                      exact gu_iret hX hZ hF rfl rfl (gz_in1 h) dX1_fact_188
-- no words for x1_fact
def rm_x17_does : Room := { frames := 1, cells := 0, slots := 0, locals := 21 }
noncomputable def x17_does (V : gz_V) (u1 : gz_N) (u2 : Nat) (u3 : Nat) : Option (gz_V) := gz_let (gz_up V (40, u2, u3) 1 (gz_min 9999 ((V (40, u2, u3) 1) + (V u1 2)))) (fun V1 => some V1)
theorem c_x17_does {l : Launch} {D : va_G} {aC : Nat → ClassId} {ad : gz_A0} {Ds : gz_S} {Df : gz_R} {V : gz_V} {u1 : gz_N} {u2 : Nat} {u3 : Nat} {W1 : gz_V} (hu1 : 90 ≤ u1.1 ∧ Ds u1 = some (15, 3)) (hu2 : u2 < 9) (hu3 : u3 < 12) (h : x17_does V u1 u2 u3 = some W1) : gz_Met l yX17_does cX17_does 2 none rm_x17_does D aC ad (xw_s Ds) V (xw_c Df) [.ref (ad u1), .ref (ad (40, u2, u3))] (gz_F1 (xw_s Ds) (xw_c Df) ad W1 none) 0 0 := by
  refine gu_ofW (own := RX17) (mn := "does") (lv := [(0, .ref (ad u1)), (1, .ref (ad (40, u2, u3)))]) (by decide) rfl rfl (Nat.le_of_ble_eq_true rfl) rfl ?_
  intro X hX hZ hF
  rw [x17_does] at h
  refine gz_aload_n (q := 1) hX dX17_does_0 rfl rfl ?_
  refine gz_sipush (v := 9999) hX dX17_does_1 gl_s_9999 ?_
  refine gz_aload_n (q := 1) hX dX17_does_4 rfl rfl ?_
  refine xg_X17_15 hX (xs_P hu2 hu3) dX17_does_5 ?_
  refine gz_aload_n (q := 0) hX dX17_does_8 rfl rfl ?_
  refine xg_X17_9 hX (xs_dyn hu1) dX17_does_9 ?_
  refine gz_iadd hX dX17_does_12 ?_
  refine gz_mmin hX q1249 q906 q156 q907 ⟨Nat.le_of_ble_eq_true rfl, Nat.le_of_ble_eq_true rfl, Nat.zero_le _, Nat.zero_le _⟩ (Nat.le_of_ble_eq_true rfl) dX17_does_13 ?_
  obtain ⟨V1, e2, h⟩ := gz_let_o h
  refine xp_X17_15 hX (xs_P hu2 hu3) (gz_ne0 39 rfl) dX17_does_16 e2 ?_
  exact gu_vret hX hZ hF (gz_in1 h) rfl dX17_does_19
def rm_x18_does : Room := { frames := 1, cells := 0, slots := 0, locals := 21 }
noncomputable def x18_does (V : gz_V) (u1 : gz_N) (u2 : Nat) (u3 : Nat) : Option (gz_V) := gz_gd (gz_inb (V u1 2) 5 = true) (gz_gd (gz_inb (V u1 2) 5 = true) (gz_let (gz_up V (41, u2, u3) (V u1 2).toNatClampNeg (gz_max 0 ((V (41, u2, u3) (V u1 2).toNatClampNeg) - (V u1 3)))) (fun V3 => some V3)))
theorem c_x18_does {l : Launch} {D : va_G} {aC : Nat → ClassId} {ad : gz_A0} {Ds : gz_S} {Df : gz_R} {V : gz_V} {u1 : gz_N} {u2 : Nat} {u3 : Nat} {W1 : gz_V} (hu1 : 90 ≤ u1.1 ∧ Ds u1 = some (16, 4)) (hu2 : u2 < 9) (hu3 : u3 < 12) (h : x18_does V u1 u2 u3 = some W1) : gz_Met l yX18_does cX18_does 2 none rm_x18_does D aC ad (xw_s Ds) V (xw_c Df) [.ref (ad u1), .ref (ad (40, u2, u3))] (gz_F1 (xw_s Ds) (xw_c Df) ad W1 none) 0 0 := by
  refine gu_ofW (own := RX18) (mn := "does") (lv := [(0, .ref (ad u1)), (1, .ref (ad (40, u2, u3)))]) (by decide) rfl rfl (Nat.le_of_ble_eq_true rfl) rfl ?_
  intro X hX hZ hF
  rw [x18_does] at h
  refine gz_aload_n (q := 1) hX dX18_does_0 rfl rfl ?_
  refine xg_X18_16 (n2 := (41, u2, u3)) hX (xs_P hu2 hu3) rfl dX18_does_1 ?_
  refine gz_aload_n (q := 0) hX dX18_does_4 rfl rfl ?_
  refine xg_X18_7 hX (xs_dyn hu1) dX18_does_5 ?_
  refine gz_iconst (v := 0) hX dX18_does_8 gl_c_0 ?_
  refine gz_aload_n (q := 1) hX dX18_does_9 rfl rfl ?_
  refine xg_X18_16 (n2 := (41, u2, u3)) hX (xs_P hu2 hu3) rfl dX18_does_10 ?_
  refine gz_aload_n (q := 0) hX dX18_does_13 rfl rfl ?_
  refine xg_X18_7 hX (xs_dyn hu1) dX18_does_14 ?_
  obtain ⟨b1, h⟩ := gz_gd_o h
  refine gz_iald (L := 5) hX (xs_T hu2 hu3) (gz_inb_o b1) dX18_does_17 ?_
  refine gz_aload_n (q := 0) hX dX18_does_18 rfl rfl ?_
  refine xg_X18_13 hX (xs_dyn hu1) dX18_does_19 ?_
  refine gz_isub hX dX18_does_22 ?_
  refine gz_mmax hX q1242 q867 q156 q868 ⟨Nat.le_of_ble_eq_true rfl, Nat.le_of_ble_eq_true rfl, Nat.zero_le _, Nat.zero_le _⟩ (Nat.le_of_ble_eq_true rfl) dX18_does_23 ?_
  obtain ⟨b2, h⟩ := gz_gd_o h
  obtain ⟨V3, e4, h⟩ := gz_let_o h
  refine gz_iast (L := 5) hX (xs_T hu2 hu3) (gz_ne0 40 rfl) (gz_inb_o b2) dX18_does_26 e4 ?_
  exact gu_vret hX hZ hF (gz_in1 h) rfl dX18_does_27
