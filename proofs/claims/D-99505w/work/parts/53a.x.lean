/-! CLASPEDFAIR, walked (static part). Printed by wip/D-99505w/gen/mkx.py -/
set_option maxRecDepth 100000
def rm_x1_tells : Room := { frames := 413, cells := 0, slots := 0, locals := 9523 }
noncomputable def x1_tells_L19 (N : Nat) (Ds : gz_S) (Df : gz_R) (V : gz_V) (u1 : Nat) (v1 : Int32) (v5 : Int32) (v6 : Int32) : Nat → Int32 → Option ((gz_V × Int32) ⊕ (Unit))
  | 0, _ => none
  | n + 1, v7 => gz_bd (Df (20, u1, 0) 9) (fun n7 => gz_gd (90 ≤ n7.1 ∧ Ds n7 = some (18, 3)) ((if (j2_size V n7) ≤ v7 then some (.inr ()) else gz_bd (Df (20, u1, 0) 9) (fun n11 => gz_gd (90 ≤ n11.1 ∧ Ds n11 = some (18, 3)) (gz_bd (j2_get Ds Df V n11 v7) (fun n14 => gz_gd (90 ≤ n14.1 ∧ Ds n14 = some (13, 3)) ((if (V n14 0) = v1 then gz_on (Df n14 2) (gz_bd (Df n14 1) (fun n20 => gz_bd (xd_of Ds Df V u1 410 n20) (fun r22 => some (.inl (V, (x0_bound r22 0 v6)))))) (fun n18 => gz_bd (xd_of Ds Df V u1 410 n18) (fun r24 => (if r24 = 1 then gz_bd (Df n14 1) (fun n27 => gz_bd (xd_of Ds Df V u1 410 n27) (fun r29 => some (.inl (V, (x0_bound r29 0 v6))))) else x1_tells_L19 N Ds Df V u1 v1 v5 v6 n (v7 + 1)))) else x1_tells_L19 N Ds Df V u1 v1 v5 v6 n (v7 + 1)))))))))
theorem w_x1_tells_L19 {X : gz_X} {ad : gz_A0} {N : Nat} {Ds : gz_S} {Df : gz_R} {V : gz_V} {u1 : Nat} {v1 : Int32} {v5 : Int32} {v6 : Int32} {out : (gz_V × Int32) ⊕ (Unit)} (hX : gz_ok X cX1_tells RX1 "tells" 9 rm_x1_tells (some .int)) (hZ : gz_Z X) (hu1 : u1 < 9) (hout : (∃ (W2 : gz_V) (r : Int32), out = .inl (W2, r) ∧ gx_F X (xw_s Ds) W2 (xw_c Df) ad (some (.int r))) ∨ (out = .inr () ∧ gW X 9 (xw_s Ds) (xw_c Df) ad V 0 0 97 [(5, .int v5), (6, .int v6)] [])) : ∀ (n : Nat) {v7 : Int32}, x1_tells_L19 N Ds Df V u1 v1 v5 v6 n v7 = some out → gW X 9 (xw_s Ds) (xw_c Df) ad V 0 0 19 [(0, .ref (ad (20, u1, 0))), (1, .int v1), (5, .int v5), (6, .int v6), (7, .int v7)] [] := by
  intro n
  induction n with
  | zero => intro v7 h; rw [x1_tells_L19] at h; cases h
  | succ n ih =>
    intro v7 h
    rw [x1_tells_L19] at h
    refine gz_iload (q := 4) hX dX1_tells_19 rfl ?_
    refine gz_aload_n (q := 0) hX dX1_tells_21 rfl rfl ?_
    obtain ⟨n7, e8, h⟩ := gz_bd_o h
    refine xg_X1_59 (n2 := n7) hX (xs_M hu1) e8 dX1_tells_22 ?_
    obtain ⟨b9, h⟩ := gz_gd_o h
    refine gu_callV (ci := 18) (n := n7) (As := []) hX (c_j2_size b9 rfl) (lw_j2_size_ q1107) rfl rfl nn_j2_size ⟨Nat.le_of_ble_eq_true rfl, Nat.le_of_ble_eq_true rfl⟩ ⟨Nat.zero_le _, Nat.zero_le _⟩ (by decide) rfl (xs_dyn b9) rfl rfl (Nat.le_of_ble_eq_true rfl) dX1_tells_25 rfl ?_
    refine gz_icmp_ge (tgt := 97) hX dX1_tells_28 (by decide) (fun c10 => ?_) (fun c10 => ?_)
    · have h := gz_ifp c10 h
      obtain rfl := gz_in1 h
      obtain ⟨_, _, e0, _⟩ | ⟨e0, k⟩ := hout
      · cases e0
      · cases e0
        exact gz_lv [2, 3] rfl k
    · have h := gz_ifn c10 h
      refine gz_aload_n (q := 0) hX dX1_tells_31 rfl rfl ?_
      obtain ⟨n11, e12, h⟩ := gz_bd_o h
      refine xg_X1_59 (n2 := n11) hX (xs_M hu1) e12 dX1_tells_32 ?_
      refine gz_iload (q := 4) hX dX1_tells_35 rfl ?_
      obtain ⟨b13, h⟩ := gz_gd_o h
      obtain ⟨n14, e15, h⟩ := gz_bd_o h
      refine gu_callV (ci := 18) (n := n11) (As := [.int v7]) hX (c_j2_get b13 e15) (lw_j2_get_ q1108) rfl rfl nn_j2_get ⟨Nat.le_of_ble_eq_true rfl, Nat.le_of_ble_eq_true rfl⟩ ⟨Nat.zero_le _, Nat.zero_le _⟩ (by decide) rfl (xs_dyn b13) rfl rfl (Nat.le_of_ble_eq_true rfl) dX1_tells_37 rfl ?_
      obtain ⟨b16, h⟩ := gz_gd_o h
      refine gz_cast (ci := 13) hX q1120 (by decide) rfl (xs_dyn b16) (Or.inl rfl) dX1_tells_40 ?_
      refine gz_astore (lv2 := [(8, .ref (ad n14)), (0, .ref (ad (20, u1, 0))), (1, .int v1), (5, .int v5), (6, .int v6), (7, .int v7)]) hX dX1_tells_43 (by decide) rfl ?_
      refine gz_aload (q := 0) hX dX1_tells_45 rfl ?_
      refine xg_X1_169 hX (xs_dyn b16) dX1_tells_47 ?_
      refine gz_iload_n (q := 2) hX dX1_tells_50 rfl rfl ?_
      refine gz_icmp_ne (tgt := 91) hX dX1_tells_51 (by decide) (fun c17 => ?_) (fun c17 => ?_)
      · have h := gz_ifn c17 h
        refine gz_iinc (q := 5) (lv2 := [(7, .int (v7 + 1)), (8, .ref (ad n14)), (0, .ref (ad (20, u1, 0))), (1, .int v1), (5, .int v5), (6, .int v6)]) hX dX1_tells_91 rfl gl_c_1 (by decide) rfl ?_
        refine gz_goto (tgt := 19) hX dX1_tells_94 (by decide) ?_
        exact gz_lv [2, 3, 4, 5, 0] rfl (ih h)
      · have h := gz_ifp c17 h
        refine gz_aload (q := 0) hX dX1_tells_54 rfl ?_
        rcases gz_on_o h with ⟨e19, h⟩ | ⟨n18, e19, h⟩
        · refine gz_getNull (ci := 13) hX in_X14 (by decide) rfl (xs_dyn b16) 2 (by decide) q839 rfl ((xr_dyn (b16).1).trans e19) dX1_tells_56 ?_
          refine gz_ifnullN (tgt := 75) hX dX1_tells_59 (by decide) ?_
          refine gz_aload (q := 0) hX dX1_tells_75 rfl ?_
          obtain ⟨n20, e21, h⟩ := gz_bd_o h
          refine xg_X1_182 (n2 := n20) hX (xs_dyn b16) ((xr_dyn (b16).1).trans e21) dX1_tells_77 ?_
          refine gz_aload_n (q := 1) hX dX1_tells_80 rfl rfl ?_
          obtain ⟨r22, e23, h⟩ := gz_bd_o h
          refine gu_of (k := u1) (n := n20) hX q1121 (xd_ok hu1 410 e23) ⟨Nat.le_of_ble_eq_true rfl, Nat.le_of_ble_eq_true rfl⟩ (Nat.le_of_ble_eq_true rfl) dX1_tells_81 ?_
          refine gz_iconst (v := 0) hX dX1_tells_84 gl_c_0 ?_
          refine gz_iload (q := 4) hX dX1_tells_85 rfl ?_
          refine gu_callSN (As := [.int r22, .int 0, .int v6]) hX (c_x0_bound rfl) q1149 (lw_meth q1151) q144 q1150 rfl rfl nn_x0_bound ⟨Nat.le_of_ble_eq_true rfl, Nat.le_of_ble_eq_true rfl⟩ ⟨Nat.zero_le _, Nat.zero_le _⟩ rfl rfl (Nat.le_of_ble_eq_true rfl) dX1_tells_87 rfl ?_
          obtain rfl := gz_in1 h
          obtain ⟨_, _, e0, hF⟩ | ⟨e0, _⟩ := hout
          · cases e0
            exact gu_iret hX hZ hF rfl rfl rfl dX1_tells_90
          · cases e0
        · refine xg_X1_172 (n2 := n18) hX (xs_dyn b16) ((xr_dyn (b16).1).trans e19) dX1_tells_56 ?_
          refine gz_ifnull hX dX1_tells_59 ?_
          refine gz_aload (q := 0) hX dX1_tells_62 rfl ?_
          refine xg_X1_172 (n2 := n18) hX (xs_dyn b16) ((xr_dyn (b16).1).trans e19) dX1_tells_64 ?_
          refine gz_aload_n (q := 1) hX dX1_tells_67 rfl rfl ?_
          obtain ⟨r24, e25, h⟩ := gz_bd_o h
          refine gu_of (k := u1) (n := n18) hX q1121 (xd_ok hu1 410 e25) ⟨Nat.le_of_ble_eq_true rfl, Nat.le_of_ble_eq_true rfl⟩ (Nat.le_of_ble_eq_true rfl) dX1_tells_68 ?_
          refine gz_iconst (v := 1) hX dX1_tells_71 gl_c_1 ?_
          refine gz_icmp_ne (tgt := 91) hX dX1_tells_72 (by decide) (fun c26 => ?_) (fun c26 => ?_)
          · have h := gz_ifn c26 h
            refine gz_iinc (q := 5) (lv2 := [(7, .int (v7 + 1)), (8, .ref (ad n14)), (0, .ref (ad (20, u1, 0))), (1, .int v1), (5, .int v5), (6, .int v6)]) hX dX1_tells_91 rfl gl_c_1 (by decide) rfl ?_
            refine gz_goto (tgt := 19) hX dX1_tells_94 (by decide) ?_
            exact gz_lv [2, 3, 4, 5, 0] rfl (ih h)
          · have h := gz_ifp c26 h
            refine gz_aload (q := 0) hX dX1_tells_75 rfl ?_
            obtain ⟨n27, e28, h⟩ := gz_bd_o h
            refine xg_X1_182 (n2 := n27) hX (xs_dyn b16) ((xr_dyn (b16).1).trans e28) dX1_tells_77 ?_
            refine gz_aload_n (q := 1) hX dX1_tells_80 rfl rfl ?_
            obtain ⟨r29, e30, h⟩ := gz_bd_o h
            refine gu_of (k := u1) (n := n27) hX q1121 (xd_ok hu1 410 e30) ⟨Nat.le_of_ble_eq_true rfl, Nat.le_of_ble_eq_true rfl⟩ (Nat.le_of_ble_eq_true rfl) dX1_tells_81 ?_
            refine gz_iconst (v := 0) hX dX1_tells_84 gl_c_0 ?_
            refine gz_iload (q := 4) hX dX1_tells_85 rfl ?_
            refine gu_callSN (As := [.int r29, .int 0, .int v6]) hX (c_x0_bound rfl) q1149 (lw_meth q1151) q144 q1150 rfl rfl nn_x0_bound ⟨Nat.le_of_ble_eq_true rfl, Nat.le_of_ble_eq_true rfl⟩ ⟨Nat.zero_le _, Nat.zero_le _⟩ rfl rfl (Nat.le_of_ble_eq_true rfl) dX1_tells_87 rfl ?_
            obtain rfl := gz_in1 h
            obtain ⟨_, _, e0, hF⟩ | ⟨e0, _⟩ := hout
            · cases e0
              exact gu_iret hX hZ hF rfl rfl rfl dX1_tells_90
            · cases e0
noncomputable def x1_tells (N : Nat) (Ds : gz_S) (Df : gz_R) (V : gz_V) (u1 : Nat) (a1 : Int32) (a2 : Int32) (a3 : Int32) (a4 : Int32) (a5 : Int32) (a6 : Int32) : Option (gz_V × Int32) := gz_let (gz_up V (20, u1, 0) 22 a2) (fun V1 => gz_let (gz_up V1 (20, u1, 0) 23 a3) (fun V3 => gz_let (gz_up V3 (20, u1, 0) 24 a4) (fun V5 => gz_lp (x1_tells_L19 N Ds Df V5 u1 a1 a5 a6 N 0) some (fun _ => some (V5, (x0_bound a5 0 a6))))))
theorem c_x1_tells {l : Launch} {D : va_G} {aC : Nat → ClassId} {ad : gz_A0} {N : Nat} {Ds : gz_S} {Df : gz_R} {V : gz_V} {u1 : Nat} {a1 : Int32} {a2 : Int32} {a3 : Int32} {a4 : Int32} {a5 : Int32} {a6 : Int32} {W1 : gz_V} {r : Int32} (hu1 : u1 < 9) (h : x1_tells N Ds Df V u1 a1 a2 a3 a4 a5 a6 = some (W1, r)) : gz_Met l yX1_tells cX1_tells 9 (some .int) rm_x1_tells D aC ad (xw_s Ds) V (xw_c Df) [.ref (ad (20, u1, 0)), .int a1, .int a2, .int a3, .int a4, .int a5, .int a6] (gz_F1 (xw_s Ds) (xw_c Df) ad W1 (some (.int r))) 0 0 := by
  refine gu_ofW (own := RX1) (mn := "tells") (lv := [(0, .ref (ad (20, u1, 0))), (1, .int a1), (2, .int a2), (3, .int a3), (4, .int a4), (5, .int a5), (6, .int a6)]) (by decide) rfl rfl (Nat.le_of_ble_eq_true rfl) rfl ?_
  intro X hX hZ hF
  rw [x1_tells] at h
  refine gz_aload_n (q := 0) hX dX1_tells_0 rfl rfl ?_
  refine gz_iload_n (q := 2) hX dX1_tells_1 rfl rfl ?_
  obtain ⟨V1, e2, h⟩ := gz_let_o h
  refine xp_X1_123 hX (xs_M hu1) (gz_ne0 19 rfl) dX1_tells_2 e2 ?_
  refine gz_aload_n (q := 0) hX dX1_tells_5 rfl rfl ?_
  refine gz_iload_n (q := 3) hX dX1_tells_6 rfl rfl ?_
  obtain ⟨V3, e4, h⟩ := gz_let_o h
  refine xp_X1_138 hX (xs_M hu1) (gz_ne0 19 rfl) dX1_tells_7 e4 ?_
  refine gz_aload_n (q := 0) hX dX1_tells_10 rfl rfl ?_
  refine gz_iload (q := 4) hX dX1_tells_11 rfl ?_
  obtain ⟨V5, e6, h⟩ := gz_let_o h
  refine xp_X1_126 hX (xs_M hu1) (gz_ne0 19 rfl) dX1_tells_13 e6 ?_
  refine gz_iconst (v := 0) hX dX1_tells_16 gl_c_0 ?_
  refine gz_istore (lv2 := [(7, .int 0), (0, .ref (ad (20, u1, 0))), (1, .int a1), (2, .int a2), (3, .int a3), (4, .int a4), (5, .int a5), (6, .int a6)]) hX dX1_tells_17 (by decide) rfl ?_
  rcases gz_lp_o h with ⟨p8, e7, h⟩ | ⟨_, e7, h⟩
  · obtain rfl := gz_in1 h
    exact gz_lv [1, 2, 6, 7, 0] rfl (w_x1_tells_L19 hX hZ hu1 (Or.inl ⟨_, _, rfl, hF⟩) N e7)
  · refine gz_lv [1, 2, 6, 7, 0] rfl (w_x1_tells_L19 hX hZ hu1 (Or.inr ⟨rfl, ?_⟩) N e7)
    refine gz_iload (q := 0) hX dX1_tells_97 rfl ?_
    refine gz_iconst (v := 0) hX dX1_tells_99 gl_c_0 ?_
    refine gz_iload (q := 1) hX dX1_tells_100 rfl ?_
    refine gu_callSN (As := [.int a5, .int 0, .int a6]) hX (c_x0_bound rfl) q1149 (lw_meth q1151) q144 q1150 rfl rfl nn_x0_bound ⟨Nat.le_of_ble_eq_true rfl, Nat.le_of_ble_eq_true rfl⟩ ⟨Nat.zero_le _, Nat.zero_le _⟩ rfl rfl (Nat.le_of_ble_eq_true rfl) dX1_tells_102 rfl ?_
    obtain ⟨e_V, e_r⟩ := gz_in2 h
    exact gu_iret hX hZ hF e_V rfl e_r dX1_tells_105
theorem lw_x1_tells_ {o : String} {i : Nat} (hl : Cond.methodLink o i yX1_tells ∈ lw_all) : GoodIn lw_all (wsV o i RX1 yX1_tells (ws_ yX1_tells cX1_tells 9 (some .int))) := lw_V hl q1105 qs36 q145 q1106
theorem nn_x1_tells : yX1_tells.cls = RX1 ∧ yX1_tells.cls ≠ "java/lang/invoke/MethodHandle" ∧ yX1_tells.cls ≠ "java/lang/invoke/VarHandle" ∧ (parseMethodDescriptor yX1_tells.desc).map (fun d => d.parameters.length) = some 6 := by decide +kernel
def rm_x1_asks : Room := { frames := 414, cells := 0, slots := 0, locals := 9551 }
noncomputable def x1_asks (N : Nat) (Ds : gz_S) (Df : gz_R) (V : gz_V) (u1 : Nat) (a1 : Int32) (a2 : Int32) : Option (gz_V × Int32) := gz_b2 (x1_tells N Ds Df V u1 9 a1 a2 (-1) ((V (23, u1, 0) 6) - (10 * (V (23, u1, 0) 4))) 9999) (fun V1 r2 => some (V1, r2))
theorem c_x1_asks {l : Launch} {D : va_G} {aC : Nat → ClassId} {ad : gz_A0} {N : Nat} {Ds : gz_S} {Df : gz_R} {V : gz_V} {u1 : Nat} {a1 : Int32} {a2 : Int32} {W1 : gz_V} {r : Int32} (hu1 : u1 < 9) (h : x1_asks N Ds Df V u1 a1 a2 = some (W1, r)) : gz_Met l yX1_asks cX1_asks 3 (some .int) rm_x1_asks D aC ad (xw_s Ds) V (xw_c Df) [.ref (ad (20, u1, 0)), .int a1, .int a2] (gz_F1 (xw_s Ds) (xw_c Df) ad W1 (some (.int r))) 0 0 := by
  refine gu_ofW (own := RX1) (mn := "asks") (lv := [(0, .ref (ad (20, u1, 0))), (1, .int a1), (2, .int a2)]) (by decide) rfl rfl (Nat.le_of_ble_eq_true rfl) rfl ?_
  intro X hX hZ hF
  rw [x1_asks] at h
  refine gz_aload_n (q := 0) hX dX1_asks_0 rfl rfl ?_
  refine gz_bipush (v := 9) hX dX1_asks_1 gl_b_9 ?_
  refine gz_iload_n (q := 1) hX dX1_asks_3 rfl rfl ?_
  refine gz_iload_n (q := 2) hX dX1_asks_4 rfl rfl ?_
  refine gz_iconst (v := (-1)) hX dX1_asks_5 gl_c_m1 ?_
  refine gz_aload_n (q := 0) hX dX1_asks_6 rfl rfl ?_
  refine xg_X1_26 (n2 := (23, u1, 0)) hX (xs_M hu1) rfl dX1_asks_7 ?_
  refine xg_X1_147 hX (xs_G hu1) dX1_asks_10 ?_
  refine gz_bipush (v := 10) hX dX1_asks_13 gl_b_10 ?_
  refine gz_aload_n (q := 0) hX dX1_asks_15 rfl rfl ?_
  refine xg_X1_26 (n2 := (23, u1, 0)) hX (xs_M hu1) rfl dX1_asks_16 ?_
  refine xg_X1_141 hX (xs_G hu1) dX1_asks_19 ?_
  refine gz_imul hX dX1_asks_22 ?_
  refine gz_isub hX dX1_asks_23 ?_
  refine gz_sipush (v := 9999) hX dX1_asks_24 gl_s_9999 ?_
  obtain ⟨V1, r2, e3, h⟩ := gz_b2_o h
  refine gu_callV (ci := 1) (n := (20, u1, 0)) (As := [.int 9, .int a1, .int a2, .int (-1), .int ((V (23, u1, 0) 6) - (10 * (V (23, u1, 0) 4))), .int 9999]) hX (c_x1_tells hu1 e3) (lw_x1_tells_ q1103) rfl rfl nn_x1_tells ⟨Nat.le_of_ble_eq_true rfl, Nat.le_of_ble_eq_true rfl⟩ ⟨Nat.zero_le _, Nat.zero_le _⟩ (by decide) rfl (xs_M hu1) rfl rfl (Nat.le_of_ble_eq_true rfl) dX1_asks_27 rfl ?_
  obtain ⟨e_V, e_r⟩ := gz_in2 h
  exact gu_iret hX hZ hF e_V rfl e_r dX1_asks_30
theorem lw_x1_asks_ {o : String} {i : Nat} (hl : Cond.methodLink o i yX1_asks ∈ lw_all) : GoodIn lw_all (wsV o i RX1 yX1_asks (ws_ yX1_asks cX1_asks 3 (some .int))) := lw_V hl q1100 q1101 q145 q1102
theorem nn_x1_asks : yX1_asks.cls = RX1 ∧ yX1_asks.cls ≠ "java/lang/invoke/MethodHandle" ∧ yX1_asks.cls ≠ "java/lang/invoke/VarHandle" ∧ (parseMethodDescriptor yX1_asks.desc).map (fun d => d.parameters.length) = some 2 := by decide +kernel
def rm_x0_asks : Room := { frames := 415, cells := 0, slots := 0, locals := 9573 }
noncomputable def x0_asks (N : Nat) (Ds : gz_S) (Df : gz_R) (V : gz_V) (a1 : Int32) (a2 : Int32) (a3 : Int32) : Option (gz_V × Int32) := (if (x0_canTell V a1 a2 0 a3) = 0 then some (V, (-1)) else gz_gd (gz_inb a2 10 = true) ((if (V (42, 0, a2.toNatClampNeg) 0) = a1 then some (V, (-1)) else gz_gd (gz_inb a2 10 = true) (gz_let ((V (42, 0, a2.toNatClampNeg) 0)) (fun x5 => gz_gd (gz_inb a2 10 = true) (gz_bd (x2_begins V 0 0 (a2.toNatClampNeg) x5 a1 a3 0) (fun V8 => gz_b2 (x1_asks N Ds Df V8 0 x5 a1) (fun V10 r11 => some (V10, r11)))))))))
theorem c_x0_asks {l : Launch} {D : va_G} {aC : Nat → ClassId} {ad : gz_A0} {N : Nat} {Ds : gz_S} {Df : gz_R} {V : gz_V} {a1 : Int32} {a2 : Int32} {a3 : Int32} {W1 : gz_V} {r : Int32} (h : x0_asks N Ds Df V a1 a2 a3 = some (W1, r)) : gz_Met l yX0_asks cX0_asks 5 (some .int) rm_x0_asks D aC ad (xw_s Ds) V (xw_c Df) [.ref (ad (10, 0, 0)), .int a1, .int a2, .int a3] (gz_F1 (xw_s Ds) (xw_c Df) ad W1 (some (.int r))) 0 0 := by
  refine gu_ofW (own := RX0) (mn := "asks") (lv := [(0, .ref (ad (10, 0, 0))), (1, .int a1), (2, .int a2), (3, .int a3)]) (by decide) rfl rfl (Nat.le_of_ble_eq_true rfl) rfl ?_
  intro X hX hZ hF
  rw [x0_asks] at h
  refine gz_aload_n (q := 0) hX dX0_asks_0 rfl rfl ?_
  refine gz_iload_n (q := 1) hX dX0_asks_1 rfl rfl ?_
  refine gz_iload_n (q := 2) hX dX0_asks_2 rfl rfl ?_
  refine gz_iconst (v := 0) hX dX0_asks_3 gl_c_0 ?_
  refine gz_iload_n (q := 3) hX dX0_asks_4 rfl rfl ?_
  refine gu_callV (ci := 0) (n := (10, 0, 0)) (As := [.int a1, .int a2, .int 0, .int a3]) hX (c_x0_canTell rfl) (lw_x0_canTell_ q1080) rfl rfl nn_x0_canTell ⟨Nat.le_of_ble_eq_true rfl, Nat.le_of_ble_eq_true rfl⟩ ⟨Nat.zero_le _, Nat.zero_le _⟩ (by decide) rfl xs_main rfl rfl (Nat.le_of_ble_eq_true rfl) dX0_asks_5 rfl ?_
  refine gz_if_eq (tgt := 27) hX dX0_asks_8 (by decide) (fun c1 => ?_) (fun c1 => ?_)
  · have h := gz_ifp c1 h
    refine gz_iconst (v := (-1)) hX dX0_asks_27 gl_c_m1 ?_
    obtain ⟨e_V, e_r⟩ := gz_in2 h
    exact gu_iret hX hZ hF e_V rfl e_r dX0_asks_28
  · have h := gz_ifn c1 h
    refine gz_aload_n (q := 0) hX dX0_asks_11 rfl rfl ?_
    refine xg_X0_20 (n2 := (20, 0, 0)) hX xs_main rfl dX0_asks_12 ?_
    refine xg_X0_164 (n2 := (22, 0, 0)) hX (xs_M (by decide)) rfl dX0_asks_15 ?_
    refine gz_iload_n (q := 2) hX dX0_asks_18 rfl rfl ?_
    obtain ⟨b2, h⟩ := gz_gd_o h
    refine gz_aald (L := 10) (t := 111) (t0 := 4) (ty := (.object "ClaspedFair$Horse")) (n2 := (42, 0, a2.toNatClampNeg)) hX (by decide) (by decide) (fun _ => rfl) rfl (xs_HA (by decide)) (gz_inb_o b2) (xr_HA (gz_inb_lt b2)) dX0_asks_19 ?_
    refine xg_X0_225 hX (xs_H (by decide) (gz_inb_lt b2)) dX0_asks_20 ?_
    refine gz_iload_n (q := 1) hX dX0_asks_23 rfl rfl ?_
    refine gz_icmp_ne (tgt := 29) hX dX0_asks_24 (by decide) (fun c3 => ?_) (fun c3 => ?_)
    · have h := gz_ifn c3 h
      refine gz_aload_n (q := 0) hX dX0_asks_29 rfl rfl ?_
      refine xg_X0_20 (n2 := (20, 0, 0)) hX xs_main rfl dX0_asks_30 ?_
      refine xg_X0_164 (n2 := (22, 0, 0)) hX (xs_M (by decide)) rfl dX0_asks_33 ?_
      refine gz_iload_n (q := 2) hX dX0_asks_36 rfl rfl ?_
      obtain ⟨b4, h⟩ := gz_gd_o h
      refine gz_aald (L := 10) (t := 111) (t0 := 4) (ty := (.object "ClaspedFair$Horse")) (n2 := (42, 0, a2.toNatClampNeg)) hX (by decide) (by decide) (fun _ => rfl) rfl (xs_HA (by decide)) (gz_inb_o b4) (xr_HA (gz_inb_lt b4)) dX0_asks_37 ?_
      refine xg_X0_225 hX (xs_H (by decide) (gz_inb_lt b4)) dX0_asks_38 ?_
      obtain ⟨x5, e6, h⟩ := gz_let_o h
      refine gz_nm e6 ?_
      refine gz_istore (lv2 := [(4, .int x5), (0, .ref (ad (10, 0, 0))), (1, .int a1), (2, .int a2), (3, .int a3)]) hX dX0_asks_41 (by decide) rfl ?_
      refine gz_aload_n (q := 1) hX dX0_asks_43 rfl rfl ?_
      refine xg_X0_20 (n2 := (20, 0, 0)) hX xs_main rfl dX0_asks_44 ?_
      refine xg_X0_234 (n2 := (23, 0, 0)) hX (xs_M (by decide)) rfl dX0_asks_47 ?_
      refine gz_iload (q := 0) hX dX0_asks_50 rfl ?_
      refine gz_iload_n (q := 2) hX dX0_asks_52 rfl rfl ?_
      refine gz_iload_n (q := 4) hX dX0_asks_53 rfl rfl ?_
      refine gz_iconst (v := 0) hX dX0_asks_54 gl_c_0 ?_
      refine gz_aload_n (q := 1) hX dX0_asks_55 rfl rfl ?_
      refine xg_X0_20 (n2 := (20, 0, 0)) hX xs_main rfl dX0_asks_56 ?_
      refine xg_X0_164 (n2 := (22, 0, 0)) hX (xs_M (by decide)) rfl dX0_asks_59 ?_
      refine gz_iload_n (q := 3) hX dX0_asks_62 rfl rfl ?_
      obtain ⟨b7, h⟩ := gz_gd_o h
      refine gz_aald (L := 10) (t := 111) (t0 := 4) (ty := (.object "ClaspedFair$Horse")) (n2 := (42, 0, a2.toNatClampNeg)) hX (by decide) (by decide) (fun _ => rfl) rfl (xs_HA (by decide)) (gz_inb_o b7) (xr_HA (gz_inb_lt b7)) dX0_asks_63 ?_
      obtain ⟨V8, e9, h⟩ := gz_bd_o h
      refine gu_callV (ci := 2) (n := (23, 0, 0)) (As := [.int x5, .int a1, .int a3, .int 0, .ref (ad (42, 0, a2.toNatClampNeg))]) hX (c_x2_begins (by decide) (by decide) (gz_inb_lt b7) e9) (lw_x2_begins_ q1269) rfl rfl nn_x2_begins ⟨Nat.le_of_ble_eq_true rfl, Nat.le_of_ble_eq_true rfl⟩ ⟨Nat.zero_le _, Nat.zero_le _⟩ (by decide) rfl (xs_G (by decide)) rfl rfl (Nat.le_of_ble_eq_true rfl) dX0_asks_64 rfl ?_
      refine gz_aload_n (q := 1) hX dX0_asks_67 rfl rfl ?_
      refine xg_X0_20 (n2 := (20, 0, 0)) hX xs_main rfl dX0_asks_68 ?_
      refine gz_iload (q := 0) hX dX0_asks_71 rfl ?_
      refine gz_iload_n (q := 2) hX dX0_asks_73 rfl rfl ?_
      obtain ⟨V10, r11, e12, h⟩ := gz_b2_o h
      refine gu_callV (ci := 1) (n := (20, 0, 0)) (As := [.int x5, .int a1]) hX (c_x1_asks (by decide) e12) (lw_x1_asks_ q1280) rfl rfl nn_x1_asks ⟨Nat.le_of_ble_eq_true rfl, Nat.le_of_ble_eq_true rfl⟩ ⟨Nat.zero_le _, Nat.zero_le _⟩ (by decide) rfl (xs_M (by decide)) rfl rfl (Nat.le_of_ble_eq_true rfl) dX0_asks_74 rfl ?_
      obtain ⟨e_V, e_r⟩ := gz_in2 h
      exact gu_iret hX hZ hF e_V rfl e_r dX0_asks_77
    · have h := gz_ifp c3 h
      refine gz_iconst (v := (-1)) hX dX0_asks_27 gl_c_m1 ?_
      obtain ⟨e_V, e_r⟩ := gz_in2 h
      exact gu_iret hX hZ hF e_V rfl e_r dX0_asks_28
theorem lw_x0_asks_ {o : String} {i : Nat} (hl : Cond.methodLink o i yX0_asks ∈ lw_all) : GoodIn lw_all (wsV o i RX0 yX0_asks (ws_ yX0_asks cX0_asks 5 (some .int))) := lw_V hl q1277 q1278 q144 q1279
theorem nn_x0_asks : yX0_asks.cls = RX0 ∧ yX0_asks.cls ≠ "java/lang/invoke/MethodHandle" ∧ yX0_asks.cls ≠ "java/lang/invoke/VarHandle" ∧ (parseMethodDescriptor yX0_asks.desc).map (fun d => d.parameters.length) = some 3 := by decide +kernel
def rm_x1_canBuy : Room := { frames := 415, cells := 0, slots := 0, locals := 9573 }
noncomputable def x1_canBuy (N : Nat) (Ds : gz_S) (Df : gz_R) (V : gz_V) (u1 : Nat) (a1 : Int32) (a2 : Int32) (a3 : Int32) (a4 : Int32) : Option (gz_V × Int32) := gz_gd (gz_inb a2 10 = true) (gz_let (a2.toNatClampNeg) (fun w2 => (if (V (42, u1, w2) 0) = a1 then some (V, 0) else gz_bd (x1_isSlung V u1 (V (42, u1, w2) 0) a1) (fun r5 => (if r5 = 0 then gz_gd (gz_inb a1 12 = true) ((if a3 ≤ (V (40, u1, a1.toNatClampNeg) 1) then gz_bd (x2_begins V u1 u1 w2 (V (42, u1, w2) 0) a1 a4 a3) (fun V10 => gz_b2 (x1_asks N Ds Df V10 u1 (V10 (42, u1, w2) 0) a1) (fun V12 r13 => (if a3 < r13 then some (V12, 0) else some (V12, 1)))) else some (V, 0))) else some (V, 0))))))
theorem c_x1_canBuy {l : Launch} {D : va_G} {aC : Nat → ClassId} {ad : gz_A0} {N : Nat} {Ds : gz_S} {Df : gz_R} {V : gz_V} {u1 : Nat} {a1 : Int32} {a2 : Int32} {a3 : Int32} {a4 : Int32} {W1 : gz_V} {r : Int32} (hu1 : u1 < 9) (h : x1_canBuy N Ds Df V u1 a1 a2 a3 a4 = some (W1, r)) : gz_Met l yX1_canBuy cX1_canBuy 6 (some .boolean) rm_x1_canBuy D aC ad (xw_s Ds) V (xw_c Df) [.ref (ad (20, u1, 0)), .int a1, .int a2, .int a3, .int a4] (gz_F1 (xw_s Ds) (xw_c Df) ad W1 (some (.int r))) 0 0 := by
  refine gu_ofW (own := RX1) (mn := "canBuy") (lv := [(0, .ref (ad (20, u1, 0))), (1, .int a1), (2, .int a2), (3, .int a3), (4, .int a4)]) (by decide) rfl rfl (Nat.le_of_ble_eq_true rfl) rfl ?_
  intro X hX hZ hF
  rw [x1_canBuy] at h
  refine gz_aload_n (q := 0) hX dX1_canBuy_0 rfl rfl ?_
  refine xg_X1_19 (n2 := (22, u1, 0)) hX (xs_M hu1) rfl dX1_canBuy_1 ?_
  refine gz_iload_n (q := 2) hX dX1_canBuy_4 rfl rfl ?_
  obtain ⟨b1, h⟩ := gz_gd_o h
  refine gz_aald (L := 10) (t := 111) (t0 := 4) (ty := (.object "ClaspedFair$Horse")) (n2 := (42, u1, a2.toNatClampNeg)) hX (by decide) (by decide) (fun _ => rfl) rfl (xs_HA hu1) (gz_inb_o b1) (xr_HA (gz_inb_lt b1)) dX1_canBuy_5 ?_
  obtain ⟨w2, e3, h⟩ := gz_let_o h
  refine gz_nmr (congrArg (fun z_ => ((42, u1, z_) : gz_N)) e3) ?_
  refine gz_astore (lv2 := [(5, .ref (ad (42, u1, w2))), (0, .ref (ad (20, u1, 0))), (1, .int a1), (2, .int a2), (3, .int a3), (4, .int a4)]) hX dX1_canBuy_6 (by decide) rfl ?_
  refine gz_aload (q := 0) hX dX1_canBuy_8 rfl ?_
  refine xg_X1_196 hX (xs_H hu1 (e3 ▸ (gz_inb_lt b1))) dX1_canBuy_10 ?_
  refine gz_iload_n (q := 2) hX dX1_canBuy_13 rfl rfl ?_
  refine gz_icmp_eq (tgt := 43) hX dX1_canBuy_14 (by decide) (fun c4 => ?_) (fun c4 => ?_)
  · have h := gz_ifp c4 h
    refine gz_iconst (v := 0) hX dX1_canBuy_43 gl_c_0 ?_
    obtain ⟨e_V, e_r⟩ := gz_in2 h
    exact gu_zret hX hZ rfl hF e_V rfl e_r dX1_canBuy_44
  · have h := gz_ifn c4 h
    refine gz_aload_n (q := 1) hX dX1_canBuy_17 rfl rfl ?_
    refine gz_aload (q := 0) hX dX1_canBuy_18 rfl ?_
    refine xg_X1_196 hX (xs_H hu1 (e3 ▸ (gz_inb_lt b1))) dX1_canBuy_20 ?_
    refine gz_iload_n (q := 2) hX dX1_canBuy_23 rfl rfl ?_
    obtain ⟨r5, e6, h⟩ := gz_bd_o h
    refine gu_callV (ci := 1) (n := (20, u1, 0)) (As := [.int (V (42, u1, w2) 0), .int a1]) hX (c_x1_isSlung hu1 e6) (lw_x1_isSlung_ q1091) rfl rfl nn_x1_isSlung ⟨Nat.le_of_ble_eq_true rfl, Nat.le_of_ble_eq_true rfl⟩ ⟨Nat.zero_le _, Nat.zero_le _⟩ (by decide) rfl (xs_M hu1) rfl rfl (Nat.le_of_ble_eq_true rfl) dX1_canBuy_24 rfl ?_
    refine gz_if_ne (tgt := 43) hX dX1_canBuy_27 (by decide) (fun c7 => ?_) (fun c7 => ?_)
    · have h := gz_ifn c7 h
      refine gz_iconst (v := 0) hX dX1_canBuy_43 gl_c_0 ?_
      obtain ⟨e_V, e_r⟩ := gz_in2 h
      exact gu_zret hX hZ rfl hF e_V rfl e_r dX1_canBuy_44
    · have h := gz_ifp c7 h
      refine gz_iload_n (q := 4) hX dX1_canBuy_30 rfl rfl ?_
      refine gz_aload_n (q := 1) hX dX1_canBuy_31 rfl rfl ?_
      refine xg_X1_11 (n2 := (21, u1, 0)) hX (xs_M hu1) rfl dX1_canBuy_32 ?_
      refine gz_iload_n (q := 2) hX dX1_canBuy_35 rfl rfl ?_
      obtain ⟨b8, h⟩ := gz_gd_o h
      refine gz_aald (L := 12) (t := 110) (t0 := 3) (ty := (.object "ClaspedFair$Person")) (n2 := (40, u1, a1.toNatClampNeg)) hX (by decide) (by decide) (fun _ => rfl) rfl (xs_PA hu1) (gz_inb_o b8) (xr_PA (gz_inb_lt b8)) dX1_canBuy_36 ?_
      refine xg_X1_156 hX (xs_P hu1 (gz_inb_lt b8)) dX1_canBuy_37 ?_
      refine gz_icmp_le (tgt := 45) hX dX1_canBuy_40 (by decide) (fun c9 => ?_) (fun c9 => ?_)
      · have h := gz_ifp c9 h
        refine gz_aload_n (q := 1) hX dX1_canBuy_45 rfl rfl ?_
        refine xg_X1_26 (n2 := (23, u1, 0)) hX (xs_M hu1) rfl dX1_canBuy_46 ?_
        refine gz_aload (q := 0) hX dX1_canBuy_49 rfl ?_
        refine xg_X1_196 hX (xs_H hu1 (e3 ▸ (gz_inb_lt b1))) dX1_canBuy_51 ?_
        refine gz_iload_n (q := 2) hX dX1_canBuy_54 rfl rfl ?_
        refine gz_iload (q := 5) hX dX1_canBuy_55 rfl ?_
        refine gz_iload_n (q := 4) hX dX1_canBuy_57 rfl rfl ?_
        refine gz_aload (q := 0) hX dX1_canBuy_58 rfl ?_
        obtain ⟨V10, e11, h⟩ := gz_bd_o h
        refine gu_callV (ci := 2) (n := (23, u1, 0)) (As := [.int (V (42, u1, w2) 0), .int a1, .int a4, .int a3, .ref (ad (42, u1, w2))]) hX (c_x2_begins hu1 hu1 (e3 ▸ (gz_inb_lt b1)) e11) (lw_x2_begins_ q1095) rfl rfl nn_x2_begins ⟨Nat.le_of_ble_eq_true rfl, Nat.le_of_ble_eq_true rfl⟩ ⟨Nat.zero_le _, Nat.zero_le _⟩ (by decide) rfl (xs_G hu1) rfl rfl (Nat.le_of_ble_eq_true rfl) dX1_canBuy_60 rfl ?_
        refine gz_iload_n (q := 4) hX dX1_canBuy_63 rfl rfl ?_
        refine gz_aload_n (q := 1) hX dX1_canBuy_64 rfl rfl ?_
        refine gz_aload (q := 0) hX dX1_canBuy_65 rfl ?_
        refine xg_X1_196 hX (xs_H hu1 (e3 ▸ (gz_inb_lt b1))) dX1_canBuy_67 ?_
        refine gz_iload_n (q := 2) hX dX1_canBuy_70 rfl rfl ?_
        obtain ⟨V12, r13, e14, h⟩ := gz_b2_o h
        refine gu_callV (ci := 1) (n := (20, u1, 0)) (As := [.int (V10 (42, u1, w2) 0), .int a1]) hX (c_x1_asks hu1 e14) (lw_x1_asks_ q1099) rfl rfl nn_x1_asks ⟨Nat.le_of_ble_eq_true rfl, Nat.le_of_ble_eq_true rfl⟩ ⟨Nat.zero_le _, Nat.zero_le _⟩ (by decide) rfl (xs_M hu1) rfl rfl (Nat.le_of_ble_eq_true rfl) dX1_canBuy_71 rfl ?_
        refine gz_icmp_lt (tgt := 81) hX dX1_canBuy_74 (by decide) (fun c15 => ?_) (fun c15 => ?_)
        · have h := gz_ifp c15 h
          refine gz_iconst (v := 0) hX dX1_canBuy_81 gl_c_0 ?_
          obtain ⟨e_V, e_r⟩ := gz_in2 h
          exact gu_zret hX hZ rfl hF e_V rfl e_r dX1_canBuy_82
        · have h := gz_ifn c15 h
          refine gz_iconst (v := 1) hX dX1_canBuy_77 gl_c_1 ?_
          refine gz_goto (tgt := 82) hX dX1_canBuy_78 (by decide) ?_
          obtain ⟨e_V, e_r⟩ := gz_in2 h
          exact gu_zret hX hZ rfl hF e_V rfl e_r dX1_canBuy_82
      · have h := gz_ifn c9 h
        refine gz_iconst (v := 0) hX dX1_canBuy_43 gl_c_0 ?_
        obtain ⟨e_V, e_r⟩ := gz_in2 h
        exact gu_zret hX hZ rfl hF e_V rfl e_r dX1_canBuy_44
theorem lw_x1_canBuy_ {o : String} {i : Nat} (hl : Cond.methodLink o i yX1_canBuy ∈ lw_all) : GoodIn lw_all (wsV o i RX1 yX1_canBuy (ws_ yX1_canBuy cX1_canBuy 6 (some .boolean))) := lw_V hl q1088 q1089 q145 q1090
theorem nn_x1_canBuy : yX1_canBuy.cls = RX1 ∧ yX1_canBuy.cls ≠ "java/lang/invoke/MethodHandle" ∧ yX1_canBuy.cls ≠ "java/lang/invoke/VarHandle" ∧ (parseMethodDescriptor yX1_canBuy.desc).map (fun d => d.parameters.length) = some 4 := by decide +kernel
def rm_x1_passes : Room := { frames := 414, cells := 0, slots := 0, locals := 9551 }
noncomputable def x1_passes (N : Nat) (Ds : gz_S) (Df : gz_R) (V : gz_V) (u1 : Nat) (a1 : Int32) (a2 : Int32) (a3 : Int32) : Option (gz_V × Int32) := gz_b2 (x1_tells N Ds Df V u1 7 a1 a2 a3 (20 * (V (23, u1, 0) 4)) 1000) (fun V1 r2 => some (V1, r2))
theorem c_x1_passes {l : Launch} {D : va_G} {aC : Nat → ClassId} {ad : gz_A0} {N : Nat} {Ds : gz_S} {Df : gz_R} {V : gz_V} {u1 : Nat} {a1 : Int32} {a2 : Int32} {a3 : Int32} {W1 : gz_V} {r : Int32} (hu1 : u1 < 9) (h : x1_passes N Ds Df V u1 a1 a2 a3 = some (W1, r)) : gz_Met l yX1_passes cX1_passes 4 (some .int) rm_x1_passes D aC ad (xw_s Ds) V (xw_c Df) [.ref (ad (20, u1, 0)), .int a1, .int a2, .int a3] (gz_F1 (xw_s Ds) (xw_c Df) ad W1 (some (.int r))) 0 0 := by
  refine gu_ofW (own := RX1) (mn := "passes") (lv := [(0, .ref (ad (20, u1, 0))), (1, .int a1), (2, .int a2), (3, .int a3)]) (by decide) rfl rfl (Nat.le_of_ble_eq_true rfl) rfl ?_
  intro X hX hZ hF
  rw [x1_passes] at h
  refine gz_aload_n (q := 0) hX dX1_passes_0 rfl rfl ?_
  refine gz_bipush (v := 7) hX dX1_passes_1 gl_b_7 ?_
  refine gz_iload_n (q := 1) hX dX1_passes_3 rfl rfl ?_
  refine gz_iload_n (q := 2) hX dX1_passes_4 rfl rfl ?_
  refine gz_iload_n (q := 3) hX dX1_passes_5 rfl rfl ?_
  refine gz_bipush (v := 20) hX dX1_passes_6 gl_b_20 ?_
  refine gz_aload_n (q := 0) hX dX1_passes_8 rfl rfl ?_
  refine xg_X1_26 (n2 := (23, u1, 0)) hX (xs_M hu1) rfl dX1_passes_9 ?_
  refine xg_X1_141 hX (xs_G hu1) dX1_passes_12 ?_
  refine gz_imul hX dX1_passes_15 ?_
  refine gz_sipush (v := 1000) hX dX1_passes_16 gl_s_1000 ?_
  obtain ⟨V1, r2, e3, h⟩ := gz_b2_o h
  refine gu_callV (ci := 1) (n := (20, u1, 0)) (As := [.int 7, .int a1, .int a2, .int a3, .int (20 * (V (23, u1, 0) 4)), .int 1000]) hX (c_x1_tells hu1 e3) (lw_x1_tells_ q1103) rfl rfl nn_x1_tells ⟨Nat.le_of_ble_eq_true rfl, Nat.le_of_ble_eq_true rfl⟩ ⟨Nat.zero_le _, Nat.zero_le _⟩ (by decide) rfl (xs_M hu1) rfl rfl (Nat.le_of_ble_eq_true rfl) dX1_passes_19 rfl ?_
  obtain ⟨e_V, e_r⟩ := gz_in2 h
  exact gu_iret hX hZ hF e_V rfl e_r dX1_passes_22
theorem lw_x1_passes_ {o : String} {i : Nat} (hl : Cond.methodLink o i yX1_passes ∈ lw_all) : GoodIn lw_all (wsV o i RX1 yX1_passes (ws_ yX1_passes cX1_passes 4 (some .int))) := lw_V hl q1176 q1177 q145 q1178
theorem nn_x1_passes : yX1_passes.cls = RX1 ∧ yX1_passes.cls ≠ "java/lang/invoke/MethodHandle" ∧ yX1_passes.cls ≠ "java/lang/invoke/VarHandle" ∧ (parseMethodDescriptor yX1_passes.desc).map (fun d => d.parameters.length) = some 3 := by decide +kernel
def rm_x1_goesOver : Room := { frames := 415, cells := 0, slots := 0, locals := 9574 }
noncomputable def x1_goesOver (N : Nat) (Ds : gz_S) (Df : gz_R) (V : gz_V) (u1 : Nat) (a1 : Int32) : Option (gz_V) := gz_gd (gz_inb (V (23, u1, 0) 2) 12 = true) (gz_let ((V (23, u1, 0) 2).toNatClampNeg) (fun w2 => gz_gd (gz_inb (V (23, u1, 0) 3) 12 = true) (gz_let ((V (23, u1, 0) 3).toNatClampNeg) (fun w5 => gz_gd (gz_inb a1 5 = true) (gz_b2 (x1_passes N Ds Df V u1 (V (23, u1, 0) 2) (V (23, u1, 0) 3) a1) (fun V8 r9 => gz_let ((((V (41, u1, w2) a1.toNatClampNeg) * r9) / 1000)) (fun x11 => gz_gd (gz_inb a1 5 = true) (gz_b2 (x1_passes N Ds Df V8 u1 (V8 (23, u1, 0) 3) (V8 (23, u1, 0) 2) a1) (fun V14 r15 => gz_let ((((V8 (41, u1, w5) a1.toNatClampNeg) * r15) / 1000)) (fun x17 => gz_gd (gz_inb a1 5 = true) (gz_gd (gz_inb a1 5 = true) (gz_let (gz_up V14 (24, u1, 0) a1.toNatClampNeg (gz_min x11 ((999 - (V14 (41, u1, w5) a1.toNatClampNeg)) + x17))) (fun V21 => gz_gd (gz_inb a1 5 = true) (gz_gd (gz_inb a1 5 = true) (gz_let (gz_up V21 (24, u1, 1) a1.toNatClampNeg (gz_min x17 ((999 - (V21 (41, u1, w2) a1.toNatClampNeg)) + x11))) (fun V25 => gz_bd (x1_shifts V25 u1 a1 1) (fun V27 => some V27)))))))))))))))))
theorem c_x1_goesOver {l : Launch} {D : va_G} {aC : Nat → ClassId} {ad : gz_A0} {N : Nat} {Ds : gz_S} {Df : gz_R} {V : gz_V} {u1 : Nat} {a1 : Int32} {W1 : gz_V} (hu1 : u1 < 9) (h : x1_goesOver N Ds Df V u1 a1 = some W1) : gz_Met l yX1_goesOver cX1_goesOver 6 none rm_x1_goesOver D aC ad (xw_s Ds) V (xw_c Df) [.ref (ad (20, u1, 0)), .int a1] (gz_F1 (xw_s Ds) (xw_c Df) ad W1 none) 0 0 := by
  refine gu_ofW (own := RX1) (mn := "goesOver") (lv := [(0, .ref (ad (20, u1, 0))), (1, .int a1)]) (by decide) rfl rfl (Nat.le_of_ble_eq_true rfl) rfl ?_
  intro X hX hZ hF
  rw [x1_goesOver] at h
  refine gz_aload_n (q := 0) hX dX1_goesOver_0 rfl rfl ?_
  refine xg_X1_11 (n2 := (21, u1, 0)) hX (xs_M hu1) rfl dX1_goesOver_1 ?_
  refine gz_aload_n (q := 0) hX dX1_goesOver_4 rfl rfl ?_
  refine xg_X1_26 (n2 := (23, u1, 0)) hX (xs_M hu1) rfl dX1_goesOver_5 ?_
  refine xg_X1_210 hX (xs_G hu1) dX1_goesOver_8 ?_
  obtain ⟨b1, h⟩ := gz_gd_o h
  refine gz_aald (L := 12) (t := 110) (t0 := 3) (ty := (.object "ClaspedFair$Person")) (n2 := (40, u1, (V (23, u1, 0) 2).toNatClampNeg)) hX (by decide) (by decide) (fun _ => rfl) rfl (xs_PA hu1) (gz_inb_o b1) (xr_PA (gz_inb_lt b1)) dX1_goesOver_11 ?_
  obtain ⟨w2, e3, h⟩ := gz_let_o h
  refine gz_nmr (congrArg (fun z_ => ((40, u1, z_) : gz_N)) e3) ?_
  refine gz_astore_n (lv2 := [(2, .ref (ad (40, u1, w2))), (0, .ref (ad (20, u1, 0))), (1, .int a1)]) hX dX1_goesOver_12 rfl (by decide) rfl ?_
  refine gz_aload_n (q := 1) hX dX1_goesOver_13 rfl rfl ?_
  refine xg_X1_11 (n2 := (21, u1, 0)) hX (xs_M hu1) rfl dX1_goesOver_14 ?_
  refine gz_aload_n (q := 1) hX dX1_goesOver_17 rfl rfl ?_
  refine xg_X1_26 (n2 := (23, u1, 0)) hX (xs_M hu1) rfl dX1_goesOver_18 ?_
  refine xg_X1_213 hX (xs_G hu1) dX1_goesOver_21 ?_
  obtain ⟨b4, h⟩ := gz_gd_o h
  refine gz_aald (L := 12) (t := 110) (t0 := 3) (ty := (.object "ClaspedFair$Person")) (n2 := (40, u1, (V (23, u1, 0) 3).toNatClampNeg)) hX (by decide) (by decide) (fun _ => rfl) rfl (xs_PA hu1) (gz_inb_o b4) (xr_PA (gz_inb_lt b4)) dX1_goesOver_24 ?_
  obtain ⟨w5, e6, h⟩ := gz_let_o h
  refine gz_nmr (congrArg (fun z_ => ((40, u1, z_) : gz_N)) e6) ?_
  refine gz_astore_n (lv2 := [(3, .ref (ad (40, u1, w5))), (2, .ref (ad (40, u1, w2))), (0, .ref (ad (20, u1, 0))), (1, .int a1)]) hX dX1_goesOver_25 rfl (by decide) rfl ?_
  refine gz_aload_n (q := 1) hX dX1_goesOver_26 rfl rfl ?_
  refine xg_X1_135 (n2 := (41, u1, w2)) hX (xs_P hu1 (e3 ▸ (gz_inb_lt b1))) rfl dX1_goesOver_27 ?_
  refine gz_iload_n (q := 3) hX dX1_goesOver_30 rfl rfl ?_
  obtain ⟨b7, h⟩ := gz_gd_o h
  refine gz_iald (L := 5) hX (xs_T hu1 (e3 ▸ (gz_inb_lt b1))) (gz_inb_o b7) dX1_goesOver_31 ?_
  refine gz_aload_n (q := 2) hX dX1_goesOver_32 rfl rfl ?_
  refine gz_aload_n (q := 2) hX dX1_goesOver_33 rfl rfl ?_
  refine xg_X1_26 (n2 := (23, u1, 0)) hX (xs_M hu1) rfl dX1_goesOver_34 ?_
  refine xg_X1_210 hX (xs_G hu1) dX1_goesOver_37 ?_
  refine gz_aload_n (q := 2) hX dX1_goesOver_40 rfl rfl ?_
  refine xg_X1_26 (n2 := (23, u1, 0)) hX (xs_M hu1) rfl dX1_goesOver_41 ?_
  refine xg_X1_213 hX (xs_G hu1) dX1_goesOver_44 ?_
  refine gz_iload_n (q := 3) hX dX1_goesOver_47 rfl rfl ?_
  obtain ⟨V8, r9, e10, h⟩ := gz_b2_o h
  refine gu_callV (ci := 1) (n := (20, u1, 0)) (As := [.int (V (23, u1, 0) 2), .int (V (23, u1, 0) 3), .int a1]) hX (c_x1_passes hu1 e10) (lw_x1_passes_ q1175) rfl rfl nn_x1_passes ⟨Nat.le_of_ble_eq_true rfl, Nat.le_of_ble_eq_true rfl⟩ ⟨Nat.zero_le _, Nat.zero_le _⟩ (by decide) rfl (xs_M hu1) rfl rfl (Nat.le_of_ble_eq_true rfl) dX1_goesOver_48 rfl ?_
  refine gz_imul hX dX1_goesOver_51 ?_
  refine gz_sipush (v := 1000) hX dX1_goesOver_52 gl_s_1000 ?_
  refine gz_idiv hX dX1_goesOver_55 (by decide) ?_
  obtain ⟨x11, e12, h⟩ := gz_let_o h
  refine gz_nm e12 ?_
  refine gz_istore (lv2 := [(4, .int x11), (3, .ref (ad (40, u1, w5))), (2, .ref (ad (40, u1, w2))), (0, .ref (ad (20, u1, 0))), (1, .int a1)]) hX dX1_goesOver_56 (by decide) rfl ?_
  refine gz_aload_n (q := 1) hX dX1_goesOver_58 rfl rfl ?_
  refine xg_X1_135 (n2 := (41, u1, w5)) hX (xs_P hu1 (e6 ▸ (gz_inb_lt b4))) rfl dX1_goesOver_59 ?_
  refine gz_iload_n (q := 4) hX dX1_goesOver_62 rfl rfl ?_
  obtain ⟨b13, h⟩ := gz_gd_o h
  refine gz_iald (L := 5) hX (xs_T hu1 (e6 ▸ (gz_inb_lt b4))) (gz_inb_o b13) dX1_goesOver_63 ?_
  refine gz_aload_n (q := 3) hX dX1_goesOver_64 rfl rfl ?_
  refine gz_aload_n (q := 3) hX dX1_goesOver_65 rfl rfl ?_
  refine xg_X1_26 (n2 := (23, u1, 0)) hX (xs_M hu1) rfl dX1_goesOver_66 ?_
  refine xg_X1_213 hX (xs_G hu1) dX1_goesOver_69 ?_
  refine gz_aload_n (q := 3) hX dX1_goesOver_72 rfl rfl ?_
  refine xg_X1_26 (n2 := (23, u1, 0)) hX (xs_M hu1) rfl dX1_goesOver_73 ?_
  refine xg_X1_210 hX (xs_G hu1) dX1_goesOver_76 ?_
  refine gz_iload_n (q := 4) hX dX1_goesOver_79 rfl rfl ?_
  obtain ⟨V14, r15, e16, h⟩ := gz_b2_o h
  refine gu_callV (ci := 1) (n := (20, u1, 0)) (As := [.int (V8 (23, u1, 0) 3), .int (V8 (23, u1, 0) 2), .int a1]) hX (c_x1_passes hu1 e16) (lw_x1_passes_ q1175) rfl rfl nn_x1_passes ⟨Nat.le_of_ble_eq_true rfl, Nat.le_of_ble_eq_true rfl⟩ ⟨Nat.zero_le _, Nat.zero_le _⟩ (by decide) rfl (xs_M hu1) rfl rfl (Nat.le_of_ble_eq_true rfl) dX1_goesOver_80 rfl ?_
  refine gz_imul hX dX1_goesOver_83 ?_
  refine gz_sipush (v := 1000) hX dX1_goesOver_84 gl_s_1000 ?_
  refine gz_idiv hX dX1_goesOver_87 (by decide) ?_
  obtain ⟨x17, e18, h⟩ := gz_let_o h
  refine gz_nm e18 ?_
  refine gz_istore (lv2 := [(5, .int x17), (4, .int x11), (3, .ref (ad (40, u1, w5))), (2, .ref (ad (40, u1, w2))), (0, .ref (ad (20, u1, 0))), (1, .int a1)]) hX dX1_goesOver_88 (by decide) rfl ?_
  refine gz_aload_n (q := 4) hX dX1_goesOver_90 rfl rfl ?_
  refine xg_X1_26 (n2 := (23, u1, 0)) hX (xs_M hu1) rfl dX1_goesOver_91 ?_
  refine xg_X1_219 (n2 := (24, u1, 0)) hX (xs_G hu1) rfl dX1_goesOver_94 ?_
  refine gz_iload_n (q := 5) hX dX1_goesOver_97 rfl rfl ?_
  refine gz_iload (q := 1) hX dX1_goesOver_98 rfl ?_
  refine gz_sipush (v := 999) hX dX1_goesOver_100 gl_s_999 ?_
  refine gz_aload_n (q := 2) hX dX1_goesOver_103 rfl rfl ?_
  refine xg_X1_135 (n2 := (41, u1, w5)) hX (xs_P hu1 (e6 ▸ (gz_inb_lt b4))) rfl dX1_goesOver_104 ?_
  refine gz_iload_n (q := 5) hX dX1_goesOver_107 rfl rfl ?_
  obtain ⟨b19, h⟩ := gz_gd_o h
  refine gz_iald (L := 5) hX (xs_T hu1 (e6 ▸ (gz_inb_lt b4))) (gz_inb_o b19) dX1_goesOver_108 ?_
  refine gz_isub hX dX1_goesOver_109 ?_
  refine gz_iload (q := 0) hX dX1_goesOver_110 rfl ?_
  refine gz_iadd hX dX1_goesOver_112 ?_
  refine gz_mmin hX q1162 q906 q156 q907 ⟨Nat.le_of_ble_eq_true rfl, Nat.le_of_ble_eq_true rfl, Nat.zero_le _, Nat.zero_le _⟩ (Nat.le_of_ble_eq_true rfl) dX1_goesOver_113 ?_
  obtain ⟨b20, h⟩ := gz_gd_o h
  obtain ⟨V21, e22, h⟩ := gz_let_o h
  refine gz_iast (L := 5) hX (xs_OA hu1 (by decide)) (gz_ne0 23 rfl) (gz_inb_o b20) dX1_goesOver_116 e22 ?_
  refine gz_aload_n (q := 4) hX dX1_goesOver_117 rfl rfl ?_
  refine xg_X1_26 (n2 := (23, u1, 0)) hX (xs_M hu1) rfl dX1_goesOver_118 ?_
  refine xg_X1_225 (n2 := (24, u1, 1)) hX (xs_G hu1) rfl dX1_goesOver_121 ?_
  refine gz_iload_n (q := 5) hX dX1_goesOver_124 rfl rfl ?_
  refine gz_iload (q := 0) hX dX1_goesOver_125 rfl ?_
  refine gz_sipush (v := 999) hX dX1_goesOver_127 gl_s_999 ?_
  refine gz_aload_n (q := 3) hX dX1_goesOver_130 rfl rfl ?_
  refine xg_X1_135 (n2 := (41, u1, w2)) hX (xs_P hu1 (e3 ▸ (gz_inb_lt b1))) rfl dX1_goesOver_131 ?_
  refine gz_iload_n (q := 5) hX dX1_goesOver_134 rfl rfl ?_
  obtain ⟨b23, h⟩ := gz_gd_o h
  refine gz_iald (L := 5) hX (xs_T hu1 (e3 ▸ (gz_inb_lt b1))) (gz_inb_o b23) dX1_goesOver_135 ?_
  refine gz_isub hX dX1_goesOver_136 ?_
  refine gz_iload (q := 1) hX dX1_goesOver_137 rfl ?_
  refine gz_iadd hX dX1_goesOver_139 ?_
  refine gz_mmin hX q1162 q906 q156 q907 ⟨Nat.le_of_ble_eq_true rfl, Nat.le_of_ble_eq_true rfl, Nat.zero_le _, Nat.zero_le _⟩ (Nat.le_of_ble_eq_true rfl) dX1_goesOver_140 ?_
  obtain ⟨b24, h⟩ := gz_gd_o h
  obtain ⟨V25, e26, h⟩ := gz_let_o h
  refine gz_iast (L := 5) hX (xs_OA hu1 (by decide)) (gz_ne0 23 rfl) (gz_inb_o b24) dX1_goesOver_143 e26 ?_
  refine gz_aload_n (q := 4) hX dX1_goesOver_144 rfl rfl ?_
  refine gz_iload_n (q := 5) hX dX1_goesOver_145 rfl rfl ?_
  refine gz_iconst (v := 1) hX dX1_goesOver_146 gl_c_1 ?_
  obtain ⟨V27, e28, h⟩ := gz_bd_o h
  refine gu_callV (ci := 1) (n := (20, u1, 0)) (As := [.int a1, .int 1]) hX (c_x1_shifts hu1 e28) (lw_x1_shifts_ q1179) rfl rfl nn_x1_shifts ⟨Nat.le_of_ble_eq_true rfl, Nat.le_of_ble_eq_true rfl⟩ ⟨Nat.zero_le _, Nat.zero_le _⟩ (by decide) rfl (xs_M hu1) rfl rfl (Nat.le_of_ble_eq_true rfl) dX1_goesOver_147 rfl ?_
  exact gu_vret hX hZ hF (gz_in1 h) rfl dX1_goesOver_150
theorem lw_x1_goesOver_ {o : String} {i : Nat} (hl : Cond.methodLink o i yX1_goesOver ∈ lw_all) : GoodIn lw_all (wsV o i RX1 yX1_goesOver (ws_ yX1_goesOver cX1_goesOver 6 none)) := lw_V hl q1173 qs40 q145 q1174
theorem nn_x1_goesOver : yX1_goesOver.cls = RX1 ∧ yX1_goesOver.cls ≠ "java/lang/invoke/MethodHandle" ∧ yX1_goesOver.cls ≠ "java/lang/invoke/VarHandle" ∧ (parseMethodDescriptor yX1_goesOver.desc).map (fun d => d.parameters.length) = some 1 := by decide +kernel
theorem gl_b_100 : (Int8.ofInt 100).toInt32 = 100 := by decide
def rm_x1_holds : Room := { frames := 414, cells := 0, slots := 0, locals := 9551 }
noncomputable def x1_holds (N : Nat) (Ds : gz_S) (Df : gz_R) (V : gz_V) (u1 : Nat) (a1 : Int32) (a2 : Int32) : Option (gz_V × Int32) := gz_gd (gz_inb a1 12 = true) (gz_b2 (x1_tells N Ds Df V u1 8 a1 a2 0 (100 - (10 * (V (40, u1, a1.toNatClampNeg) 3))) 1000) (fun V2 r3 => some (V2, r3)))
theorem c_x1_holds {l : Launch} {D : va_G} {aC : Nat → ClassId} {ad : gz_A0} {N : Nat} {Ds : gz_S} {Df : gz_R} {V : gz_V} {u1 : Nat} {a1 : Int32} {a2 : Int32} {W1 : gz_V} {r : Int32} (hu1 : u1 < 9) (h : x1_holds N Ds Df V u1 a1 a2 = some (W1, r)) : gz_Met l yX1_holds cX1_holds 3 (some .int) rm_x1_holds D aC ad (xw_s Ds) V (xw_c Df) [.ref (ad (20, u1, 0)), .int a1, .int a2] (gz_F1 (xw_s Ds) (xw_c Df) ad W1 (some (.int r))) 0 0 := by
  refine gu_ofW (own := RX1) (mn := "holds") (lv := [(0, .ref (ad (20, u1, 0))), (1, .int a1), (2, .int a2)]) (by decide) rfl rfl (Nat.le_of_ble_eq_true rfl) rfl ?_
  intro X hX hZ hF
  rw [x1_holds] at h
  refine gz_aload_n (q := 0) hX dX1_holds_0 rfl rfl ?_
  refine gz_bipush (v := 8) hX dX1_holds_1 gl_b_8 ?_
  refine gz_iload_n (q := 1) hX dX1_holds_3 rfl rfl ?_
  refine gz_iload_n (q := 2) hX dX1_holds_4 rfl rfl ?_
  refine gz_iconst (v := 0) hX dX1_holds_5 gl_c_0 ?_
  refine gz_bipush (v := 100) hX dX1_holds_6 gl_b_100 ?_
  refine gz_bipush (v := 10) hX dX1_holds_8 gl_b_10 ?_
  refine gz_aload_n (q := 0) hX dX1_holds_10 rfl rfl ?_
  refine xg_X1_11 (n2 := (21, u1, 0)) hX (xs_M hu1) rfl dX1_holds_11 ?_
  refine gz_iload_n (q := 1) hX dX1_holds_14 rfl rfl ?_
  obtain ⟨b1, h⟩ := gz_gd_o h
  refine gz_aald (L := 12) (t := 110) (t0 := 3) (ty := (.object "ClaspedFair$Person")) (n2 := (40, u1, a1.toNatClampNeg)) hX (by decide) (by decide) (fun _ => rfl) rfl (xs_PA hu1) (gz_inb_o b1) (xr_PA (gz_inb_lt b1)) dX1_holds_15 ?_
  refine xg_X1_153 hX (xs_P hu1 (gz_inb_lt b1)) dX1_holds_16 ?_
  refine gz_imul hX dX1_holds_19 ?_
  refine gz_isub hX dX1_holds_20 ?_
  refine gz_sipush (v := 1000) hX dX1_holds_21 gl_s_1000 ?_
  obtain ⟨V2, r3, e4, h⟩ := gz_b2_o h
  refine gu_callV (ci := 1) (n := (20, u1, 0)) (As := [.int 8, .int a1, .int a2, .int 0, .int (100 - (10 * (V (40, u1, a1.toNatClampNeg) 3))), .int 1000]) hX (c_x1_tells hu1 e4) (lw_x1_tells_ q1103) rfl rfl nn_x1_tells ⟨Nat.le_of_ble_eq_true rfl, Nat.le_of_ble_eq_true rfl⟩ ⟨Nat.zero_le _, Nat.zero_le _⟩ (by decide) rfl (xs_M hu1) rfl rfl (Nat.le_of_ble_eq_true rfl) dX1_holds_24 rfl ?_
  obtain ⟨e_V, e_r⟩ := gz_in2 h
  exact gu_iret hX hZ hF e_V rfl e_r dX1_holds_27
theorem lw_x1_holds_ {o : String} {i : Nat} (hl : Cond.methodLink o i yX1_holds ∈ lw_all) : GoodIn lw_all (wsV o i RX1 yX1_holds (ws_ yX1_holds cX1_holds 3 (some .int))) := lw_V hl q1188 q1189 q145 q1190
theorem nn_x1_holds : yX1_holds.cls = RX1 ∧ yX1_holds.cls ≠ "java/lang/invoke/MethodHandle" ∧ yX1_holds.cls ≠ "java/lang/invoke/VarHandle" ∧ (parseMethodDescriptor yX1_holds.desc).map (fun d => d.parameters.length) = some 2 := by decide +kernel
theorem gl_s_500 : (Int16.ofInt 500).toInt32 = 500 := by decide
def rm_x1_shakes : Room := { frames := 416, cells := 0, slots := 0, locals := 9599 }
noncomputable def x1_shakes_L47 (N : Nat) (Ds : gz_S) (Df : gz_R) (u1 : Nat) (w2_1 : Nat) (w3_1 : Nat) (v1 : Int32) : Nat → gz_V → Int32 → Option (gz_V)
  | 0, _, _ => none
  | n + 1, V, v4 => (if 5 ≤ v4 then some V else gz_bd (x1_goesOver N Ds Df V u1 v4) (fun V10 => x1_shakes_L47 N Ds Df u1 w2_1 w3_1 v1 n V10 (v4 + 1)))
theorem w_x1_shakes_L47 {X : gz_X} {ad : gz_A0} {N : Nat} {Ds : gz_S} {Df : gz_R} {u1 : Nat} {w2_1 : Nat} {w3_1 : Nat} {v1 : Int32} {W1 : gz_V} (hX : gz_ok X cX1_shakes RX1 "shakes" 7 rm_x1_shakes (some .int)) (hZ : gz_Z X) (hu1 : u1 < 9) (hw2_1 : w2_1 < 12) (hw3_1 : w3_1 < 12) (k : gW X 7 (xw_s Ds) (xw_c Df) ad W1 0 0 65 [(0, .ref (ad (20, u1, 0))), (1, .int v1), (2, .ref (ad (40, u1, w2_1))), (3, .ref (ad (40, u1, w3_1)))] []) : ∀ (n : Nat) {V : gz_V} {v4 : Int32}, x1_shakes_L47 N Ds Df u1 w2_1 w3_1 v1 n V v4 = some W1 → gW X 7 (xw_s Ds) (xw_c Df) ad V 0 0 47 [(0, .ref (ad (20, u1, 0))), (1, .int v1), (2, .ref (ad (40, u1, w2_1))), (3, .ref (ad (40, u1, w3_1))), (4, .int v4)] [] := by
  intro n
  induction n with
  | zero => intro V v4 h; rw [x1_shakes_L47] at h; cases h
  | succ n ih =>
    intro V v4 h
    rw [x1_shakes_L47] at h
    refine gz_iload (q := 4) hX dX1_shakes_47 rfl ?_
    refine gz_iconst (v := 5) hX dX1_shakes_49 gl_c_5 ?_
    refine gz_icmp_ge (tgt := 65) hX dX1_shakes_50 (by decide) (fun c9 => ?_) (fun c9 => ?_)
    · have h := gz_ifp c9 h
      obtain rfl := gz_in1 h
      exact gz_lv [0, 1, 2, 3] rfl k
    · have h := gz_ifn c9 h
      refine gz_aload_n (q := 0) hX dX1_shakes_53 rfl rfl ?_
      refine gz_iload (q := 4) hX dX1_shakes_54 rfl ?_
      obtain ⟨V10, e11, h⟩ := gz_bd_o h
      refine gu_callV (ci := 1) (n := (20, u1, 0)) (As := [.int v4]) hX (c_x1_goesOver hu1 e11) (lw_x1_goesOver_ q1171) rfl rfl nn_x1_goesOver ⟨Nat.le_of_ble_eq_true rfl, Nat.le_of_ble_eq_true rfl⟩ ⟨Nat.zero_le _, Nat.zero_le _⟩ (by decide) rfl (xs_M hu1) rfl rfl (Nat.le_of_ble_eq_true rfl) dX1_shakes_56 rfl ?_
      refine gz_iinc (q := 4) (lv2 := [(4, .int (v4 + 1)), (0, .ref (ad (20, u1, 0))), (1, .int v1), (2, .ref (ad (40, u1, w2_1))), (3, .ref (ad (40, u1, w3_1)))]) hX dX1_shakes_59 rfl gl_c_1 (by decide) rfl ?_
      refine gz_goto (tgt := 47) hX dX1_shakes_62 (by decide) ?_
      exact gz_lv [1, 2, 3, 4, 0] rfl (ih h)
noncomputable def x1_shakes_L165 (N : Nat) (Ds : gz_S) (Df : gz_R) (u1 : Nat) (w2_1 : Nat) (w3_1 : Nat) (v1 : Int32) (v4 : Int32) : Nat → gz_V → Int32 → Option (gz_V)
  | 0, _, _ => none
  | n + 1, V, v6 => (if 5 ≤ v6 then some V else gz_bd (x1_shifts V u1 v6 (-1)) (fun V31 => x1_shakes_L165 N Ds Df u1 w2_1 w3_1 v1 v4 n V31 (v6 + 1)))
theorem w_x1_shakes_L165 {X : gz_X} {ad : gz_A0} {N : Nat} {Ds : gz_S} {Df : gz_R} {u1 : Nat} {w2_1 : Nat} {w3_1 : Nat} {v1 : Int32} {v4 : Int32} {W1 : gz_V} (hX : gz_ok X cX1_shakes RX1 "shakes" 7 rm_x1_shakes (some .int)) (hZ : gz_Z X) (hu1 : u1 < 9) (hw2_1 : w2_1 < 12) (hw3_1 : w3_1 < 12) (k : gW X 7 (xw_s Ds) (xw_c Df) ad W1 0 0 184 [(0, .ref (ad (20, u1, 0))), (1, .int v1), (2, .ref (ad (40, u1, w2_1))), (3, .ref (ad (40, u1, w3_1))), (4, .int v4)] []) : ∀ (n : Nat) {V : gz_V} {v6 : Int32}, x1_shakes_L165 N Ds Df u1 w2_1 w3_1 v1 v4 n V v6 = some W1 → gW X 7 (xw_s Ds) (xw_c Df) ad V 0 0 165 [(0, .ref (ad (20, u1, 0))), (1, .int v1), (2, .ref (ad (40, u1, w2_1))), (3, .ref (ad (40, u1, w3_1))), (4, .int v4), (6, .int v6)] [] := by
  intro n
  induction n with
  | zero => intro V v6 h; rw [x1_shakes_L165] at h; cases h
  | succ n ih =>
    intro V v6 h
    rw [x1_shakes_L165] at h
    refine gz_iload (q := 5) hX dX1_shakes_165 rfl ?_
    refine gz_iconst (v := 5) hX dX1_shakes_167 gl_c_5 ?_
    refine gz_icmp_ge (tgt := 184) hX dX1_shakes_168 (by decide) (fun c30 => ?_) (fun c30 => ?_)
    · have h := gz_ifp c30 h
      obtain rfl := gz_in1 h
      exact gz_lv [0, 1, 2, 3, 4] rfl k
    · have h := gz_ifn c30 h
      refine gz_aload_n (q := 0) hX dX1_shakes_171 rfl rfl ?_
      refine gz_iload (q := 5) hX dX1_shakes_172 rfl ?_
      refine gz_iconst (v := (-1)) hX dX1_shakes_174 gl_c_m1 ?_
      obtain ⟨V31, e32, h⟩ := gz_bd_o h
      refine gu_callV (ci := 1) (n := (20, u1, 0)) (As := [.int v6, .int (-1)]) hX (c_x1_shifts hu1 e32) (lw_x1_shifts_ q1179) rfl rfl nn_x1_shifts ⟨Nat.le_of_ble_eq_true rfl, Nat.le_of_ble_eq_true rfl⟩ ⟨Nat.zero_le _, Nat.zero_le _⟩ (by decide) rfl (xs_M hu1) rfl rfl (Nat.le_of_ble_eq_true rfl) dX1_shakes_175 rfl ?_
      refine gz_iinc (q := 5) (lv2 := [(6, .int (v6 + 1)), (0, .ref (ad (20, u1, 0))), (1, .int v1), (2, .ref (ad (40, u1, w2_1))), (3, .ref (ad (40, u1, w3_1))), (4, .int v4)]) hX dX1_shakes_178 rfl gl_c_1 (by decide) rfl ?_
      refine gz_goto (tgt := 165) hX dX1_shakes_181 (by decide) ?_
      exact gz_lv [1, 2, 3, 4, 5, 0] rfl (ih h)
noncomputable def x1_shakes (N : Nat) (Ds : gz_S) (Df : gz_R) (V : gz_V) (u1 : Nat) (a1 : Int32) : Option (gz_V × Int32) := gz_gd (gz_inb (V (23, u1, 0) 2) 12 = true) (gz_let ((V (23, u1, 0) 2).toNatClampNeg) (fun w2 => gz_gd (gz_inb (V (23, u1, 0) 3) 12 = true) (gz_let ((V (23, u1, 0) 3).toNatClampNeg) (fun w5 => (if (V (40, u1, w2) 2) = 1 then some (V, 0) else (if (V (40, u1, w5) 2) = 1 then some (V, 0) else gz_bd (x1_shakes_L47 N Ds Df u1 w2 w5 a1 N V 0) (fun V9 => gz_bd (x2_all N V9 u1) (fun r11 => gz_let (gz_up V9 (20, u1, 0) 15 ((V9 (20, u1, 0) 15) + r11)) (fun V13 => gz_bd (if r11 ≤ 0 then some V13 else gz_bd (x1_notes V13 u1 2 (V13 (23, u1, 0) 2) r11) (fun V19 => some V19)) (fun V15 => gz_b2 (x1_holds N Ds Df V15 u1 (V15 (23, u1, 0) 3) (V15 (23, u1, 0) 2)) (fun V21 r22 => (if r22 = 0 then some (V21, r11) else (if (V21 (20, u1, 0) 21) = 0 then gz_b2 (x1_draw V21 u1 1000) (fun V26 r27 => (if r27 < r22 then gz_bd (x1_shakes_L165 N Ds Df u1 w2 w5 a1 r11 N V26 0) (fun V30 => gz_let (gz_up V30 (20, u1, 0) 15 ((V30 (20, u1, 0) 15) - r11)) (fun V32 => gz_let (gz_up V32 (40, u1, w2) 1 ((V32 (40, u1, w2) 1) - a1)) (fun V34 => gz_let (gz_up V34 (40, u1, w5) 1 ((V34 (40, u1, w5) 1) + a1)) (fun V36 => gz_let (gz_up V36 (20, u1, 0) 16 ((V36 (20, u1, 0) 16) + 1)) (fun V38 => gz_bd (x1_notes V38 u1 3 (V38 (23, u1, 0) 3) (V38 (23, u1, 0) 2)) (fun V40 => some (V40, 0))))))) else some (V26, r11))) else (if 500 ≤ r22 then gz_bd (x1_shakes_L165 N Ds Df u1 w2 w5 a1 r11 N V21 0) (fun V43 => gz_let (gz_up V43 (20, u1, 0) 15 ((V43 (20, u1, 0) 15) - r11)) (fun V45 => gz_let (gz_up V45 (40, u1, w2) 1 ((V45 (40, u1, w2) 1) - a1)) (fun V47 => gz_let (gz_up V47 (40, u1, w5) 1 ((V47 (40, u1, w5) 1) + a1)) (fun V49 => gz_let (gz_up V49 (20, u1, 0) 16 ((V49 (20, u1, 0) 16) + 1)) (fun V51 => gz_bd (x1_notes V51 u1 3 (V51 (23, u1, 0) 3) (V51 (23, u1, 0) 2)) (fun V53 => some (V53, 0))))))) else some (V21, r11)))))))))))))))
theorem c_x1_shakes {l : Launch} {D : va_G} {aC : Nat → ClassId} {ad : gz_A0} {N : Nat} {Ds : gz_S} {Df : gz_R} {V : gz_V} {u1 : Nat} {a1 : Int32} {W1 : gz_V} {r : Int32} (hu1 : u1 < 9) (h : x1_shakes N Ds Df V u1 a1 = some (W1, r)) : gz_Met l yX1_shakes cX1_shakes 7 (some .int) rm_x1_shakes D aC ad (xw_s Ds) V (xw_c Df) [.ref (ad (20, u1, 0)), .int a1] (gz_F1 (xw_s Ds) (xw_c Df) ad W1 (some (.int r))) 0 0 := by
  refine gu_ofW (own := RX1) (mn := "shakes") (lv := [(0, .ref (ad (20, u1, 0))), (1, .int a1)]) (by decide) rfl rfl (Nat.le_of_ble_eq_true rfl) rfl ?_
  intro X hX hZ hF
  rw [x1_shakes] at h
  refine gz_aload_n (q := 0) hX dX1_shakes_0 rfl rfl ?_
  refine xg_X1_11 (n2 := (21, u1, 0)) hX (xs_M hu1) rfl dX1_shakes_1 ?_
  refine gz_aload_n (q := 0) hX dX1_shakes_4 rfl rfl ?_
  refine xg_X1_26 (n2 := (23, u1, 0)) hX (xs_M hu1) rfl dX1_shakes_5 ?_
  refine xg_X1_210 hX (xs_G hu1) dX1_shakes_8 ?_
  obtain ⟨b1, h⟩ := gz_gd_o h
  refine gz_aald (L := 12) (t := 110) (t0 := 3) (ty := (.object "ClaspedFair$Person")) (n2 := (40, u1, (V (23, u1, 0) 2).toNatClampNeg)) hX (by decide) (by decide) (fun _ => rfl) rfl (xs_PA hu1) (gz_inb_o b1) (xr_PA (gz_inb_lt b1)) dX1_shakes_11 ?_
  obtain ⟨w2, e3, h⟩ := gz_let_o h
  refine gz_nmr (congrArg (fun z_ => ((40, u1, z_) : gz_N)) e3) ?_
  refine gz_astore_n (lv2 := [(2, .ref (ad (40, u1, w2))), (0, .ref (ad (20, u1, 0))), (1, .int a1)]) hX dX1_shakes_12 rfl (by decide) rfl ?_
  refine gz_aload_n (q := 1) hX dX1_shakes_13 rfl rfl ?_
  refine xg_X1_11 (n2 := (21, u1, 0)) hX (xs_M hu1) rfl dX1_shakes_14 ?_
  refine gz_aload_n (q := 1) hX dX1_shakes_17 rfl rfl ?_
  refine xg_X1_26 (n2 := (23, u1, 0)) hX (xs_M hu1) rfl dX1_shakes_18 ?_
  refine xg_X1_213 hX (xs_G hu1) dX1_shakes_21 ?_
  obtain ⟨b4, h⟩ := gz_gd_o h
  refine gz_aald (L := 12) (t := 110) (t0 := 3) (ty := (.object "ClaspedFair$Person")) (n2 := (40, u1, (V (23, u1, 0) 3).toNatClampNeg)) hX (by decide) (by decide) (fun _ => rfl) rfl (xs_PA hu1) (gz_inb_o b4) (xr_PA (gz_inb_lt b4)) dX1_shakes_24 ?_
  obtain ⟨w5, e6, h⟩ := gz_let_o h
  refine gz_nmr (congrArg (fun z_ => ((40, u1, z_) : gz_N)) e6) ?_
  refine gz_astore_n (lv2 := [(3, .ref (ad (40, u1, w5))), (2, .ref (ad (40, u1, w2))), (0, .ref (ad (20, u1, 0))), (1, .int a1)]) hX dX1_shakes_25 rfl (by decide) rfl ?_
  refine gz_aload_n (q := 1) hX dX1_shakes_26 rfl rfl ?_
  refine xg_X1_193 hX (xs_P hu1 (e3 ▸ (gz_inb_lt b1))) dX1_shakes_27 ?_
  refine gz_iconst (v := 1) hX dX1_shakes_30 gl_c_1 ?_
  refine gz_icmp_eq (tgt := 42) hX dX1_shakes_31 (by decide) (fun c7 => ?_) (fun c7 => ?_)
  · have h := gz_ifp c7 h
    refine gz_iconst (v := 0) hX dX1_shakes_42 gl_c_0 ?_
    obtain ⟨e_V, e_r⟩ := gz_in2 h
    exact gu_iret hX hZ hF e_V rfl e_r dX1_shakes_43
  · have h := gz_ifn c7 h
    refine gz_aload_n (q := 0) hX dX1_shakes_34 rfl rfl ?_
    refine xg_X1_193 hX (xs_P hu1 (e6 ▸ (gz_inb_lt b4))) dX1_shakes_35 ?_
    refine gz_iconst (v := 1) hX dX1_shakes_38 gl_c_1 ?_
    refine gz_icmp_ne (tgt := 44) hX dX1_shakes_39 (by decide) (fun c8 => ?_) (fun c8 => ?_)
    · have h := gz_ifn c8 h
      refine gz_iconst (v := 0) hX dX1_shakes_44 gl_c_0 ?_
      refine gz_istore (lv2 := [(4, .int 0), (3, .ref (ad (40, u1, w5))), (2, .ref (ad (40, u1, w2))), (0, .ref (ad (20, u1, 0))), (1, .int a1)]) hX dX1_shakes_45 (by decide) rfl ?_
      obtain ⟨V9, e10, h⟩ := gz_bd_o h
      refine gz_lv [3, 4, 2, 1, 0] rfl (w_x1_shakes_L47 hX hZ hu1 (e3 ▸ (gz_inb_lt b1)) (e6 ▸ (gz_inb_lt b4)) ?_ N e10)
      refine gz_aload_n (q := 0) hX dX1_shakes_65 rfl rfl ?_
      refine xg_X1_26 (n2 := (23, u1, 0)) hX (xs_M hu1) rfl dX1_shakes_66 ?_
      obtain ⟨r11, e12, h⟩ := gz_bd_o h
      refine gu_callV (ci := 2) (n := (23, u1, 0)) (As := []) hX (c_x2_all hu1 e12) (lw_x2_all_ q1183) rfl rfl nn_x2_all ⟨Nat.le_of_ble_eq_true rfl, Nat.le_of_ble_eq_true rfl⟩ ⟨Nat.zero_le _, Nat.zero_le _⟩ (by decide) rfl (xs_G hu1) rfl rfl (Nat.le_of_ble_eq_true rfl) dX1_shakes_69 rfl ?_
      refine gz_istore (lv2 := [(4, .int r11), (0, .ref (ad (20, u1, 0))), (1, .int a1), (2, .ref (ad (40, u1, w2))), (3, .ref (ad (40, u1, w5)))]) hX dX1_shakes_72 (by decide) rfl ?_
      refine gz_aload_n (q := 1) hX dX1_shakes_74 rfl rfl ?_
      refine gz_dupa hX dX1_shakes_75 ?_
      refine xg_X1_82 hX (xs_M hu1) dX1_shakes_76 ?_
      refine gz_iload (q := 0) hX dX1_shakes_79 rfl ?_
      refine gz_iadd hX dX1_shakes_81 ?_
      obtain ⟨V13, e14, h⟩ := gz_let_o h
      refine xp_X1_82 hX (xs_M hu1) (gz_ne0 19 rfl) dX1_shakes_82 e14 ?_
      refine gz_iload (q := 0) hX dX1_shakes_85 rfl ?_
      obtain ⟨V15, g16, h⟩ := gz_bd_o h
      have J17 : gW X 7 (xw_s Ds) (xw_c Df) ad V15 0 0 104 [(0, .ref (ad (20, u1, 0))), (1, .int a1), (2, .ref (ad (40, u1, w2))), (3, .ref (ad (40, u1, w5))), (4, .int r11)] [] := by
        refine gz_aload_n (q := 0) hX dX1_shakes_104 rfl rfl ?_
        refine gz_aload_n (q := 0) hX dX1_shakes_105 rfl rfl ?_
        refine xg_X1_26 (n2 := (23, u1, 0)) hX (xs_M hu1) rfl dX1_shakes_106 ?_
        refine xg_X1_213 hX (xs_G hu1) dX1_shakes_109 ?_
        refine gz_aload_n (q := 0) hX dX1_shakes_112 rfl rfl ?_
        refine xg_X1_26 (n2 := (23, u1, 0)) hX (xs_M hu1) rfl dX1_shakes_113 ?_
        refine xg_X1_210 hX (xs_G hu1) dX1_shakes_116 ?_
        obtain ⟨V21, r22, e23, h⟩ := gz_b2_o h
        refine gu_callV (ci := 1) (n := (20, u1, 0)) (As := [.int (V15 (23, u1, 0) 3), .int (V15 (23, u1, 0) 2)]) hX (c_x1_holds hu1 e23) (lw_x1_holds_ q1187) rfl rfl nn_x1_holds ⟨Nat.le_of_ble_eq_true rfl, Nat.le_of_ble_eq_true rfl⟩ ⟨Nat.zero_le _, Nat.zero_le _⟩ (by decide) rfl (xs_M hu1) rfl rfl (Nat.le_of_ble_eq_true rfl) dX1_shakes_119 rfl ?_
        refine gz_istore (lv2 := [(5, .int r22), (0, .ref (ad (20, u1, 0))), (1, .int a1), (2, .ref (ad (40, u1, w2))), (3, .ref (ad (40, u1, w5))), (4, .int r11)]) hX dX1_shakes_122 (by decide) rfl ?_
        refine gz_iload (q := 0) hX dX1_shakes_124 rfl ?_
        refine gz_if_eq (tgt := 159) hX dX1_shakes_126 (by decide) (fun c24 => ?_) (fun c24 => ?_)
        · have h := gz_ifp c24 h
          refine gz_iload (q := 5) hX dX1_shakes_159 rfl ?_
          obtain ⟨e_V, e_r⟩ := gz_in2 h
          exact gu_iret hX hZ hF e_V rfl e_r dX1_shakes_161
        · have h := gz_ifn c24 h
          refine gz_aload_n (q := 1) hX dX1_shakes_129 rfl rfl ?_
          refine xg_X1_119 hX (xs_M hu1) dX1_shakes_130 ?_
          refine gz_if_eq (tgt := 147) hX dX1_shakes_133 (by decide) (fun c25 => ?_) (fun c25 => ?_)
          · have h := gz_ifp c25 h
            refine gz_aload_n (q := 1) hX dX1_shakes_147 rfl rfl ?_
            refine gz_sipush (v := 1000) hX dX1_shakes_148 gl_s_1000 ?_
            obtain ⟨V26, r27, e28, h⟩ := gz_b2_o h
            refine gu_callV (ci := 1) (n := (20, u1, 0)) (As := [.int 1000]) hX (c_x1_draw hu1 e28) (lw_x1_draw_ q1191) rfl rfl nn_x1_draw ⟨Nat.le_of_ble_eq_true rfl, Nat.le_of_ble_eq_true rfl⟩ ⟨Nat.zero_le _, Nat.zero_le _⟩ (by decide) rfl (xs_M hu1) rfl rfl (Nat.le_of_ble_eq_true rfl) dX1_shakes_151 rfl ?_
            refine gz_iload (q := 0) hX dX1_shakes_154 rfl ?_
            refine gz_icmp_lt (tgt := 162) hX dX1_shakes_156 (by decide) (fun c29 => ?_) (fun c29 => ?_)
            · have h := gz_ifp c29 h
              refine gz_iconst (v := 0) hX dX1_shakes_162 gl_c_0 ?_
              refine gz_istore (lv2 := [(6, .int 0), (5, .int r22), (0, .ref (ad (20, u1, 0))), (1, .int a1), (2, .ref (ad (40, u1, w2))), (3, .ref (ad (40, u1, w5))), (4, .int r11)]) hX dX1_shakes_163 (by decide) rfl ?_
              obtain ⟨V30, e31, h⟩ := gz_bd_o h
              refine gz_lv [2, 3, 4, 5, 6, 0] rfl (w_x1_shakes_L165 hX hZ hu1 (e3 ▸ (gz_inb_lt b1)) (e6 ▸ (gz_inb_lt b4)) ?_ N e31)
              refine gz_aload_n (q := 0) hX dX1_shakes_184 rfl rfl ?_
              refine gz_dupa hX dX1_shakes_185 ?_
              refine xg_X1_82 hX (xs_M hu1) dX1_shakes_186 ?_
              refine gz_iload (q := 4) hX dX1_shakes_189 rfl ?_
              refine gz_isub hX dX1_shakes_191 ?_
              obtain ⟨V32, e33, h⟩ := gz_let_o h
              refine xp_X1_82 hX (xs_M hu1) (gz_ne0 19 rfl) dX1_shakes_192 e33 ?_
              refine gz_aload_n (q := 2) hX dX1_shakes_195 rfl rfl ?_
              refine gz_dupa hX dX1_shakes_196 ?_
              refine xg_X1_156 hX (xs_P hu1 (e3 ▸ (gz_inb_lt b1))) dX1_shakes_197 ?_
              refine gz_iload_n (q := 1) hX dX1_shakes_200 rfl rfl ?_
              refine gz_isub hX dX1_shakes_201 ?_
              obtain ⟨V34, e35, h⟩ := gz_let_o h
              refine xp_X1_156 hX (xs_P hu1 (e3 ▸ (gz_inb_lt b1))) (gz_ne0 39 rfl) dX1_shakes_202 e35 ?_
              refine gz_aload_n (q := 3) hX dX1_shakes_205 rfl rfl ?_
              refine gz_dupa hX dX1_shakes_206 ?_
              refine xg_X1_156 hX (xs_P hu1 (e6 ▸ (gz_inb_lt b4))) dX1_shakes_207 ?_
              refine gz_iload_n (q := 1) hX dX1_shakes_210 rfl rfl ?_
              refine gz_iadd hX dX1_shakes_211 ?_
              obtain ⟨V36, e37, h⟩ := gz_let_o h
              refine xp_X1_156 hX (xs_P hu1 (e6 ▸ (gz_inb_lt b4))) (gz_ne0 39 rfl) dX1_shakes_212 e37 ?_
              refine gz_aload_n (q := 0) hX dX1_shakes_215 rfl rfl ?_
              refine gz_dupa hX dX1_shakes_216 ?_
              refine xg_X1_86 hX (xs_M hu1) dX1_shakes_217 ?_
              refine gz_iconst (v := 1) hX dX1_shakes_220 gl_c_1 ?_
              refine gz_iadd hX dX1_shakes_221 ?_
              obtain ⟨V38, e39, h⟩ := gz_let_o h
              refine xp_X1_86 hX (xs_M hu1) (gz_ne0 19 rfl) dX1_shakes_222 e39 ?_
              refine gz_aload_n (q := 0) hX dX1_shakes_225 rfl rfl ?_
              refine gz_iconst (v := 3) hX dX1_shakes_226 gl_c_3 ?_
              refine gz_aload_n (q := 0) hX dX1_shakes_227 rfl rfl ?_
              refine xg_X1_26 (n2 := (23, u1, 0)) hX (xs_M hu1) rfl dX1_shakes_228 ?_
              refine xg_X1_213 hX (xs_G hu1) dX1_shakes_231 ?_
              refine gz_aload_n (q := 0) hX dX1_shakes_234 rfl rfl ?_
              refine xg_X1_26 (n2 := (23, u1, 0)) hX (xs_M hu1) rfl dX1_shakes_235 ?_
              refine xg_X1_210 hX (xs_G hu1) dX1_shakes_238 ?_
              obtain ⟨V40, e41, h⟩ := gz_bd_o h
              refine gu_callV (ci := 1) (n := (20, u1, 0)) (As := [.int 3, .int (V38 (23, u1, 0) 3), .int (V38 (23, u1, 0) 2)]) hX (c_x1_notes hu1 e41) (lw_x1_notes_ q1163) rfl rfl nn_x1_notes ⟨Nat.le_of_ble_eq_true rfl, Nat.le_of_ble_eq_true rfl⟩ ⟨Nat.zero_le _, Nat.zero_le _⟩ (by decide) rfl (xs_M hu1) rfl rfl (Nat.le_of_ble_eq_true rfl) dX1_shakes_241 rfl ?_
              refine gz_iconst (v := 0) hX dX1_shakes_244 gl_c_0 ?_
              obtain ⟨e_V, e_r⟩ := gz_in2 h
              exact gu_iret hX hZ hF e_V rfl e_r dX1_shakes_245
            · have h := gz_ifn c29 h
              refine gz_iload (q := 5) hX dX1_shakes_159 rfl ?_
              obtain ⟨e_V, e_r⟩ := gz_in2 h
              exact gu_iret hX hZ hF e_V rfl e_r dX1_shakes_161
          · have h := gz_ifn c25 h
            refine gz_iload (q := 0) hX dX1_shakes_136 rfl ?_
            refine gz_sipush (v := 500) hX dX1_shakes_138 gl_s_500 ?_
            refine gz_icmp_ge (tgt := 162) hX dX1_shakes_141 (by decide) (fun c42 => ?_) (fun c42 => ?_)
            · have h := gz_ifp c42 h
              refine gz_iconst (v := 0) hX dX1_shakes_162 gl_c_0 ?_
              refine gz_istore (lv2 := [(6, .int 0), (5, .int r22), (0, .ref (ad (20, u1, 0))), (1, .int a1), (2, .ref (ad (40, u1, w2))), (3, .ref (ad (40, u1, w5))), (4, .int r11)]) hX dX1_shakes_163 (by decide) rfl ?_
              obtain ⟨V43, e44, h⟩ := gz_bd_o h
              refine gz_lv [2, 3, 4, 5, 6, 0] rfl (w_x1_shakes_L165 hX hZ hu1 (e3 ▸ (gz_inb_lt b1)) (e6 ▸ (gz_inb_lt b4)) ?_ N e44)
              refine gz_aload_n (q := 0) hX dX1_shakes_184 rfl rfl ?_
              refine gz_dupa hX dX1_shakes_185 ?_
              refine xg_X1_82 hX (xs_M hu1) dX1_shakes_186 ?_
              refine gz_iload (q := 4) hX dX1_shakes_189 rfl ?_
              refine gz_isub hX dX1_shakes_191 ?_
              obtain ⟨V45, e46, h⟩ := gz_let_o h
              refine xp_X1_82 hX (xs_M hu1) (gz_ne0 19 rfl) dX1_shakes_192 e46 ?_
              refine gz_aload_n (q := 2) hX dX1_shakes_195 rfl rfl ?_
              refine gz_dupa hX dX1_shakes_196 ?_
              refine xg_X1_156 hX (xs_P hu1 (e3 ▸ (gz_inb_lt b1))) dX1_shakes_197 ?_
              refine gz_iload_n (q := 1) hX dX1_shakes_200 rfl rfl ?_
              refine gz_isub hX dX1_shakes_201 ?_
              obtain ⟨V47, e48, h⟩ := gz_let_o h
              refine xp_X1_156 hX (xs_P hu1 (e3 ▸ (gz_inb_lt b1))) (gz_ne0 39 rfl) dX1_shakes_202 e48 ?_
              refine gz_aload_n (q := 3) hX dX1_shakes_205 rfl rfl ?_
              refine gz_dupa hX dX1_shakes_206 ?_
              refine xg_X1_156 hX (xs_P hu1 (e6 ▸ (gz_inb_lt b4))) dX1_shakes_207 ?_
              refine gz_iload_n (q := 1) hX dX1_shakes_210 rfl rfl ?_
              refine gz_iadd hX dX1_shakes_211 ?_
              obtain ⟨V49, e50, h⟩ := gz_let_o h
              refine xp_X1_156 hX (xs_P hu1 (e6 ▸ (gz_inb_lt b4))) (gz_ne0 39 rfl) dX1_shakes_212 e50 ?_
              refine gz_aload_n (q := 0) hX dX1_shakes_215 rfl rfl ?_
              refine gz_dupa hX dX1_shakes_216 ?_
              refine xg_X1_86 hX (xs_M hu1) dX1_shakes_217 ?_
              refine gz_iconst (v := 1) hX dX1_shakes_220 gl_c_1 ?_
              refine gz_iadd hX dX1_shakes_221 ?_
              obtain ⟨V51, e52, h⟩ := gz_let_o h
              refine xp_X1_86 hX (xs_M hu1) (gz_ne0 19 rfl) dX1_shakes_222 e52 ?_
              refine gz_aload_n (q := 0) hX dX1_shakes_225 rfl rfl ?_
              refine gz_iconst (v := 3) hX dX1_shakes_226 gl_c_3 ?_
              refine gz_aload_n (q := 0) hX dX1_shakes_227 rfl rfl ?_
              refine xg_X1_26 (n2 := (23, u1, 0)) hX (xs_M hu1) rfl dX1_shakes_228 ?_
              refine xg_X1_213 hX (xs_G hu1) dX1_shakes_231 ?_
              refine gz_aload_n (q := 0) hX dX1_shakes_234 rfl rfl ?_
              refine xg_X1_26 (n2 := (23, u1, 0)) hX (xs_M hu1) rfl dX1_shakes_235 ?_
              refine xg_X1_210 hX (xs_G hu1) dX1_shakes_238 ?_
              obtain ⟨V53, e54, h⟩ := gz_bd_o h
              refine gu_callV (ci := 1) (n := (20, u1, 0)) (As := [.int 3, .int (V51 (23, u1, 0) 3), .int (V51 (23, u1, 0) 2)]) hX (c_x1_notes hu1 e54) (lw_x1_notes_ q1163) rfl rfl nn_x1_notes ⟨Nat.le_of_ble_eq_true rfl, Nat.le_of_ble_eq_true rfl⟩ ⟨Nat.zero_le _, Nat.zero_le _⟩ (by decide) rfl (xs_M hu1) rfl rfl (Nat.le_of_ble_eq_true rfl) dX1_shakes_241 rfl ?_
              refine gz_iconst (v := 0) hX dX1_shakes_244 gl_c_0 ?_
              obtain ⟨e_V, e_r⟩ := gz_in2 h
              exact gu_iret hX hZ hF e_V rfl e_r dX1_shakes_245
            · have h := gz_ifn c42 h
              refine gz_goto (tgt := 159) hX dX1_shakes_144 (by decide) ?_
              refine gz_iload (q := 5) hX dX1_shakes_159 rfl ?_
              obtain ⟨e_V, e_r⟩ := gz_in2 h
              exact gu_iret hX hZ hF e_V rfl e_r dX1_shakes_161
      refine gz_if_le (tgt := 104) hX dX1_shakes_87 (by decide) (fun c18 => ?_) (fun c18 => ?_)
      · have g16 := gz_ifp c18 g16
        obtain rfl := gz_in1 g16
        exact gz_lv [1, 2, 3, 4, 0] rfl J17
      · have g16 := gz_ifn c18 g16
        refine gz_aload_n (q := 1) hX dX1_shakes_90 rfl rfl ?_
        refine gz_iconst (v := 2) hX dX1_shakes_91 gl_c_2 ?_
        refine gz_aload_n (q := 1) hX dX1_shakes_92 rfl rfl ?_
        refine xg_X1_26 (n2 := (23, u1, 0)) hX (xs_M hu1) rfl dX1_shakes_93 ?_
        refine xg_X1_210 hX (xs_G hu1) dX1_shakes_96 ?_
        refine gz_iload (q := 0) hX dX1_shakes_99 rfl ?_
        obtain ⟨V19, e20, g16⟩ := gz_bd_o g16
        refine gu_callV (ci := 1) (n := (20, u1, 0)) (As := [.int 2, .int (V13 (23, u1, 0) 2), .int r11]) hX (c_x1_notes hu1 e20) (lw_x1_notes_ q1163) rfl rfl nn_x1_notes ⟨Nat.le_of_ble_eq_true rfl, Nat.le_of_ble_eq_true rfl⟩ ⟨Nat.zero_le _, Nat.zero_le _⟩ (by decide) rfl (xs_M hu1) rfl rfl (Nat.le_of_ble_eq_true rfl) dX1_shakes_101 rfl ?_
        obtain rfl := gz_in1 g16
        exact gz_lv [1, 2, 3, 4, 0] rfl J17
    · have h := gz_ifp c8 h
      refine gz_iconst (v := 0) hX dX1_shakes_42 gl_c_0 ?_
      obtain ⟨e_V, e_r⟩ := gz_in2 h
      exact gu_iret hX hZ hF e_V rfl e_r dX1_shakes_43
theorem lw_x1_shakes_ {o : String} {i : Nat} (hl : Cond.methodLink o i yX1_shakes ∈ lw_all) : GoodIn lw_all (wsV o i RX1 yX1_shakes (ws_ yX1_shakes cX1_shakes 7 (some .int))) := lw_V hl q1169 qs39 q145 q1170
theorem nn_x1_shakes : yX1_shakes.cls = RX1 ∧ yX1_shakes.cls ≠ "java/lang/invoke/MethodHandle" ∧ yX1_shakes.cls ≠ "java/lang/invoke/VarHandle" ∧ (parseMethodDescriptor yX1_shakes.desc).map (fun d => d.parameters.length) = some 1 := by decide +kernel
def rm_x1_buys : Room := { frames := 417, cells := 0, slots := 0, locals := 9625 }
noncomputable def x1_buys (N : Nat) (Ds : gz_S) (Df : gz_R) (V : gz_V) (u1 : Nat) (a1 : Int32) : Option (gz_V × Int32) := gz_gd (gz_inb (V (23, u1, 0) 2) 12 = true) (gz_let ((V (23, u1, 0) 2).toNatClampNeg) (fun w2 => gz_gd (gz_inb (V (23, u1, 0) 3) 12 = true) (gz_let ((V (23, u1, 0) 3).toNatClampNeg) (fun w5 => gz_let (gz_up V (40, u1, w2) 3 ((V (40, u1, w2) 3) + 1)) (fun V7 => gz_let (gz_up V7 (40, u1, w5) 3 ((V7 (40, u1, w5) 3) + 1)) (fun V9 => gz_let ((gz_min (V9 (23, u1, 0) 5) (9999 - (V9 (40, u1, w2) 1)))) (fun x11 => gz_let (gz_up V9 (40, u1, w2) 1 ((V9 (40, u1, w2) 1) + x11)) (fun V13 => gz_let (gz_up V13 (40, u1, w5) 1 ((V13 (40, u1, w5) 1) - (V13 (23, u1, 0) 5))) (fun V15 => gz_gd (gz_inb a1 10 = true) (gz_let (gz_up V15 (42, u1, a1.toNatClampNeg) 0 (V15 (23, u1, 0) 3)) (fun V18 => gz_gd (gz_inb a1 10 = true) (gz_let (gz_up V18 (42, u1, a1.toNatClampNeg) 3 ((V18 (42, u1, a1.toNatClampNeg) 3) + 1)) (fun V21 => gz_bd (x1_notes V21 u1 0 (V21 (23, u1, 0) 3) (V21 (23, u1, 0) 5)) (fun V23 => gz_b2 (x1_shakes N Ds Df V23 u1 x11) (fun V25 r26 => some (V25, r26))))))))))))))))
theorem c_x1_buys {l : Launch} {D : va_G} {aC : Nat → ClassId} {ad : gz_A0} {N : Nat} {Ds : gz_S} {Df : gz_R} {V : gz_V} {u1 : Nat} {a1 : Int32} {W1 : gz_V} {r : Int32} (hu1 : u1 < 9) (h : x1_buys N Ds Df V u1 a1 = some (W1, r)) : gz_Met l yX1_buys cX1_buys 5 (some .int) rm_x1_buys D aC ad (xw_s Ds) V (xw_c Df) [.ref (ad (20, u1, 0)), .int a1] (gz_F1 (xw_s Ds) (xw_c Df) ad W1 (some (.int r))) 0 0 := by
  refine gu_ofW (own := RX1) (mn := "buys") (lv := [(0, .ref (ad (20, u1, 0))), (1, .int a1)]) (by decide) rfl rfl (Nat.le_of_ble_eq_true rfl) rfl ?_
  intro X hX hZ hF
  rw [x1_buys] at h
  refine gz_aload_n (q := 0) hX dX1_buys_0 rfl rfl ?_
  refine xg_X1_11 (n2 := (21, u1, 0)) hX (xs_M hu1) rfl dX1_buys_1 ?_
  refine gz_aload_n (q := 0) hX dX1_buys_4 rfl rfl ?_
  refine xg_X1_26 (n2 := (23, u1, 0)) hX (xs_M hu1) rfl dX1_buys_5 ?_
  refine xg_X1_210 hX (xs_G hu1) dX1_buys_8 ?_
  obtain ⟨b1, h⟩ := gz_gd_o h
  refine gz_aald (L := 12) (t := 110) (t0 := 3) (ty := (.object "ClaspedFair$Person")) (n2 := (40, u1, (V (23, u1, 0) 2).toNatClampNeg)) hX (by decide) (by decide) (fun _ => rfl) rfl (xs_PA hu1) (gz_inb_o b1) (xr_PA (gz_inb_lt b1)) dX1_buys_11 ?_
  obtain ⟨w2, e3, h⟩ := gz_let_o h
  refine gz_nmr (congrArg (fun z_ => ((40, u1, z_) : gz_N)) e3) ?_
  refine gz_astore_n (lv2 := [(2, .ref (ad (40, u1, w2))), (0, .ref (ad (20, u1, 0))), (1, .int a1)]) hX dX1_buys_12 rfl (by decide) rfl ?_
  refine gz_aload_n (q := 1) hX dX1_buys_13 rfl rfl ?_
  refine xg_X1_11 (n2 := (21, u1, 0)) hX (xs_M hu1) rfl dX1_buys_14 ?_
  refine gz_aload_n (q := 1) hX dX1_buys_17 rfl rfl ?_
  refine xg_X1_26 (n2 := (23, u1, 0)) hX (xs_M hu1) rfl dX1_buys_18 ?_
  refine xg_X1_213 hX (xs_G hu1) dX1_buys_21 ?_
  obtain ⟨b4, h⟩ := gz_gd_o h
  refine gz_aald (L := 12) (t := 110) (t0 := 3) (ty := (.object "ClaspedFair$Person")) (n2 := (40, u1, (V (23, u1, 0) 3).toNatClampNeg)) hX (by decide) (by decide) (fun _ => rfl) rfl (xs_PA hu1) (gz_inb_o b4) (xr_PA (gz_inb_lt b4)) dX1_buys_24 ?_
  obtain ⟨w5, e6, h⟩ := gz_let_o h
  refine gz_nmr (congrArg (fun z_ => ((40, u1, z_) : gz_N)) e6) ?_
  refine gz_astore_n (lv2 := [(3, .ref (ad (40, u1, w5))), (2, .ref (ad (40, u1, w2))), (0, .ref (ad (20, u1, 0))), (1, .int a1)]) hX dX1_buys_25 rfl (by decide) rfl ?_
  refine gz_aload_n (q := 1) hX dX1_buys_26 rfl rfl ?_
  refine gz_dupa hX dX1_buys_27 ?_
  refine xg_X1_153 hX (xs_P hu1 (e3 ▸ (gz_inb_lt b1))) dX1_buys_28 ?_
  refine gz_iconst (v := 1) hX dX1_buys_31 gl_c_1 ?_
  refine gz_iadd hX dX1_buys_32 ?_
  obtain ⟨V7, e8, h⟩ := gz_let_o h
  refine xp_X1_153 hX (xs_P hu1 (e3 ▸ (gz_inb_lt b1))) (gz_ne0 39 rfl) dX1_buys_33 e8 ?_
  refine gz_aload_n (q := 0) hX dX1_buys_36 rfl rfl ?_
  refine gz_dupa hX dX1_buys_37 ?_
  refine xg_X1_153 hX (xs_P hu1 (e6 ▸ (gz_inb_lt b4))) dX1_buys_38 ?_
  refine gz_iconst (v := 1) hX dX1_buys_41 gl_c_1 ?_
  refine gz_iadd hX dX1_buys_42 ?_
  obtain ⟨V9, e10, h⟩ := gz_let_o h
  refine xp_X1_153 hX (xs_P hu1 (e6 ▸ (gz_inb_lt b4))) (gz_ne0 39 rfl) dX1_buys_43 e10 ?_
  refine gz_aload_n (q := 2) hX dX1_buys_46 rfl rfl ?_
  refine xg_X1_26 (n2 := (23, u1, 0)) hX (xs_M hu1) rfl dX1_buys_47 ?_
  refine xg_X1_144 hX (xs_G hu1) dX1_buys_50 ?_
  refine gz_sipush (v := 9999) hX dX1_buys_53 gl_s_9999 ?_
  refine gz_aload_n (q := 1) hX dX1_buys_56 rfl rfl ?_
  refine xg_X1_156 hX (xs_P hu1 (e3 ▸ (gz_inb_lt b1))) dX1_buys_57 ?_
  refine gz_isub hX dX1_buys_60 ?_
  refine gz_mmin hX q1162 q906 q156 q907 ⟨Nat.le_of_ble_eq_true rfl, Nat.le_of_ble_eq_true rfl, Nat.zero_le _, Nat.zero_le _⟩ (Nat.le_of_ble_eq_true rfl) dX1_buys_61 ?_
  obtain ⟨x11, e12, h⟩ := gz_let_o h
  refine gz_nm e12 ?_
  refine gz_istore (lv2 := [(4, .int x11), (3, .ref (ad (40, u1, w5))), (2, .ref (ad (40, u1, w2))), (0, .ref (ad (20, u1, 0))), (1, .int a1)]) hX dX1_buys_64 (by decide) rfl ?_
  refine gz_aload_n (q := 2) hX dX1_buys_66 rfl rfl ?_
  refine gz_dupa hX dX1_buys_67 ?_
  refine xg_X1_156 hX (xs_P hu1 (e3 ▸ (gz_inb_lt b1))) dX1_buys_68 ?_
  refine gz_iload (q := 0) hX dX1_buys_71 rfl ?_
  refine gz_iadd hX dX1_buys_73 ?_
  obtain ⟨V13, e14, h⟩ := gz_let_o h
  refine xp_X1_156 hX (xs_P hu1 (e3 ▸ (gz_inb_lt b1))) (gz_ne0 39 rfl) dX1_buys_74 e14 ?_
  refine gz_aload_n (q := 1) hX dX1_buys_77 rfl rfl ?_
  refine gz_dupa hX dX1_buys_78 ?_
  refine xg_X1_156 hX (xs_P hu1 (e6 ▸ (gz_inb_lt b4))) dX1_buys_79 ?_
  refine gz_aload_n (q := 3) hX dX1_buys_82 rfl rfl ?_
  refine xg_X1_26 (n2 := (23, u1, 0)) hX (xs_M hu1) rfl dX1_buys_83 ?_
  refine xg_X1_144 hX (xs_G hu1) dX1_buys_86 ?_
  refine gz_isub hX dX1_buys_89 ?_
  obtain ⟨V15, e16, h⟩ := gz_let_o h
  refine xp_X1_156 hX (xs_P hu1 (e6 ▸ (gz_inb_lt b4))) (gz_ne0 39 rfl) dX1_buys_90 e16 ?_
  refine gz_aload_n (q := 3) hX dX1_buys_93 rfl rfl ?_
  refine xg_X1_19 (n2 := (22, u1, 0)) hX (xs_M hu1) rfl dX1_buys_94 ?_
  refine gz_iload_n (q := 4) hX dX1_buys_97 rfl rfl ?_
  obtain ⟨b17, h⟩ := gz_gd_o h
  refine gz_aald (L := 10) (t := 111) (t0 := 4) (ty := (.object "ClaspedFair$Horse")) (n2 := (42, u1, a1.toNatClampNeg)) hX (by decide) (by decide) (fun _ => rfl) rfl (xs_HA hu1) (gz_inb_o b17) (xr_HA (gz_inb_lt b17)) dX1_buys_98 ?_
  refine gz_aload_n (q := 3) hX dX1_buys_99 rfl rfl ?_
  refine xg_X1_26 (n2 := (23, u1, 0)) hX (xs_M hu1) rfl dX1_buys_100 ?_
  refine xg_X1_213 hX (xs_G hu1) dX1_buys_103 ?_
  obtain ⟨V18, e19, h⟩ := gz_let_o h
  refine xp_X1_196 hX (xs_H hu1 (gz_inb_lt b17)) (gz_ne0 41 rfl) dX1_buys_106 e19 ?_
  refine gz_aload_n (q := 3) hX dX1_buys_109 rfl rfl ?_
  refine xg_X1_19 (n2 := (22, u1, 0)) hX (xs_M hu1) rfl dX1_buys_110 ?_
  refine gz_iload_n (q := 4) hX dX1_buys_113 rfl rfl ?_
  obtain ⟨b20, h⟩ := gz_gd_o h
  refine gz_aald (L := 10) (t := 111) (t0 := 4) (ty := (.object "ClaspedFair$Horse")) (n2 := (42, u1, a1.toNatClampNeg)) hX (by decide) (by decide) (fun _ => rfl) rfl (xs_HA hu1) (gz_inb_o b20) (xr_HA (gz_inb_lt b20)) dX1_buys_114 ?_
  refine gz_dupa hX dX1_buys_115 ?_
  refine xg_X1_252 hX (xs_H hu1 (gz_inb_lt b20)) dX1_buys_116 ?_
  refine gz_iconst (v := 1) hX dX1_buys_119 gl_c_1 ?_
  refine gz_iadd hX dX1_buys_120 ?_
  obtain ⟨V21, e22, h⟩ := gz_let_o h
  refine xp_X1_252 hX (xs_H hu1 (gz_inb_lt b20)) (gz_ne0 41 rfl) dX1_buys_121 e22 ?_
  refine gz_aload_n (q := 3) hX dX1_buys_124 rfl rfl ?_
  refine gz_iconst (v := 0) hX dX1_buys_125 gl_c_0 ?_
  refine gz_aload_n (q := 3) hX dX1_buys_126 rfl rfl ?_
  refine xg_X1_26 (n2 := (23, u1, 0)) hX (xs_M hu1) rfl dX1_buys_127 ?_
  refine xg_X1_213 hX (xs_G hu1) dX1_buys_130 ?_
  refine gz_aload_n (q := 3) hX dX1_buys_133 rfl rfl ?_
  refine xg_X1_26 (n2 := (23, u1, 0)) hX (xs_M hu1) rfl dX1_buys_134 ?_
  refine xg_X1_144 hX (xs_G hu1) dX1_buys_137 ?_
  obtain ⟨V23, e24, h⟩ := gz_bd_o h
  refine gu_callV (ci := 1) (n := (20, u1, 0)) (As := [.int 0, .int (V21 (23, u1, 0) 3), .int (V21 (23, u1, 0) 5)]) hX (c_x1_notes hu1 e24) (lw_x1_notes_ q1163) rfl rfl nn_x1_notes ⟨Nat.le_of_ble_eq_true rfl, Nat.le_of_ble_eq_true rfl⟩ ⟨Nat.zero_le _, Nat.zero_le _⟩ (by decide) rfl (xs_M hu1) rfl rfl (Nat.le_of_ble_eq_true rfl) dX1_buys_140 rfl ?_
  refine gz_aload_n (q := 3) hX dX1_buys_143 rfl rfl ?_
  refine gz_iload (q := 0) hX dX1_buys_144 rfl ?_
  obtain ⟨V25, r26, e27, h⟩ := gz_b2_o h
  refine gu_callV (ci := 1) (n := (20, u1, 0)) (As := [.int x11]) hX (c_x1_shakes hu1 e27) (lw_x1_shakes_ q1167) rfl rfl nn_x1_shakes ⟨Nat.le_of_ble_eq_true rfl, Nat.le_of_ble_eq_true rfl⟩ ⟨Nat.zero_le _, Nat.zero_le _⟩ (by decide) rfl (xs_M hu1) rfl rfl (Nat.le_of_ble_eq_true rfl) dX1_buys_146 rfl ?_
  obtain ⟨e_V, e_r⟩ := gz_in2 h
  exact gu_iret hX hZ hF e_V rfl e_r dX1_buys_149
theorem lw_x1_buys_ {o : String} {i : Nat} (hl : Cond.methodLink o i yX1_buys ∈ lw_all) : GoodIn lw_all (wsV o i RX1 yX1_buys (ws_ yX1_buys cX1_buys 5 (some .int))) := lw_V hl q1159 q1160 q145 q1161
theorem nn_x1_buys : yX1_buys.cls = RX1 ∧ yX1_buys.cls ≠ "java/lang/invoke/MethodHandle" ∧ yX1_buys.cls ≠ "java/lang/invoke/VarHandle" ∧ (parseMethodDescriptor yX1_buys.desc).map (fun d => d.parameters.length) = some 1 := by decide +kernel
def rm_x0_buys : Room := { frames := 418, cells := 0, slots := 0, locals := 9649 }
noncomputable def x0_buys (N : Nat) (Ds : gz_S) (Df : gz_R) (V : gz_V) (a1 : Int32) (a2 : Int32) (a3 : Int32) (a4 : Int32) : Option (gz_V × gz_R × Int32) := (if (x0_canTell V a1 a2 a3 a4) = 0 then some (V, Df, (-1)) else gz_b2 (x1_canBuy N Ds Df V 0 a1 a2 a3 a4) (fun V2 r3 => (if r3 = 0 then some (V2, Df, (-1)) else gz_b2 (x0_remembers N Ds Df V2) (fun V6 D7 => gz_b2 (x1_buys N Ds D7 V6 0 a2) (fun V9 r10 => some (V9, D7, r10))))))
theorem c_x0_buys {l : Launch} {D : va_G} {aC : Nat → ClassId} {ad : gz_A0} {N : Nat} {Ds : gz_S} {Df : gz_R} {V : gz_V} {a1 : Int32} {a2 : Int32} {a3 : Int32} {a4 : Int32} {W1 : gz_V} {E1 : gz_R} {r : Int32} (h : x0_buys N Ds Df V a1 a2 a3 a4 = some (W1, E1, r)) : gz_Met l yX0_buys cX0_buys 5 (some .int) rm_x0_buys D aC ad (xw_s Ds) V (xw_c Df) [.ref (ad (10, 0, 0)), .int a1, .int a2, .int a3, .int a4] (gz_F1 (xw_s Ds) (xw_c E1) ad W1 (some (.int r))) 0 0 := by
  refine gu_ofW (own := RX0) (mn := "buys") (lv := [(0, .ref (ad (10, 0, 0))), (1, .int a1), (2, .int a2), (3, .int a3), (4, .int a4)]) (by decide) rfl rfl (Nat.le_of_ble_eq_true rfl) rfl ?_
  intro X hX hZ hF
  rw [x0_buys] at h
  refine gz_aload_n (q := 0) hX dX0_buys_0 rfl rfl ?_
  refine gz_iload_n (q := 1) hX dX0_buys_1 rfl rfl ?_
  refine gz_iload_n (q := 2) hX dX0_buys_2 rfl rfl ?_
  refine gz_iload_n (q := 3) hX dX0_buys_3 rfl rfl ?_
  refine gz_iload (q := 4) hX dX0_buys_4 rfl ?_
  refine gu_callV (ci := 0) (n := (10, 0, 0)) (As := [.int a1, .int a2, .int a3, .int a4]) hX (c_x0_canTell rfl) (lw_x0_canTell_ q1080) rfl rfl nn_x0_canTell ⟨Nat.le_of_ble_eq_true rfl, Nat.le_of_ble_eq_true rfl⟩ ⟨Nat.zero_le _, Nat.zero_le _⟩ (by decide) rfl xs_main rfl rfl (Nat.le_of_ble_eq_true rfl) dX0_buys_6 rfl ?_
  refine gz_if_eq (tgt := 27) hX dX0_buys_9 (by decide) (fun c1 => ?_) (fun c1 => ?_)
  · have h := gz_ifp c1 h
    refine gz_iconst (v := (-1)) hX dX0_buys_27 gl_c_m1 ?_
    obtain ⟨e_V, e_D, e_r⟩ := gz_in3 h
    exact gu_iret hX hZ hF e_V (congrArg xw_c e_D) e_r dX0_buys_28
  · have h := gz_ifn c1 h
    refine gz_aload_n (q := 0) hX dX0_buys_12 rfl rfl ?_
    refine xg_X0_20 (n2 := (20, 0, 0)) hX xs_main rfl dX0_buys_13 ?_
    refine gz_iload_n (q := 1) hX dX0_buys_16 rfl rfl ?_
    refine gz_iload_n (q := 2) hX dX0_buys_17 rfl rfl ?_
    refine gz_iload_n (q := 3) hX dX0_buys_18 rfl rfl ?_
    refine gz_iload (q := 4) hX dX0_buys_19 rfl ?_
    obtain ⟨V2, r3, e4, h⟩ := gz_b2_o h
    refine gu_callV (ci := 1) (n := (20, 0, 0)) (As := [.int a1, .int a2, .int a3, .int a4]) hX (c_x1_canBuy (by decide) e4) (lw_x1_canBuy_ q1087) rfl rfl nn_x1_canBuy ⟨Nat.le_of_ble_eq_true rfl, Nat.le_of_ble_eq_true rfl⟩ ⟨Nat.zero_le _, Nat.zero_le _⟩ (by decide) rfl (xs_M (by decide)) rfl rfl (Nat.le_of_ble_eq_true rfl) dX0_buys_21 rfl ?_
    refine gz_if_ne (tgt := 29) hX dX0_buys_24 (by decide) (fun c5 => ?_) (fun c5 => ?_)
    · have h := gz_ifn c5 h
      refine gz_aload_n (q := 0) hX dX0_buys_29 rfl rfl ?_
      obtain ⟨V6, D7, e8, h⟩ := gz_b2_o h
      refine gu_callV (ci := 0) (n := (10, 0, 0)) (As := []) hX (c_x0_remembers e8) (lw_x0_remembers_ q1154) rfl rfl nn_x0_remembers ⟨Nat.le_of_ble_eq_true rfl, Nat.le_of_ble_eq_true rfl⟩ ⟨Nat.zero_le _, Nat.zero_le _⟩ (by decide) rfl xs_main rfl rfl (Nat.le_of_ble_eq_true rfl) dX0_buys_30 rfl ?_
      refine gz_aload_n (q := 0) hX dX0_buys_33 rfl rfl ?_
      refine xg_X0_20 (n2 := (20, 0, 0)) hX xs_main rfl dX0_buys_34 ?_
      refine gz_iload_n (q := 2) hX dX0_buys_37 rfl rfl ?_
      obtain ⟨V9, r10, e11, h⟩ := gz_b2_o h
      refine gu_callV (ci := 1) (n := (20, 0, 0)) (As := [.int a2]) hX (c_x1_buys (by decide) e11) (lw_x1_buys_ q1158) rfl rfl nn_x1_buys ⟨Nat.le_of_ble_eq_true rfl, Nat.le_of_ble_eq_true rfl⟩ ⟨Nat.zero_le _, Nat.zero_le _⟩ (by decide) rfl (xs_M (by decide)) rfl rfl (Nat.le_of_ble_eq_true rfl) dX0_buys_38 rfl ?_
      obtain ⟨e_V, e_D, e_r⟩ := gz_in3 h
      exact gu_iret hX hZ hF e_V (congrArg xw_c e_D) e_r dX0_buys_41
    · have h := gz_ifp c5 h
      refine gz_iconst (v := (-1)) hX dX0_buys_27 gl_c_m1 ?_
      obtain ⟨e_V, e_D, e_r⟩ := gz_in3 h
      exact gu_iret hX hZ hF e_V (congrArg xw_c e_D) e_r dX0_buys_28
theorem lw_x0_buys_ {o : String} {i : Nat} (hl : Cond.methodLink o i yX0_buys ∈ lw_all) : GoodIn lw_all (wsV o i RX0 yX0_buys (ws_ yX0_buys cX0_buys 5 (some .int))) := lw_V hl q1077 q1078 q144 q1079
theorem nn_x0_buys : yX0_buys.cls = RX0 ∧ yX0_buys.cls ≠ "java/lang/invoke/MethodHandle" ∧ yX0_buys.cls ≠ "java/lang/invoke/VarHandle" ∧ (parseMethodDescriptor yX0_buys.desc).map (fun d => d.parameters.length) = some 4 := by decide +kernel
def rm_x1_claspsThem : Room := { frames := 417, cells := 0, slots := 0, locals := 9625 }
noncomputable def x1_claspsThem (N : Nat) (Ds : gz_S) (Df : gz_R) (V : gz_V) (u1 : Nat) : Option (gz_V × Int32) := gz_gd (gz_inb (V (23, u1, 0) 2) 12 = true) (gz_let (gz_up V (40, u1, (V (23, u1, 0) 2).toNatClampNeg) 3 ((V (40, u1, (V (23, u1, 0) 2).toNatClampNeg) 3) + 1)) (fun V2 => gz_gd (gz_inb (V2 (23, u1, 0) 3) 12 = true) (gz_let (gz_up V2 (40, u1, (V2 (23, u1, 0) 3).toNatClampNeg) 3 ((V2 (40, u1, (V2 (23, u1, 0) 3).toNatClampNeg) 3) + 1)) (fun V5 => gz_bd (x1_notes V5 u1 1 (V5 (23, u1, 0) 2) (V5 (23, u1, 0) 3)) (fun V7 => gz_b2 (x1_shakes N Ds Df V7 u1 0) (fun V9 r10 => some (V9, r10)))))))
theorem c_x1_claspsThem {l : Launch} {D : va_G} {aC : Nat → ClassId} {ad : gz_A0} {N : Nat} {Ds : gz_S} {Df : gz_R} {V : gz_V} {u1 : Nat} {W1 : gz_V} {r : Int32} (hu1 : u1 < 9) (h : x1_claspsThem N Ds Df V u1 = some (W1, r)) : gz_Met l yX1_claspsThem cX1_claspsThem 1 (some .int) rm_x1_claspsThem D aC ad (xw_s Ds) V (xw_c Df) [.ref (ad (20, u1, 0))] (gz_F1 (xw_s Ds) (xw_c Df) ad W1 (some (.int r))) 0 0 := by
  refine gu_ofW (own := RX1) (mn := "claspsThem") (lv := [(0, .ref (ad (20, u1, 0)))]) (by decide) rfl rfl (Nat.le_of_ble_eq_true rfl) rfl ?_
  intro X hX hZ hF
  rw [x1_claspsThem] at h
  refine gz_aload_n (q := 0) hX dX1_claspsThem_0 rfl rfl ?_
  refine xg_X1_11 (n2 := (21, u1, 0)) hX (xs_M hu1) rfl dX1_claspsThem_1 ?_
  refine gz_aload_n (q := 0) hX dX1_claspsThem_4 rfl rfl ?_
  refine xg_X1_26 (n2 := (23, u1, 0)) hX (xs_M hu1) rfl dX1_claspsThem_5 ?_
  refine xg_X1_210 hX (xs_G hu1) dX1_claspsThem_8 ?_
  obtain ⟨b1, h⟩ := gz_gd_o h
  refine gz_aald (L := 12) (t := 110) (t0 := 3) (ty := (.object "ClaspedFair$Person")) (n2 := (40, u1, (V (23, u1, 0) 2).toNatClampNeg)) hX (by decide) (by decide) (fun _ => rfl) rfl (xs_PA hu1) (gz_inb_o b1) (xr_PA (gz_inb_lt b1)) dX1_claspsThem_11 ?_
  refine gz_dupa hX dX1_claspsThem_12 ?_
  refine xg_X1_153 hX (xs_P hu1 (gz_inb_lt b1)) dX1_claspsThem_13 ?_
  refine gz_iconst (v := 1) hX dX1_claspsThem_16 gl_c_1 ?_
  refine gz_iadd hX dX1_claspsThem_17 ?_
  obtain ⟨V2, e3, h⟩ := gz_let_o h
  refine xp_X1_153 hX (xs_P hu1 (gz_inb_lt b1)) (gz_ne0 39 rfl) dX1_claspsThem_18 e3 ?_
  refine gz_aload_n (q := 0) hX dX1_claspsThem_21 rfl rfl ?_
  refine xg_X1_11 (n2 := (21, u1, 0)) hX (xs_M hu1) rfl dX1_claspsThem_22 ?_
  refine gz_aload_n (q := 0) hX dX1_claspsThem_25 rfl rfl ?_
  refine xg_X1_26 (n2 := (23, u1, 0)) hX (xs_M hu1) rfl dX1_claspsThem_26 ?_
  refine xg_X1_213 hX (xs_G hu1) dX1_claspsThem_29 ?_
  obtain ⟨b4, h⟩ := gz_gd_o h
  refine gz_aald (L := 12) (t := 110) (t0 := 3) (ty := (.object "ClaspedFair$Person")) (n2 := (40, u1, (V2 (23, u1, 0) 3).toNatClampNeg)) hX (by decide) (by decide) (fun _ => rfl) rfl (xs_PA hu1) (gz_inb_o b4) (xr_PA (gz_inb_lt b4)) dX1_claspsThem_32 ?_
  refine gz_dupa hX dX1_claspsThem_33 ?_
  refine xg_X1_153 hX (xs_P hu1 (gz_inb_lt b4)) dX1_claspsThem_34 ?_
  refine gz_iconst (v := 1) hX dX1_claspsThem_37 gl_c_1 ?_
  refine gz_iadd hX dX1_claspsThem_38 ?_
  obtain ⟨V5, e6, h⟩ := gz_let_o h
  refine xp_X1_153 hX (xs_P hu1 (gz_inb_lt b4)) (gz_ne0 39 rfl) dX1_claspsThem_39 e6 ?_
  refine gz_aload_n (q := 0) hX dX1_claspsThem_42 rfl rfl ?_
  refine gz_iconst (v := 1) hX dX1_claspsThem_43 gl_c_1 ?_
  refine gz_aload_n (q := 0) hX dX1_claspsThem_44 rfl rfl ?_
  refine xg_X1_26 (n2 := (23, u1, 0)) hX (xs_M hu1) rfl dX1_claspsThem_45 ?_
  refine xg_X1_210 hX (xs_G hu1) dX1_claspsThem_48 ?_
  refine gz_aload_n (q := 0) hX dX1_claspsThem_51 rfl rfl ?_
  refine xg_X1_26 (n2 := (23, u1, 0)) hX (xs_M hu1) rfl dX1_claspsThem_52 ?_
  refine xg_X1_213 hX (xs_G hu1) dX1_claspsThem_55 ?_
  obtain ⟨V7, e8, h⟩ := gz_bd_o h
  refine gu_callV (ci := 1) (n := (20, u1, 0)) (As := [.int 1, .int (V5 (23, u1, 0) 2), .int (V5 (23, u1, 0) 3)]) hX (c_x1_notes hu1 e8) (lw_x1_notes_ q1163) rfl rfl nn_x1_notes ⟨Nat.le_of_ble_eq_true rfl, Nat.le_of_ble_eq_true rfl⟩ ⟨Nat.zero_le _, Nat.zero_le _⟩ (by decide) rfl (xs_M hu1) rfl rfl (Nat.le_of_ble_eq_true rfl) dX1_claspsThem_58 rfl ?_
  refine gz_aload_n (q := 0) hX dX1_claspsThem_61 rfl rfl ?_
  refine gz_iconst (v := 0) hX dX1_claspsThem_62 gl_c_0 ?_
  obtain ⟨V9, r10, e11, h⟩ := gz_b2_o h
  refine gu_callV (ci := 1) (n := (20, u1, 0)) (As := [.int 0]) hX (c_x1_shakes hu1 e11) (lw_x1_shakes_ q1167) rfl rfl nn_x1_shakes ⟨Nat.le_of_ble_eq_true rfl, Nat.le_of_ble_eq_true rfl⟩ ⟨Nat.zero_le _, Nat.zero_le _⟩ (by decide) rfl (xs_M hu1) rfl rfl (Nat.le_of_ble_eq_true rfl) dX1_claspsThem_63 rfl ?_
  obtain ⟨e_V, e_r⟩ := gz_in2 h
  exact gu_iret hX hZ hF e_V rfl e_r dX1_claspsThem_66
theorem lw_x1_claspsThem_ {o : String} {i : Nat} (hl : Cond.methodLink o i yX1_claspsThem ∈ lw_all) : GoodIn lw_all (wsV o i RX1 yX1_claspsThem (ws_ yX1_claspsThem cX1_claspsThem 1 (some .int))) := lw_V hl q1206 q1207 q145 q1208
theorem nn_x1_claspsThem : yX1_claspsThem.cls = RX1 ∧ yX1_claspsThem.cls ≠ "java/lang/invoke/MethodHandle" ∧ yX1_claspsThem.cls ≠ "java/lang/invoke/VarHandle" ∧ (parseMethodDescriptor yX1_claspsThem.desc).map (fun d => d.parameters.length) = some 0 := by decide +kernel
def rm_x0_clasp : Room := { frames := 418, cells := 0, slots := 0, locals := 9645 }
noncomputable def x0_clasp (N : Nat) (Ds : gz_S) (Df : gz_R) (V : gz_V) (a1 : Int32) (a2 : Int32) (a3 : Int32) : Option (gz_V × gz_R × Int32) := (if (x0_isPerson V a1) = 0 then some (V, Df, (-1)) else (if (x0_isPerson V a2) = 0 then some (V, Df, (-1)) else (if (x0_isGrip a3) = 0 then some (V, Df, (-1)) else gz_b2 (x1_canClasp V 0 a1 a2 a3) (fun V4 r5 => (if r5 = 0 then some (V4, Df, (-1)) else gz_b2 (x0_remembers N Ds Df V4) (fun V8 D9 => gz_b2 (x1_claspsThem N Ds D9 V8 0) (fun V11 r12 => some (V11, D9, r12))))))))
theorem c_x0_clasp {l : Launch} {D : va_G} {aC : Nat → ClassId} {ad : gz_A0} {N : Nat} {Ds : gz_S} {Df : gz_R} {V : gz_V} {a1 : Int32} {a2 : Int32} {a3 : Int32} {W1 : gz_V} {E1 : gz_R} {r : Int32} (h : x0_clasp N Ds Df V a1 a2 a3 = some (W1, E1, r)) : gz_Met l yX0_clasp cX0_clasp 4 (some .int) rm_x0_clasp D aC ad (xw_s Ds) V (xw_c Df) [.ref (ad (10, 0, 0)), .int a1, .int a2, .int a3] (gz_F1 (xw_s Ds) (xw_c E1) ad W1 (some (.int r))) 0 0 := by
  refine gu_ofW (own := RX0) (mn := "clasp") (lv := [(0, .ref (ad (10, 0, 0))), (1, .int a1), (2, .int a2), (3, .int a3)]) (by decide) rfl rfl (Nat.le_of_ble_eq_true rfl) rfl ?_
  intro X hX hZ hF
  rw [x0_clasp] at h
  refine gz_aload_n (q := 0) hX dX0_clasp_0 rfl rfl ?_
  refine gz_iload_n (q := 1) hX dX0_clasp_1 rfl rfl ?_
  refine gu_callV (ci := 0) (n := (10, 0, 0)) (As := [.int a1]) hX (c_x0_isPerson rfl) (lw_x0_isPerson_ q1059) rfl rfl nn_x0_isPerson ⟨Nat.le_of_ble_eq_true rfl, Nat.le_of_ble_eq_true rfl⟩ ⟨Nat.zero_le _, Nat.zero_le _⟩ (by decide) rfl xs_main rfl rfl (Nat.le_of_ble_eq_true rfl) dX0_clasp_2 rfl ?_
  refine gz_if_eq (tgt := 36) hX dX0_clasp_5 (by decide) (fun c1 => ?_) (fun c1 => ?_)
  · have h := gz_ifp c1 h
    refine gz_iconst (v := (-1)) hX dX0_clasp_36 gl_c_m1 ?_
    obtain ⟨e_V, e_D, e_r⟩ := gz_in3 h
    exact gu_iret hX hZ hF e_V (congrArg xw_c e_D) e_r dX0_clasp_37
  · have h := gz_ifn c1 h
    refine gz_aload_n (q := 0) hX dX0_clasp_8 rfl rfl ?_
    refine gz_iload_n (q := 2) hX dX0_clasp_9 rfl rfl ?_
    refine gu_callV (ci := 0) (n := (10, 0, 0)) (As := [.int a2]) hX (c_x0_isPerson rfl) (lw_x0_isPerson_ q1059) rfl rfl nn_x0_isPerson ⟨Nat.le_of_ble_eq_true rfl, Nat.le_of_ble_eq_true rfl⟩ ⟨Nat.zero_le _, Nat.zero_le _⟩ (by decide) rfl xs_main rfl rfl (Nat.le_of_ble_eq_true rfl) dX0_clasp_10 rfl ?_
    refine gz_if_eq (tgt := 36) hX dX0_clasp_13 (by decide) (fun c2 => ?_) (fun c2 => ?_)
    · have h := gz_ifp c2 h
      refine gz_iconst (v := (-1)) hX dX0_clasp_36 gl_c_m1 ?_
      obtain ⟨e_V, e_D, e_r⟩ := gz_in3 h
      exact gu_iret hX hZ hF e_V (congrArg xw_c e_D) e_r dX0_clasp_37
    · have h := gz_ifn c2 h
      refine gz_iload_n (q := 3) hX dX0_clasp_16 rfl rfl ?_
      refine gu_callS (As := [.int a3]) hX (c_x0_isGrip rfl) (lw_x0_isGrip_ q1084) rfl rfl nn_x0_isGrip ⟨Nat.le_of_ble_eq_true rfl, Nat.le_of_ble_eq_true rfl⟩ ⟨Nat.zero_le _, Nat.zero_le _⟩ rfl rfl (Nat.le_of_ble_eq_true rfl) dX0_clasp_17 rfl ?_
      refine gz_if_eq (tgt := 36) hX dX0_clasp_20 (by decide) (fun c3 => ?_) (fun c3 => ?_)
      · have h := gz_ifp c3 h
        refine gz_iconst (v := (-1)) hX dX0_clasp_36 gl_c_m1 ?_
        obtain ⟨e_V, e_D, e_r⟩ := gz_in3 h
        exact gu_iret hX hZ hF e_V (congrArg xw_c e_D) e_r dX0_clasp_37
      · have h := gz_ifn c3 h
        refine gz_aload_n (q := 0) hX dX0_clasp_23 rfl rfl ?_
        refine xg_X0_20 (n2 := (20, 0, 0)) hX xs_main rfl dX0_clasp_24 ?_
        refine gz_iload_n (q := 1) hX dX0_clasp_27 rfl rfl ?_
        refine gz_iload_n (q := 2) hX dX0_clasp_28 rfl rfl ?_
        refine gz_iload_n (q := 3) hX dX0_clasp_29 rfl rfl ?_
        obtain ⟨V4, r5, e6, h⟩ := gz_b2_o h
        refine gu_callV (ci := 1) (n := (20, 0, 0)) (As := [.int a1, .int a2, .int a3]) hX (c_x1_canClasp (by decide) e6) (lw_x1_canClasp_ q1201) rfl rfl nn_x1_canClasp ⟨Nat.le_of_ble_eq_true rfl, Nat.le_of_ble_eq_true rfl⟩ ⟨Nat.zero_le _, Nat.zero_le _⟩ (by decide) rfl (xs_M (by decide)) rfl rfl (Nat.le_of_ble_eq_true rfl) dX0_clasp_30 rfl ?_
        refine gz_if_ne (tgt := 38) hX dX0_clasp_33 (by decide) (fun c7 => ?_) (fun c7 => ?_)
        · have h := gz_ifn c7 h
          refine gz_aload_n (q := 0) hX dX0_clasp_38 rfl rfl ?_
          obtain ⟨V8, D9, e10, h⟩ := gz_b2_o h
          refine gu_callV (ci := 0) (n := (10, 0, 0)) (As := []) hX (c_x0_remembers e10) (lw_x0_remembers_ q1154) rfl rfl nn_x0_remembers ⟨Nat.le_of_ble_eq_true rfl, Nat.le_of_ble_eq_true rfl⟩ ⟨Nat.zero_le _, Nat.zero_le _⟩ (by decide) rfl xs_main rfl rfl (Nat.le_of_ble_eq_true rfl) dX0_clasp_39 rfl ?_
          refine gz_aload_n (q := 0) hX dX0_clasp_42 rfl rfl ?_
          refine xg_X0_20 (n2 := (20, 0, 0)) hX xs_main rfl dX0_clasp_43 ?_
          obtain ⟨V11, r12, e13, h⟩ := gz_b2_o h
          refine gu_callV (ci := 1) (n := (20, 0, 0)) (As := []) hX (c_x1_claspsThem (by decide) e13) (lw_x1_claspsThem_ q1205) rfl rfl nn_x1_claspsThem ⟨Nat.le_of_ble_eq_true rfl, Nat.le_of_ble_eq_true rfl⟩ ⟨Nat.zero_le _, Nat.zero_le _⟩ (by decide) rfl (xs_M (by decide)) rfl rfl (Nat.le_of_ble_eq_true rfl) dX0_clasp_46 rfl ?_
          obtain ⟨e_V, e_D, e_r⟩ := gz_in3 h
          exact gu_iret hX hZ hF e_V (congrArg xw_c e_D) e_r dX0_clasp_49
        · have h := gz_ifp c7 h
          refine gz_iconst (v := (-1)) hX dX0_clasp_36 gl_c_m1 ?_
          obtain ⟨e_V, e_D, e_r⟩ := gz_in3 h
          exact gu_iret hX hZ hF e_V (congrArg xw_c e_D) e_r dX0_clasp_37
theorem lw_x0_clasp_ {o : String} {i : Nat} (hl : Cond.methodLink o i yX0_clasp ∈ lw_all) : GoodIn lw_all (wsV o i RX0 yX0_clasp (ws_ yX0_clasp cX0_clasp 4 (some .int))) := lw_V hl q1198 q1199 q144 q1200
theorem nn_x0_clasp : yX0_clasp.cls = RX0 ∧ yX0_clasp.cls ≠ "java/lang/invoke/MethodHandle" ∧ yX0_clasp.cls ≠ "java/lang/invoke/VarHandle" ∧ (parseMethodDescriptor yX0_clasp.desc).map (fun d => d.parameters.length) = some 3 := by decide +kernel
def rm_x1_day : Room := { frames := 418, cells := 0, slots := 0, locals := 9649 }
noncomputable def x1_day_L2 (N : Nat) (Ds : gz_S) (Df : gz_R) (u1 : Nat) : Nat → gz_V → Int32 → Option (gz_V)
  | 0, _, _ => none
  | n + 1, V, v1 => gz_bd (Df (20, u1, 0) 11) (fun n1 => gz_gd (90 ≤ n1.1 ∧ Ds n1 = some (18, 3)) ((if (j2_size V n1) ≤ v1 then some V else gz_bd (Df (20, u1, 0) 11) (fun n5 => gz_gd (90 ≤ n5.1 ∧ Ds n5 = some (18, 3)) (gz_bd (j2_get Ds Df V n5 v1) (fun n8 => gz_gd (xd_isHb Ds n8) (gz_bd (if (xd_isOf V n8 (V (20, u1, 0) 17)) = 0 then some V else gz_bd (Df (20, u1, 0) 11) (fun n15 => gz_gd (90 ≤ n15.1 ∧ Ds n15 = some (18, 3)) (gz_bd (j2_get Ds Df V n15 v1) (fun n18 => gz_gd (xd_isHb Ds n18) (gz_bd (Df (20, u1, 0) 11) (fun n21 => gz_gd (90 ≤ n21.1 ∧ Ds n21 = some (18, 3)) (gz_bd (j2_get Ds Df V n21 v1) (fun n24 => gz_gd (xd_isHb Ds n24) (gz_gd (gz_inb (V n24 1) 12 = true) (gz_bd (xd_does Ds V n18 u1 ((V n24 1).toNatClampNeg)) (fun V28 => some V28))))))))))) (fun V11 => x1_day_L2 N Ds Df u1 n V11 (v1 + 1)))))))))
theorem w_x1_day_L2 {X : gz_X} {ad : gz_A0} {N : Nat} {Ds : gz_S} {Df : gz_R} {u1 : Nat} {W1 : gz_V} (hX : gz_ok X cX1_passes_2 RX1 "passes" 4 rm_x1_day (some .int)) (hZ : gz_Z X) (hu1 : u1 < 9) (k : gW X 4 (xw_s Ds) (xw_c Df) ad W1 0 0 73 [(0, .ref (ad (20, u1, 0)))] []) : ∀ (n : Nat) {V : gz_V} {v1 : Int32}, x1_day_L2 N Ds Df u1 n V v1 = some W1 → gW X 4 (xw_s Ds) (xw_c Df) ad V 0 0 2 [(0, .ref (ad (20, u1, 0))), (1, .int v1)] [] := by
  intro n
  induction n with
  | zero => intro V v1 h; rw [x1_day_L2] at h; cases h
  | succ n ih =>
    intro V v1 h
    rw [x1_day_L2] at h
    refine gz_iload_n (q := 1) hX dX1_passes_2_2 rfl rfl ?_
    refine gz_aload_n (q := 0) hX dX1_passes_2_3 rfl rfl ?_
    obtain ⟨n1, e2, h⟩ := gz_bd_o h
    refine xg_X1_66 (n2 := n1) hX (xs_M hu1) e2 dX1_passes_2_4 ?_
    obtain ⟨b3, h⟩ := gz_gd_o h
    refine gu_callV (ci := 18) (n := n1) (As := []) hX (c_j2_size b3 rfl) (lw_j2_size_ q1107) rfl rfl nn_j2_size ⟨Nat.le_of_ble_eq_true rfl, Nat.le_of_ble_eq_true rfl⟩ ⟨Nat.zero_le _, Nat.zero_le _⟩ (by decide) rfl (xs_dyn b3) rfl rfl (Nat.le_of_ble_eq_true rfl) dX1_passes_2_7 rfl ?_
    refine gz_icmp_ge (tgt := 73) hX dX1_passes_2_10 (by decide) (fun c4 => ?_) (fun c4 => ?_)
    · have h := gz_ifp c4 h
      obtain rfl := gz_in1 h
      exact gz_lv [0] rfl k
    · have h := gz_ifn c4 h
      refine gz_aload_n (q := 0) hX dX1_passes_2_13 rfl rfl ?_
      obtain ⟨n5, e6, h⟩ := gz_bd_o h
      refine xg_X1_66 (n2 := n5) hX (xs_M hu1) e6 dX1_passes_2_14 ?_
      refine gz_iload_n (q := 1) hX dX1_passes_2_17 rfl rfl ?_
      obtain ⟨b7, h⟩ := gz_gd_o h
      obtain ⟨n8, e9, h⟩ := gz_bd_o h
      refine gu_callV (ci := 18) (n := n5) (As := [.int v1]) hX (c_j2_get b7 e9) (lw_j2_get_ q1108) rfl rfl nn_j2_get ⟨Nat.le_of_ble_eq_true rfl, Nat.le_of_ble_eq_true rfl⟩ ⟨Nat.zero_le _, Nat.zero_le _⟩ (by decide) rfl (xs_dyn b7) rfl rfl (Nat.le_of_ble_eq_true rfl) dX1_passes_2_18 rfl ?_
      obtain ⟨b10, h⟩ := gz_gd_o h
      refine gu_castHb hX q1221 b10 dX1_passes_2_21 ?_
      refine gz_aload_n (q := 0) hX dX1_passes_2_24 rfl rfl ?_
      refine xg_X1_89 hX (xs_M hu1) dX1_passes_2_25 ?_
      refine gu_isOf hX q1222 b10 (Nat.le_of_ble_eq_true rfl) dX1_passes_2_28 ⟨Nat.le_of_ble_eq_true rfl, Nat.le_of_ble_eq_true rfl⟩ ?_
      obtain ⟨V11, g12, h⟩ := gz_bd_o h
      have J13 : gW X 4 (xw_s Ds) (xw_c Df) ad V11 0 0 67 [(0, .ref (ad (20, u1, 0))), (1, .int v1)] [] := by
        refine gz_iinc (q := 1) (lv2 := [(1, .int (v1 + 1)), (0, .ref (ad (20, u1, 0)))]) hX dX1_passes_2_67 rfl gl_c_1 (by decide) rfl ?_
        refine gz_goto (tgt := 2) hX dX1_passes_2_70 (by decide) ?_
        exact gz_lv [1, 0] rfl (ih h)
      refine gz_if_eq (tgt := 67) hX dX1_passes_2_31 (by decide) (fun c14 => ?_) (fun c14 => ?_)
      · have g12 := gz_ifp c14 g12
        obtain rfl := gz_in1 g12
        exact gz_lv [0, 1] rfl J13
      · have g12 := gz_ifn c14 g12
        refine gz_aload_n (q := 0) hX dX1_passes_2_34 rfl rfl ?_
        obtain ⟨n15, e16, g12⟩ := gz_bd_o g12
        refine xg_X1_66 (n2 := n15) hX (xs_M hu1) e16 dX1_passes_2_35 ?_
        refine gz_iload_n (q := 1) hX dX1_passes_2_38 rfl rfl ?_
        obtain ⟨b17, g12⟩ := gz_gd_o g12
        obtain ⟨n18, e19, g12⟩ := gz_bd_o g12
        refine gu_callV (ci := 18) (n := n15) (As := [.int v1]) hX (c_j2_get b17 e19) (lw_j2_get_ q1108) rfl rfl nn_j2_get ⟨Nat.le_of_ble_eq_true rfl, Nat.le_of_ble_eq_true rfl⟩ ⟨Nat.zero_le _, Nat.zero_le _⟩ (by decide) rfl (xs_dyn b17) rfl rfl (Nat.le_of_ble_eq_true rfl) dX1_passes_2_39 rfl ?_
        obtain ⟨b20, g12⟩ := gz_gd_o g12
        refine gu_castHb hX q1221 b20 dX1_passes_2_42 ?_
        refine gz_aload_n (q := 0) hX dX1_passes_2_45 rfl rfl ?_
        refine xg_X1_11 (n2 := (21, u1, 0)) hX (xs_M hu1) rfl dX1_passes_2_46 ?_
        refine gz_aload_n (q := 0) hX dX1_passes_2_49 rfl rfl ?_
        obtain ⟨n21, e22, g12⟩ := gz_bd_o g12
        refine xg_X1_66 (n2 := n21) hX (xs_M hu1) e22 dX1_passes_2_50 ?_
        refine gz_iload_n (q := 1) hX dX1_passes_2_53 rfl rfl ?_
        obtain ⟨b23, g12⟩ := gz_gd_o g12
        obtain ⟨n24, e25, g12⟩ := gz_bd_o g12
        refine gu_callV (ci := 18) (n := n21) (As := [.int v1]) hX (c_j2_get b23 e25) (lw_j2_get_ q1108) rfl rfl nn_j2_get ⟨Nat.le_of_ble_eq_true rfl, Nat.le_of_ble_eq_true rfl⟩ ⟨Nat.zero_le _, Nat.zero_le _⟩ (by decide) rfl (xs_dyn b23) rfl rfl (Nat.le_of_ble_eq_true rfl) dX1_passes_2_54 rfl ?_
        obtain ⟨b26, g12⟩ := gz_gd_o g12
        refine gu_castHb hX q1221 b26 dX1_passes_2_57 ?_
        refine gu_person hX q1229 b26 (Nat.le_of_ble_eq_true rfl) dX1_passes_2_60 ⟨Nat.le_of_ble_eq_true rfl, Nat.le_of_ble_eq_true rfl⟩ ?_
        obtain ⟨b27, g12⟩ := gz_gd_o g12
        refine gz_aald (L := 12) (t := 110) (t0 := 3) (ty := (.object "ClaspedFair$Person")) (n2 := (40, u1, (V n24 1).toNatClampNeg)) hX (by decide) (by decide) (fun _ => rfl) rfl (xs_PA hu1) (gz_inb_o b27) (xr_PA (gz_inb_lt b27)) dX1_passes_2_63 ?_
        obtain ⟨V28, e29, g12⟩ := gz_bd_o g12
        refine gu_does hX q1236 e29 hu1 (gz_inb_lt b27) (Nat.le_of_ble_eq_true rfl) dX1_passes_2_64 ⟨Nat.le_of_ble_eq_true rfl, Nat.le_of_ble_eq_true rfl⟩ ?_
        obtain rfl := gz_in1 g12
        exact gz_lv [0, 1] rfl J13
noncomputable def x1_day_L77 (N : Nat) (Ds : gz_S) (Df : gz_R) (u1 : Nat) : Nat → gz_V → Int32 → Int32 → Option (gz_V × Int32)
  | 0, _, _, _ => none
  | n + 1, V, v1, v2 => gz_bd (Df (20, u1, 0) 10) (fun n3 => gz_gd (90 ≤ n3.1 ∧ Ds n3 = some (18, 3)) ((if (j2_size V n3) ≤ v2 then some (V, v1) else gz_bd (Df (20, u1, 0) 10) (fun n7 => gz_gd (90 ≤ n7.1 ∧ Ds n7 = some (18, 3)) (gz_bd (j2_get Ds Df V n7 v2) (fun n10 => gz_gd (90 ≤ n10.1 ∧ Ds n10 = some (14, 5)) (gz_b2 (if (V n10 0) = (V (20, u1, 0) 17) then gz_b2 (x1_canBuy N Ds Df V u1 (V n10 1) (V n10 2) (V n10 3) (V n10 4)) (fun V18 r19 => (if r19 = 0 then some (V18, v1) else gz_b2 (x1_buys N Ds Df V18 u1 (V18 n10 2)) (fun V22 r23 => some (V22, (v1 + 1))))) else some (V, v1)) (fun V13 y14 => x1_day_L77 N Ds Df u1 n V13 y14 (v2 + 1)))))))))
theorem w_x1_day_L77 {X : gz_X} {ad : gz_A0} {N : Nat} {Ds : gz_S} {Df : gz_R} {u1 : Nat} {W1 : gz_V} {o1 : Int32} (hX : gz_ok X cX1_passes_2 RX1 "passes" 4 rm_x1_day (some .int)) (hZ : gz_Z X) (hu1 : u1 < 9) (k : gW X 4 (xw_s Ds) (xw_c Df) ad W1 0 0 155 [(0, .ref (ad (20, u1, 0))), (1, .int o1)] []) : ∀ (n : Nat) {V : gz_V} {v1 : Int32} {v2 : Int32}, x1_day_L77 N Ds Df u1 n V v1 v2 = some (W1, o1) → gW X 4 (xw_s Ds) (xw_c Df) ad V 0 0 77 [(0, .ref (ad (20, u1, 0))), (1, .int v1), (2, .int v2)] [] := by
  intro n
  induction n with
  | zero => intro V v1 v2 h; rw [x1_day_L77] at h; cases h
  | succ n ih =>
    intro V v1 v2 h
    rw [x1_day_L77] at h
    refine gz_iload_n (q := 2) hX dX1_passes_2_77 rfl rfl ?_
    refine gz_aload_n (q := 0) hX dX1_passes_2_78 rfl rfl ?_
    obtain ⟨n3, e4, h⟩ := gz_bd_o h
    refine xg_X1_63 (n2 := n3) hX (xs_M hu1) e4 dX1_passes_2_79 ?_
    obtain ⟨b5, h⟩ := gz_gd_o h
    refine gu_callV (ci := 18) (n := n3) (As := []) hX (c_j2_size b5 rfl) (lw_j2_size_ q1107) rfl rfl nn_j2_size ⟨Nat.le_of_ble_eq_true rfl, Nat.le_of_ble_eq_true rfl⟩ ⟨Nat.zero_le _, Nat.zero_le _⟩ (by decide) rfl (xs_dyn b5) rfl rfl (Nat.le_of_ble_eq_true rfl) dX1_passes_2_82 rfl ?_
    refine gz_icmp_ge (tgt := 155) hX dX1_passes_2_85 (by decide) (fun c6 => ?_) (fun c6 => ?_)
    · have h := gz_ifp c6 h
      obtain ⟨rfl, rfl⟩ := gz_in2 h
      exact gz_lv [0, 1] rfl k
    · have h := gz_ifn c6 h
      refine gz_aload_n (q := 0) hX dX1_passes_2_88 rfl rfl ?_
      obtain ⟨n7, e8, h⟩ := gz_bd_o h
      refine xg_X1_63 (n2 := n7) hX (xs_M hu1) e8 dX1_passes_2_89 ?_
      refine gz_iload_n (q := 2) hX dX1_passes_2_92 rfl rfl ?_
      obtain ⟨b9, h⟩ := gz_gd_o h
      obtain ⟨n10, e11, h⟩ := gz_bd_o h
      refine gu_callV (ci := 18) (n := n7) (As := [.int v2]) hX (c_j2_get b9 e11) (lw_j2_get_ q1108) rfl rfl nn_j2_get ⟨Nat.le_of_ble_eq_true rfl, Nat.le_of_ble_eq_true rfl⟩ ⟨Nat.zero_le _, Nat.zero_le _⟩ (by decide) rfl (xs_dyn b9) rfl rfl (Nat.le_of_ble_eq_true rfl) dX1_passes_2_93 rfl ?_
      obtain ⟨b12, h⟩ := gz_gd_o h
      refine gz_cast (ci := 14) hX q1250 (by decide) rfl (xs_dyn b12) (Or.inl rfl) dX1_passes_2_96 ?_
      refine gz_astore_n (lv2 := [(3, .ref (ad n10)), (0, .ref (ad (20, u1, 0))), (1, .int v1), (2, .int v2)]) hX dX1_passes_2_99 rfl (by decide) rfl ?_
      refine gz_aload_n (q := 0) hX dX1_passes_2_100 rfl rfl ?_
      refine xg_X1_268 hX (xs_dyn b12) dX1_passes_2_101 ?_
      refine gz_aload_n (q := 1) hX dX1_passes_2_104 rfl rfl ?_
      refine xg_X1_89 hX (xs_M hu1) dX1_passes_2_105 ?_
      obtain ⟨V13, y14, g15, h⟩ := gz_b2_o h
      have J16 : gW X 4 (xw_s Ds) (xw_c Df) ad V13 0 0 149 [(0, .ref (ad (20, u1, 0))), (1, .int y14), (2, .int v2)] [] := by
        refine gz_iinc (q := 2) (lv2 := [(2, .int (v2 + 1)), (0, .ref (ad (20, u1, 0))), (1, .int y14)]) hX dX1_passes_2_149 rfl gl_c_1 (by decide) rfl ?_
        refine gz_goto (tgt := 77) hX dX1_passes_2_152 (by decide) ?_
        exact gz_lv [1, 2, 0] rfl (ih h)
      refine gz_icmp_ne (tgt := 149) hX dX1_passes_2_108 (by decide) (fun c17 => ?_) (fun c17 => ?_)
      · have g15 := gz_ifn c17 g15
        obtain ⟨rfl, rfl⟩ := gz_in2 g15
        exact gz_lv [1, 2, 3] rfl J16
      · have g15 := gz_ifp c17 g15
        refine gz_aload_n (q := 1) hX dX1_passes_2_111 rfl rfl ?_
        refine gz_aload_n (q := 0) hX dX1_passes_2_112 rfl rfl ?_
        refine xg_X1_269 hX (xs_dyn b12) dX1_passes_2_113 ?_
        refine gz_aload_n (q := 0) hX dX1_passes_2_116 rfl rfl ?_
        refine xg_X1_272 hX (xs_dyn b12) dX1_passes_2_117 ?_
        refine gz_aload_n (q := 0) hX dX1_passes_2_120 rfl rfl ?_
        refine xg_X1_274 hX (xs_dyn b12) dX1_passes_2_121 ?_
        refine gz_aload_n (q := 0) hX dX1_passes_2_124 rfl rfl ?_
        refine xg_X1_275 hX (xs_dyn b12) dX1_passes_2_125 ?_
        obtain ⟨V18, r19, e20, g15⟩ := gz_b2_o g15
        refine gu_callV (ci := 1) (n := (20, u1, 0)) (As := [.int (V n10 1), .int (V n10 2), .int (V n10 3), .int (V n10 4)]) hX (c_x1_canBuy hu1 e20) (lw_x1_canBuy_ q1251) rfl rfl nn_x1_canBuy ⟨Nat.le_of_ble_eq_true rfl, Nat.le_of_ble_eq_true rfl⟩ ⟨Nat.zero_le _, Nat.zero_le _⟩ (by decide) rfl (xs_M hu1) rfl rfl (Nat.le_of_ble_eq_true rfl) dX1_passes_2_128 rfl ?_
        refine gz_if_ne (tgt := 137) hX dX1_passes_2_131 (by decide) (fun c21 => ?_) (fun c21 => ?_)
        · have g15 := gz_ifn c21 g15
          refine gz_aload_n (q := 1) hX dX1_passes_2_137 rfl rfl ?_
          refine gz_aload_n (q := 0) hX dX1_passes_2_138 rfl rfl ?_
          refine xg_X1_272 hX (xs_dyn b12) dX1_passes_2_139 ?_
          obtain ⟨V22, r23, e24, g15⟩ := gz_b2_o g15
          refine gu_callV (ci := 1) (n := (20, u1, 0)) (As := [.int (V18 n10 2)]) hX (c_x1_buys hu1 e24) (lw_x1_buys_ q1252) rfl rfl nn_x1_buys ⟨Nat.le_of_ble_eq_true rfl, Nat.le_of_ble_eq_true rfl⟩ ⟨Nat.zero_le _, Nat.zero_le _⟩ (by decide) rfl (xs_M hu1) rfl rfl (Nat.le_of_ble_eq_true rfl) dX1_passes_2_142 rfl ?_
          refine gz_pop hX dX1_passes_2_145 rfl ?_
          refine gz_iinc (q := 2) (lv2 := [(1, .int (v1 + 1)), (3, .ref (ad n10)), (0, .ref (ad (20, u1, 0))), (2, .int v2)]) hX dX1_passes_2_146 rfl gl_c_1 (by decide) rfl ?_
          obtain ⟨rfl, rfl⟩ := gz_in2 g15
          exact gz_lv [2, 0, 3] rfl J16
        · have g15 := gz_ifp c21 g15
          refine gz_goto (tgt := 149) hX dX1_passes_2_134 (by decide) ?_
          obtain ⟨rfl, rfl⟩ := gz_in2 g15
          exact gz_lv [1, 2, 3] rfl J16
noncomputable def x1_day (N : Nat) (Ds : gz_S) (Df : gz_R) (V : gz_V) (u1 : Nat) : Option (gz_V × Int32) := gz_bd (x1_day_L2 N Ds Df u1 N V 0) (fun V1 => gz_b2 (x1_day_L77 N Ds Df u1 N V1 0 0) (fun V3 x4 => gz_let (gz_up V3 (20, u1, 0) 17 ((V3 (20, u1, 0) 17) + 1)) (fun V6 => some (V6, x4))))
theorem c_x1_day {l : Launch} {D : va_G} {aC : Nat → ClassId} {ad : gz_A0} {N : Nat} {Ds : gz_S} {Df : gz_R} {V : gz_V} {u1 : Nat} {W1 : gz_V} {r : Int32} (hu1 : u1 < 9) (h : x1_day N Ds Df V u1 = some (W1, r)) : gz_Met l yX1_passes_2 cX1_passes_2 4 (some .int) rm_x1_day D aC ad (xw_s Ds) V (xw_c Df) [.ref (ad (20, u1, 0))] (gz_F1 (xw_s Ds) (xw_c Df) ad W1 (some (.int r))) 0 0 := by
  refine gu_ofW (own := RX1) (mn := "passes") (lv := [(0, .ref (ad (20, u1, 0)))]) (by decide) rfl rfl (Nat.le_of_ble_eq_true rfl) rfl ?_
  intro X hX hZ hF
  rw [x1_day] at h
  refine gz_iconst (v := 0) hX dX1_passes_2_0 gl_c_0 ?_
  refine gz_istore_n (lv2 := [(1, .int 0), (0, .ref (ad (20, u1, 0)))]) hX dX1_passes_2_1 rfl (by decide) rfl ?_
  obtain ⟨V1, e2, h⟩ := gz_bd_o h
  refine gz_lv [1, 0] rfl (w_x1_day_L2 hX hZ hu1 ?_ N e2)
  refine gz_iconst (v := 0) hX dX1_passes_2_73 gl_c_0 ?_
  refine gz_istore_n (lv2 := [(1, .int 0), (0, .ref (ad (20, u1, 0)))]) hX dX1_passes_2_74 rfl (by decide) rfl ?_
  refine gz_iconst (v := 0) hX dX1_passes_2_75 gl_c_0 ?_
  refine gz_istore_n (lv2 := [(2, .int 0), (1, .int 0), (0, .ref (ad (20, u1, 0)))]) hX dX1_passes_2_76 rfl (by decide) rfl ?_
  obtain ⟨V3, x4, e5, h⟩ := gz_b2_o h
  refine gz_lv [2, 1, 0] rfl (w_x1_day_L77 hX hZ hu1 ?_ N e5)
  refine gz_aload_n (q := 0) hX dX1_passes_2_155 rfl rfl ?_
  refine gz_dupa hX dX1_passes_2_156 ?_
  refine xg_X1_89 hX (xs_M hu1) dX1_passes_2_157 ?_
  refine gz_iconst (v := 1) hX dX1_passes_2_160 gl_c_1 ?_
  refine gz_iadd hX dX1_passes_2_161 ?_
  obtain ⟨V6, e7, h⟩ := gz_let_o h
  refine xp_X1_89 hX (xs_M hu1) (gz_ne0 19 rfl) dX1_passes_2_162 e7 ?_
  refine gz_iload_n (q := 1) hX dX1_passes_2_165 rfl rfl ?_
  obtain ⟨e_V, e_r⟩ := gz_in2 h
  exact gu_iret hX hZ hF e_V rfl e_r dX1_passes_2_166
theorem lw_x1_day_ {o : String} {i : Nat} (hl : Cond.methodLink o i yX1_passes_2 ∈ lw_all) : GoodIn lw_all (wsV o i RX1 yX1_passes_2 (ws_ yX1_passes_2 cX1_passes_2 4 (some .int))) := lw_V hl q1218 q1219 q145 q1220
theorem nn_x1_day : yX1_passes_2.cls = RX1 ∧ yX1_passes_2.cls ≠ "java/lang/invoke/MethodHandle" ∧ yX1_passes_2.cls ≠ "java/lang/invoke/VarHandle" ∧ (parseMethodDescriptor yX1_passes_2.desc).map (fun d => d.parameters.length) = some 0 := by decide +kernel
def rm_x0_days : Room := { frames := 419, cells := 0, slots := 0, locals := 9672 }
noncomputable def x0_days_L31 (N : Nat) (Ds : gz_S) (v1 : Int32) : Nat → gz_V → gz_R → Int32 → Int32 → Option (gz_V × gz_R × Int32)
  | 0, _, _, _, _ => none
  | n + 1, V, Df, v2, v3 => (if v1 ≤ v3 then some (V, Df, v2) else gz_b2 (x0_remembers N Ds Df V) (fun V4 D5 => gz_b2 (x1_day N Ds D5 V4 0) (fun V7 r8 => gz_let ((v2 + r8)) (fun x10 => x0_days_L31 N Ds v1 n V7 D5 x10 (v3 + 1)))))
theorem w_x0_days_L31 {X : gz_X} {ad : gz_A0} {N : Nat} {Ds : gz_S} {v1 : Int32} {W1 : gz_V} {E1 : gz_R} {o2 : Int32} (hX : gz_ok X cX0_days RX0 "days" 4 rm_x0_days (some .int)) (hZ : gz_Z X) (k : gW X 4 (xw_s Ds) (xw_c E1) ad W1 0 0 56 [(2, .int o2)] []) : ∀ (n : Nat) {V : gz_V} {Df : gz_R} {v2 : Int32} {v3 : Int32}, x0_days_L31 N Ds v1 n V Df v2 v3 = some (W1, E1, o2) → gW X 4 (xw_s Ds) (xw_c Df) ad V 0 0 31 [(0, .ref (ad (10, 0, 0))), (1, .int v1), (2, .int v2), (3, .int v3)] [] := by
  intro n
  induction n with
  | zero => intro V Df v2 v3 h; rw [x0_days_L31] at h; cases h
  | succ n ih =>
    intro V Df v2 v3 h
    rw [x0_days_L31] at h
    refine gz_iload_n (q := 3) hX dX0_days_31 rfl rfl ?_
    refine gz_iload_n (q := 1) hX dX0_days_32 rfl rfl ?_
    refine gz_icmp_ge (tgt := 56) hX dX0_days_33 (by decide) (fun c3 => ?_) (fun c3 => ?_)
    · have h := gz_ifp c3 h
      obtain ⟨rfl, rfl, rfl⟩ := gz_in3 h
      exact gz_lv [2] rfl k
    · have h := gz_ifn c3 h
      refine gz_aload_n (q := 0) hX dX0_days_36 rfl rfl ?_
      obtain ⟨V4, D5, e6, h⟩ := gz_b2_o h
      refine gu_callV (ci := 0) (n := (10, 0, 0)) (As := []) hX (c_x0_remembers e6) (lw_x0_remembers_ q1154) rfl rfl nn_x0_remembers ⟨Nat.le_of_ble_eq_true rfl, Nat.le_of_ble_eq_true rfl⟩ ⟨Nat.zero_le _, Nat.zero_le _⟩ (by decide) rfl xs_main rfl rfl (Nat.le_of_ble_eq_true rfl) dX0_days_37 rfl ?_
      refine gz_iload_n (q := 2) hX dX0_days_40 rfl rfl ?_
      refine gz_aload_n (q := 0) hX dX0_days_41 rfl rfl ?_
      refine xg_X0_20 (n2 := (20, 0, 0)) hX xs_main rfl dX0_days_42 ?_
      obtain ⟨V7, r8, e9, h⟩ := gz_b2_o h
      refine gu_callV (ci := 1) (n := (20, 0, 0)) (As := []) hX (c_x1_day (by decide) e9) (lw_x1_day_ q1217) rfl rfl nn_x1_day ⟨Nat.le_of_ble_eq_true rfl, Nat.le_of_ble_eq_true rfl⟩ ⟨Nat.zero_le _, Nat.zero_le _⟩ (by decide) rfl (xs_M (by decide)) rfl rfl (Nat.le_of_ble_eq_true rfl) dX0_days_45 rfl ?_
      refine gz_iadd hX dX0_days_48 ?_
      obtain ⟨x10, e11, h⟩ := gz_let_o h
      refine gz_nm e11 ?_
      refine gz_istore_n (lv2 := [(2, .int x10), (0, .ref (ad (10, 0, 0))), (1, .int v1), (3, .int v3)]) hX dX0_days_49 rfl (by decide) rfl ?_
      refine gz_iinc (q := 3) (lv2 := [(3, .int (v3 + 1)), (2, .int x10), (0, .ref (ad (10, 0, 0))), (1, .int v1)]) hX dX0_days_50 rfl gl_c_1 (by decide) rfl ?_
      refine gz_goto (tgt := 31) hX dX0_days_53 (by decide) ?_
      exact gz_lv [2, 3, 1, 0] rfl (ih h)
noncomputable def x0_days (N : Nat) (Ds : gz_S) (Df : gz_R) (V : gz_V) (a1 : Int32) : Option (gz_V × gz_R × Int32) := (if (x0_isIn a1 1 60) = 0 then some (V, Df, (-1)) else (if ((V (20, 0, 0) 17) + a1) ≤ 9999 then gz_b3 (x0_days_L31 N Ds a1 N V Df 0 0) (fun V3 D4 x5 => some (V3, D4, x5)) else some (V, Df, (-1))))
theorem c_x0_days {l : Launch} {D : va_G} {aC : Nat → ClassId} {ad : gz_A0} {N : Nat} {Ds : gz_S} {Df : gz_R} {V : gz_V} {a1 : Int32} {W1 : gz_V} {E1 : gz_R} {r : Int32} (h : x0_days N Ds Df V a1 = some (W1, E1, r)) : gz_Met l yX0_days cX0_days 4 (some .int) rm_x0_days D aC ad (xw_s Ds) V (xw_c Df) [.ref (ad (10, 0, 0)), .int a1] (gz_F1 (xw_s Ds) (xw_c E1) ad W1 (some (.int r))) 0 0 := by
  refine gu_ofW (own := RX0) (mn := "days") (lv := [(0, .ref (ad (10, 0, 0))), (1, .int a1)]) (by decide) rfl rfl (Nat.le_of_ble_eq_true rfl) rfl ?_
  intro X hX hZ hF
  rw [x0_days] at h
  refine gz_iload_n (q := 1) hX dX0_days_0 rfl rfl ?_
  refine gz_iconst (v := 1) hX dX0_days_1 gl_c_1 ?_
  refine gz_bipush (v := 60) hX dX0_days_2 gl_b_60 ?_
  refine gu_callS (As := [.int a1, .int 1, .int 60]) hX (c_x0_isIn rfl) (lw_x0_isIn_ q502) rfl rfl nn_x0_isIn ⟨Nat.le_of_ble_eq_true rfl, Nat.le_of_ble_eq_true rfl⟩ ⟨Nat.zero_le _, Nat.zero_le _⟩ rfl rfl (Nat.le_of_ble_eq_true rfl) dX0_days_4 rfl ?_
  refine gz_if_eq (tgt := 25) hX dX0_days_7 (by decide) (fun c1 => ?_) (fun c1 => ?_)
  · have h := gz_ifp c1 h
    refine gz_iconst (v := (-1)) hX dX0_days_25 gl_c_m1 ?_
    obtain ⟨e_V, e_D, e_r⟩ := gz_in3 h
    exact gu_iret hX hZ hF e_V (congrArg xw_c e_D) e_r dX0_days_26
  · have h := gz_ifn c1 h
    refine gz_aload_n (q := 0) hX dX0_days_10 rfl rfl ?_
    refine xg_X0_20 (n2 := (20, 0, 0)) hX xs_main rfl dX0_days_11 ?_
    refine xg_X0_216 hX (xs_M (by decide)) dX0_days_14 ?_
    refine gz_iload_n (q := 1) hX dX0_days_17 rfl rfl ?_
    refine gz_iadd hX dX0_days_18 ?_
    refine gz_sipush (v := 9999) hX dX0_days_19 gl_s_9999 ?_
    refine gz_icmp_le (tgt := 27) hX dX0_days_22 (by decide) (fun c2 => ?_) (fun c2 => ?_)
    · have h := gz_ifp c2 h
      refine gz_iconst (v := 0) hX dX0_days_27 gl_c_0 ?_
      refine gz_istore_n (lv2 := [(2, .int 0), (0, .ref (ad (10, 0, 0))), (1, .int a1)]) hX dX0_days_28 rfl (by decide) rfl ?_
      refine gz_iconst (v := 0) hX dX0_days_29 gl_c_0 ?_
      refine gz_istore_n (lv2 := [(3, .int 0), (2, .int 0), (0, .ref (ad (10, 0, 0))), (1, .int a1)]) hX dX0_days_30 rfl (by decide) rfl ?_
      obtain ⟨V3, D4, x5, e6, h⟩ := gz_b3_o h
      refine gz_lv [2, 3, 1, 0] rfl (w_x0_days_L31 hX hZ ?_ N e6)
      refine gz_iload_n (q := 0) hX dX0_days_56 rfl rfl ?_
      obtain ⟨e_V, e_D, e_r⟩ := gz_in3 h
      exact gu_iret hX hZ hF e_V (congrArg xw_c e_D) e_r dX0_days_57
    · have h := gz_ifn c2 h
      refine gz_iconst (v := (-1)) hX dX0_days_25 gl_c_m1 ?_
      obtain ⟨e_V, e_D, e_r⟩ := gz_in3 h
      exact gu_iret hX hZ hF e_V (congrArg xw_c e_D) e_r dX0_days_26
theorem lw_x0_days_ {o : String} {i : Nat} (hl : Cond.methodLink o i yX0_days ∈ lw_all) : GoodIn lw_all (wsV o i RX0 yX0_days (ws_ yX0_days cX0_days 4 (some .int))) := lw_V hl q1214 q1215 q144 q1216
theorem nn_x0_days : yX0_days.cls = RX0 ∧ yX0_days.cls ≠ "java/lang/invoke/MethodHandle" ∧ yX0_days.cls ≠ "java/lang/invoke/VarHandle" ∧ (parseMethodDescriptor yX0_days.desc).map (fun d => d.parameters.length) = some 1 := by decide +kernel
def rm_x0_goes : Room := { frames := 419, cells := 0, slots := 0, locals := 9672 }
noncomputable def x0_goes_L34 (N : Nat) (Ds : gz_S) (Df : gz_R) (v1 : Int32) (v2 : Int32) : Nat → gz_V → Int32 → Option (gz_V)
  | 0, _, _ => none
  | n + 1, V, v3 => (if v1 ≤ v3 then some V else gz_b2 (x1_day N Ds Df V 2) (fun V7 r8 => x0_goes_L34 N Ds Df v1 v2 n V7 (v3 + 1)))
theorem w_x0_goes_L34 {X : gz_X} {ad : gz_A0} {N : Nat} {Ds : gz_S} {Df : gz_R} {v1 : Int32} {v2 : Int32} {W1 : gz_V} (hX : gz_ok X cX0_goes RX0 "goes" 5 rm_x0_goes (some .int)) (hZ : gz_Z X) (k : gW X 5 (xw_s Ds) (xw_c Df) ad W1 0 0 53 [(0, .ref (ad (10, 0, 0))), (2, .int v2)] []) : ∀ (n : Nat) {V : gz_V} {v3 : Int32}, x0_goes_L34 N Ds Df v1 v2 n V v3 = some W1 → gW X 5 (xw_s Ds) (xw_c Df) ad V 0 0 34 [(0, .ref (ad (10, 0, 0))), (1, .int v1), (2, .int v2), (3, .int v3)] [] := by
  intro n
  induction n with
  | zero => intro V v3 h; rw [x0_goes_L34] at h; cases h
  | succ n ih =>
    intro V v3 h
    rw [x0_goes_L34] at h
    refine gz_iload_n (q := 3) hX dX0_goes_34 rfl rfl ?_
    refine gz_iload_n (q := 1) hX dX0_goes_35 rfl rfl ?_
    refine gz_icmp_ge (tgt := 53) hX dX0_goes_36 (by decide) (fun c6 => ?_) (fun c6 => ?_)
    · have h := gz_ifp c6 h
      obtain rfl := gz_in1 h
      exact gz_lv [0, 2] rfl k
    · have h := gz_ifn c6 h
      refine gz_aload_n (q := 0) hX dX0_goes_39 rfl rfl ?_
      refine xg_X0_27 (n2 := (20, 2, 0)) hX xs_main rfl dX0_goes_40 ?_
      obtain ⟨V7, r8, e9, h⟩ := gz_b2_o h
      refine gu_callV (ci := 1) (n := (20, 2, 0)) (As := []) hX (c_x1_day (by decide) e9) (lw_x1_day_ q1217) rfl rfl nn_x1_day ⟨Nat.le_of_ble_eq_true rfl, Nat.le_of_ble_eq_true rfl⟩ ⟨Nat.zero_le _, Nat.zero_le _⟩ (by decide) rfl (xs_M (by decide)) rfl rfl (Nat.le_of_ble_eq_true rfl) dX0_goes_43 rfl ?_
      refine gz_pop hX dX0_goes_46 rfl ?_
      refine gz_iinc (q := 3) (lv2 := [(3, .int (v3 + 1)), (0, .ref (ad (10, 0, 0))), (1, .int v1), (2, .int v2)]) hX dX0_goes_47 rfl gl_c_1 (by decide) rfl ?_
      refine gz_goto (tgt := 34) hX dX0_goes_50 (by decide) ?_
      exact gz_lv [1, 2, 3, 0] rfl (ih h)
noncomputable def x0_goes_L85 (N : Nat) (Ds : gz_S) (Df : gz_R) (V : gz_V) (v2 : Int32) : Nat → Int32 → Int32 → Option (Int32)
  | 0, _, _ => none
  | n + 1, v3, v4 => (if (V (20, 2, 0) 13) ≤ v4 then some v3 else (if v2 = 2 then gz_gd (gz_inb v4 12 = true) (gz_let ((v3 + (V (40, 2, v4.toNatClampNeg) 1))) (fun x12 => x0_goes_L85 N Ds Df V v2 n x12 (v4 + 1))) else some v3))
theorem w_x0_goes_L85 {X : gz_X} {ad : gz_A0} {N : Nat} {Ds : gz_S} {Df : gz_R} {V : gz_V} {v2 : Int32} {o3 : Int32} (hX : gz_ok X cX0_goes RX0 "goes" 5 rm_x0_goes (some .int)) (hZ : gz_Z X) (k : gW X 5 (xw_s Ds) (xw_c Df) ad V 0 0 124 [(0, .ref (ad (10, 0, 0))), (2, .int v2), (3, .int o3)] []) : ∀ (n : Nat) {v3 : Int32} {v4 : Int32}, x0_goes_L85 N Ds Df V v2 n v3 v4 = some o3 → gW X 5 (xw_s Ds) (xw_c Df) ad V 0 0 85 [(0, .ref (ad (10, 0, 0))), (2, .int v2), (3, .int v3), (4, .int v4)] [] := by
  intro n
  induction n with
  | zero => intro v3 v4 h; rw [x0_goes_L85] at h; cases h
  | succ n ih =>
    intro v3 v4 h
    rw [x0_goes_L85] at h
    refine gz_iload (q := 3) hX dX0_goes_85 rfl ?_
    refine gz_aload_n (q := 0) hX dX0_goes_87 rfl rfl ?_
    refine xg_X0_27 (n2 := (20, 2, 0)) hX xs_main rfl dX0_goes_88 ?_
    refine xg_X0_137 hX (xs_M (by decide)) dX0_goes_91 ?_
    refine gz_icmp_ge (tgt := 124) hX dX0_goes_94 (by decide) (fun c9 => ?_) (fun c9 => ?_)
    · have h := gz_ifp c9 h
      obtain rfl := gz_in1 h
      exact gz_lv [0, 1, 2] rfl k
    · have h := gz_ifn c9 h
      refine gz_iload_n (q := 1) hX dX0_goes_97 rfl rfl ?_
      refine gz_iconst (v := 2) hX dX0_goes_98 gl_c_2 ?_
      refine gz_icmp_ne (tgt := 124) hX dX0_goes_99 (by decide) (fun c10 => ?_) (fun c10 => ?_)
      · have h := gz_ifn c10 h
        obtain rfl := gz_in1 h
        exact gz_lv [0, 1, 2] rfl k
      · have h := gz_ifp c10 h
        refine gz_iload_n (q := 2) hX dX0_goes_102 rfl rfl ?_
        refine gz_aload_n (q := 0) hX dX0_goes_103 rfl rfl ?_
        refine xg_X0_27 (n2 := (20, 2, 0)) hX xs_main rfl dX0_goes_104 ?_
        refine xg_X0_143 (n2 := (21, 2, 0)) hX (xs_M (by decide)) rfl dX0_goes_107 ?_
        refine gz_iload (q := 3) hX dX0_goes_110 rfl ?_
        obtain ⟨b11, h⟩ := gz_gd_o h
        refine gz_aald (L := 12) (t := 110) (t0 := 3) (ty := (.object "ClaspedFair$Person")) (n2 := (40, 2, v4.toNatClampNeg)) hX (by decide) (by decide) (fun _ => rfl) rfl (xs_PA (by decide)) (gz_inb_o b11) (xr_PA (gz_inb_lt b11)) dX0_goes_112 ?_
        refine xg_X0_179 hX (xs_P (by decide) (gz_inb_lt b11)) dX0_goes_113 ?_
        refine gz_iadd hX dX0_goes_116 ?_
        obtain ⟨x12, e13, h⟩ := gz_let_o h
        refine gz_nm e13 ?_
        refine gz_istore_n (lv2 := [(3, .int x12), (0, .ref (ad (10, 0, 0))), (2, .int v2), (4, .int v4)]) hX dX0_goes_117 rfl (by decide) rfl ?_
        refine gz_iinc (q := 3) (lv2 := [(4, .int (v4 + 1)), (3, .int x12), (0, .ref (ad (10, 0, 0))), (2, .int v2)]) hX dX0_goes_118 rfl gl_c_1 (by decide) rfl ?_
        refine gz_goto (tgt := 85) hX dX0_goes_121 (by decide) ?_
        exact gz_lv [2, 3, 1, 0] rfl (ih h)
noncomputable def x0_goes_L127 (N : Nat) (Ds : gz_S) (Df : gz_R) (V : gz_V) (v2 : Int32) : Nat → Int32 → Int32 → Option (Int32)
  | 0, _, _ => none
  | n + 1, v3, v4 => (if (V (20, 2, 0) 14) ≤ v4 then some v3 else (if v2 = 3 then gz_gd (gz_inb v4 10 = true) (gz_let ((v3 + (V (42, 2, v4.toNatClampNeg) 3))) (fun x14 => x0_goes_L127 N Ds Df V v2 n x14 (v4 + 1))) else some v3))
theorem w_x0_goes_L127 {X : gz_X} {ad : gz_A0} {N : Nat} {Ds : gz_S} {Df : gz_R} {V : gz_V} {v2 : Int32} {o3 : Int32} (hX : gz_ok X cX0_goes RX0 "goes" 5 rm_x0_goes (some .int)) (hZ : gz_Z X) (k : gW X 5 (xw_s Ds) (xw_c Df) ad V 0 0 166 [(3, .int o3)] []) : ∀ (n : Nat) {v3 : Int32} {v4 : Int32}, x0_goes_L127 N Ds Df V v2 n v3 v4 = some o3 → gW X 5 (xw_s Ds) (xw_c Df) ad V 0 0 127 [(0, .ref (ad (10, 0, 0))), (2, .int v2), (3, .int v3), (4, .int v4)] [] := by
  intro n
  induction n with
  | zero => intro v3 v4 h; rw [x0_goes_L127] at h; cases h
  | succ n ih =>
    intro v3 v4 h
    rw [x0_goes_L127] at h
    refine gz_iload (q := 3) hX dX0_goes_127 rfl ?_
    refine gz_aload_n (q := 0) hX dX0_goes_129 rfl rfl ?_
    refine xg_X0_27 (n2 := (20, 2, 0)) hX xs_main rfl dX0_goes_130 ?_
    refine xg_X0_140 hX (xs_M (by decide)) dX0_goes_133 ?_
    refine gz_icmp_ge (tgt := 166) hX dX0_goes_136 (by decide) (fun c11 => ?_) (fun c11 => ?_)
    · have h := gz_ifp c11 h
      obtain rfl := gz_in1 h
      exact gz_lv [2] rfl k
    · have h := gz_ifn c11 h
      refine gz_iload_n (q := 1) hX dX0_goes_139 rfl rfl ?_
      refine gz_iconst (v := 3) hX dX0_goes_140 gl_c_3 ?_
      refine gz_icmp_ne (tgt := 166) hX dX0_goes_141 (by decide) (fun c12 => ?_) (fun c12 => ?_)
      · have h := gz_ifn c12 h
        obtain rfl := gz_in1 h
        exact gz_lv [2] rfl k
      · have h := gz_ifp c12 h
        refine gz_iload_n (q := 2) hX dX0_goes_144 rfl rfl ?_
        refine gz_aload_n (q := 0) hX dX0_goes_145 rfl rfl ?_
        refine xg_X0_27 (n2 := (20, 2, 0)) hX xs_main rfl dX0_goes_146 ?_
        refine xg_X0_164 (n2 := (22, 2, 0)) hX (xs_M (by decide)) rfl dX0_goes_149 ?_
        refine gz_iload (q := 3) hX dX0_goes_152 rfl ?_
        obtain ⟨b13, h⟩ := gz_gd_o h
        refine gz_aald (L := 10) (t := 111) (t0 := 4) (ty := (.object "ClaspedFair$Horse")) (n2 := (42, 2, v4.toNatClampNeg)) hX (by decide) (by decide) (fun _ => rfl) rfl (xs_HA (by decide)) (gz_inb_o b13) (xr_HA (gz_inb_lt b13)) dX0_goes_154 ?_
        refine xg_X0_228 hX (xs_H (by decide) (gz_inb_lt b13)) dX0_goes_155 ?_
        refine gz_iadd hX dX0_goes_158 ?_
        obtain ⟨x14, e15, h⟩ := gz_let_o h
        refine gz_nm e15 ?_
        refine gz_istore_n (lv2 := [(3, .int x14), (0, .ref (ad (10, 0, 0))), (2, .int v2), (4, .int v4)]) hX dX0_goes_159 rfl (by decide) rfl ?_
        refine gz_iinc (q := 3) (lv2 := [(4, .int (v4 + 1)), (3, .int x14), (0, .ref (ad (10, 0, 0))), (2, .int v2)]) hX dX0_goes_160 rfl gl_c_1 (by decide) rfl ?_
        refine gz_goto (tgt := 127) hX dX0_goes_163 (by decide) ?_
        exact gz_lv [2, 3, 1, 0] rfl (ih h)
noncomputable def x0_goes (N : Nat) (Ds : gz_S) (Df : gz_R) (V : gz_V) (a1 : Int32) (a2 : Int32) : Option (gz_V × gz_R × Int32) := (if (x0_isIn a1 1 60) = 0 then some (V, Df, (-1)) else (if (x0_isIn a2 0 3) = 0 then some (V, Df, (-1)) else gz_b2 (x1_thinks N Ds Df V 2 0) (fun V3 D4 => gz_bd (x0_goes_L34 N Ds D4 a1 a2 N V3 0) (fun V6 => (if 2 ≤ a2 then gz_bd (x0_goes_L85 N Ds D4 V6 a2 N 0 0) (fun x9 => gz_bd (x0_goes_L127 N Ds D4 V6 a2 N x9 0) (fun x11 => some (V6, D4, x11))) else (if a2 = 0 then some (V6, D4, (V6 (20, 2, 0) 15)) else some (V6, D4, (V6 (20, 2, 0) 16))))))))
theorem c_x0_goes {l : Launch} {D : va_G} {aC : Nat → ClassId} {ad : gz_A0} {N : Nat} {Ds : gz_S} {Df : gz_R} {V : gz_V} {a1 : Int32} {a2 : Int32} {W1 : gz_V} {E1 : gz_R} {r : Int32} (h : x0_goes N Ds Df V a1 a2 = some (W1, E1, r)) : gz_Met l yX0_goes cX0_goes 5 (some .int) rm_x0_goes D aC ad (xw_s Ds) V (xw_c Df) [.ref (ad (10, 0, 0)), .int a1, .int a2] (gz_F1 (xw_s Ds) (xw_c E1) ad W1 (some (.int r))) 0 0 := by
  refine gu_ofW (own := RX0) (mn := "goes") (lv := [(0, .ref (ad (10, 0, 0))), (1, .int a1), (2, .int a2)]) (by decide) rfl rfl (Nat.le_of_ble_eq_true rfl) rfl ?_
  intro X hX hZ hF
  rw [x0_goes] at h
  refine gz_iload_n (q := 1) hX dX0_goes_0 rfl rfl ?_
  refine gz_iconst (v := 1) hX dX0_goes_1 gl_c_1 ?_
  refine gz_bipush (v := 60) hX dX0_goes_2 gl_b_60 ?_
  refine gu_callS (As := [.int a1, .int 1, .int 60]) hX (c_x0_isIn rfl) (lw_x0_isIn_ q502) rfl rfl nn_x0_isIn ⟨Nat.le_of_ble_eq_true rfl, Nat.le_of_ble_eq_true rfl⟩ ⟨Nat.zero_le _, Nat.zero_le _⟩ rfl rfl (Nat.le_of_ble_eq_true rfl) dX0_goes_4 rfl ?_
  refine gz_if_eq (tgt := 19) hX dX0_goes_7 (by decide) (fun c1 => ?_) (fun c1 => ?_)
  · have h := gz_ifp c1 h
    refine gz_iconst (v := (-1)) hX dX0_goes_19 gl_c_m1 ?_
    obtain ⟨e_V, e_D, e_r⟩ := gz_in3 h
    exact gu_iret hX hZ hF e_V (congrArg xw_c e_D) e_r dX0_goes_20
  · have h := gz_ifn c1 h
    refine gz_iload_n (q := 2) hX dX0_goes_10 rfl rfl ?_
    refine gz_iconst (v := 0) hX dX0_goes_11 gl_c_0 ?_
    refine gz_iconst (v := 3) hX dX0_goes_12 gl_c_3 ?_
    refine gu_callS (As := [.int a2, .int 0, .int 3]) hX (c_x0_isIn rfl) (lw_x0_isIn_ q502) rfl rfl nn_x0_isIn ⟨Nat.le_of_ble_eq_true rfl, Nat.le_of_ble_eq_true rfl⟩ ⟨Nat.zero_le _, Nat.zero_le _⟩ rfl rfl (Nat.le_of_ble_eq_true rfl) dX0_goes_13 rfl ?_
    refine gz_if_ne (tgt := 21) hX dX0_goes_16 (by decide) (fun c2 => ?_) (fun c2 => ?_)
    · have h := gz_ifn c2 h
      refine gz_aload_n (q := 0) hX dX0_goes_21 rfl rfl ?_
      refine xg_X0_27 (n2 := (20, 2, 0)) hX xs_main rfl dX0_goes_22 ?_
      refine gz_aload_n (q := 0) hX dX0_goes_25 rfl rfl ?_
      refine xg_X0_20 (n2 := (20, 0, 0)) hX xs_main rfl dX0_goes_26 ?_
      obtain ⟨V3, D4, e5, h⟩ := gz_b2_o h
      refine gu_callV (ci := 1) (n := (20, 2, 0)) (As := [.ref (ad (20, 0, 0))]) hX (c_x1_thinks (by decide) (by decide) e5) (lw_x1_thinks_ q1289) rfl rfl nn_x1_thinks ⟨Nat.le_of_ble_eq_true rfl, Nat.le_of_ble_eq_true rfl⟩ ⟨Nat.zero_le _, Nat.zero_le _⟩ (by decide) rfl (xs_M (by decide)) rfl rfl (Nat.le_of_ble_eq_true rfl) dX0_goes_29 rfl ?_
      refine gz_iconst (v := 0) hX dX0_goes_32 gl_c_0 ?_
      refine gz_istore_n (lv2 := [(3, .int 0), (0, .ref (ad (10, 0, 0))), (1, .int a1), (2, .int a2)]) hX dX0_goes_33 rfl (by decide) rfl ?_
      obtain ⟨V6, e7, h⟩ := gz_bd_o h
      refine gz_lv [1, 2, 3, 0] rfl (w_x0_goes_L34 hX hZ ?_ N e7)
      refine gz_iload_n (q := 1) hX dX0_goes_53 rfl rfl ?_
      refine gz_iconst (v := 2) hX dX0_goes_54 gl_c_2 ?_
      refine gz_icmp_ge (tgt := 80) hX dX0_goes_55 (by decide) (fun c8 => ?_) (fun c8 => ?_)
      · have h := gz_ifp c8 h
        refine gz_iconst (v := 0) hX dX0_goes_80 gl_c_0 ?_
        refine gz_istore_n (lv2 := [(3, .int 0), (0, .ref (ad (10, 0, 0))), (2, .int a2)]) hX dX0_goes_81 rfl (by decide) rfl ?_
        refine gz_iconst (v := 0) hX dX0_goes_82 gl_c_0 ?_
        refine gz_istore (lv2 := [(4, .int 0), (3, .int 0), (0, .ref (ad (10, 0, 0))), (2, .int a2)]) hX dX0_goes_83 (by decide) rfl ?_
        obtain ⟨x9, e10, h⟩ := gz_bd_o h
        refine gz_lv [2, 3, 1, 0] rfl (w_x0_goes_L85 hX hZ ?_ N e10)
        refine gz_iconst (v := 0) hX dX0_goes_124 gl_c_0 ?_
        refine gz_istore (lv2 := [(4, .int 0), (0, .ref (ad (10, 0, 0))), (2, .int a2), (3, .int x9)]) hX dX0_goes_125 (by decide) rfl ?_
        obtain ⟨x11, e12, h⟩ := gz_bd_o h
        refine gz_lv [1, 2, 3, 0] rfl (w_x0_goes_L127 hX hZ ?_ N e12)
        refine gz_iload_n (q := 0) hX dX0_goes_166 rfl rfl ?_
        obtain ⟨e_V, e_D, e_r⟩ := gz_in3 h
        exact gu_iret hX hZ hF e_V (congrArg xw_c e_D) e_r dX0_goes_167
      · have h := gz_ifn c8 h
        refine gz_iload_n (q := 1) hX dX0_goes_58 rfl rfl ?_
        refine gz_if_ne (tgt := 72) hX dX0_goes_59 (by decide) (fun c13 => ?_) (fun c13 => ?_)
        · have h := gz_ifn c13 h
          refine gz_aload_n (q := 0) hX dX0_goes_72 rfl rfl ?_
          refine xg_X0_27 (n2 := (20, 2, 0)) hX xs_main rfl dX0_goes_73 ?_
          refine xg_X0_265 hX (xs_M (by decide)) dX0_goes_76 ?_
          obtain ⟨e_V, e_D, e_r⟩ := gz_in3 h
          exact gu_iret hX hZ hF e_V (congrArg xw_c e_D) e_r dX0_goes_79
        · have h := gz_ifp c13 h
          refine gz_aload_n (q := 0) hX dX0_goes_62 rfl rfl ?_
          refine xg_X0_27 (n2 := (20, 2, 0)) hX xs_main rfl dX0_goes_63 ?_
          refine xg_X0_262 hX (xs_M (by decide)) dX0_goes_66 ?_
          refine gz_goto (tgt := 79) hX dX0_goes_69 (by decide) ?_
          obtain ⟨e_V, e_D, e_r⟩ := gz_in3 h
          exact gu_iret hX hZ hF e_V (congrArg xw_c e_D) e_r dX0_goes_79
    · have h := gz_ifp c2 h
      refine gz_iconst (v := (-1)) hX dX0_goes_19 gl_c_m1 ?_
      obtain ⟨e_V, e_D, e_r⟩ := gz_in3 h
      exact gu_iret hX hZ hF e_V (congrArg xw_c e_D) e_r dX0_goes_20
theorem lw_x0_goes_ {o : String} {i : Nat} (hl : Cond.methodLink o i yX0_goes ∈ lw_all) : GoodIn lw_all (wsV o i RX0 yX0_goes (ws_ yX0_goes cX0_goes 5 (some .int))) := lw_V hl q1286 q1287 q144 q1288
theorem nn_x0_goes : yX0_goes.cls = RX0 ∧ yX0_goes.cls ≠ "java/lang/invoke/MethodHandle" ∧ yX0_goes.cls ≠ "java/lang/invoke/VarHandle" ∧ (parseMethodDescriptor yX0_goes.desc).map (fun d => d.parameters.length) = some 2 := by decide +kernel
def rm_x0_holds : Room := { frames := 415, cells := 0, slots := 0, locals := 9573 }
noncomputable def x0_holds (N : Nat) (Ds : gz_S) (Df : gz_R) (V : gz_V) (a1 : Int32) (a2 : Int32) (a3 : Int32) : Option (gz_V × Int32) := (if (x0_areTwo V a1 a2 a3) = 0 then some (V, (-1)) else gz_bd (x2_begins_0 V 0 a1 a2 a3 0) (fun V2 => gz_b2 (x1_holds N Ds Df V2 0 a2 a1) (fun V4 r5 => some (V4, r5))))
theorem c_x0_holds {l : Launch} {D : va_G} {aC : Nat → ClassId} {ad : gz_A0} {N : Nat} {Ds : gz_S} {Df : gz_R} {V : gz_V} {a1 : Int32} {a2 : Int32} {a3 : Int32} {W1 : gz_V} {r : Int32} (h : x0_holds N Ds Df V a1 a2 a3 = some (W1, r)) : gz_Met l yX0_holds cX0_holds 4 (some .int) rm_x0_holds D aC ad (xw_s Ds) V (xw_c Df) [.ref (ad (10, 0, 0)), .int a1, .int a2, .int a3] (gz_F1 (xw_s Ds) (xw_c Df) ad W1 (some (.int r))) 0 0 := by
  refine gu_ofW (own := RX0) (mn := "holds") (lv := [(0, .ref (ad (10, 0, 0))), (1, .int a1), (2, .int a2), (3, .int a3)]) (by decide) rfl rfl (Nat.le_of_ble_eq_true rfl) rfl ?_
  intro X hX hZ hF
  rw [x0_holds] at h
  refine gz_aload_n (q := 0) hX dX0_holds_0 rfl rfl ?_
  refine gz_iload_n (q := 1) hX dX0_holds_1 rfl rfl ?_
  refine gz_iload_n (q := 2) hX dX0_holds_2 rfl rfl ?_
  refine gz_iload_n (q := 3) hX dX0_holds_3 rfl rfl ?_
  refine gu_callV (ci := 0) (n := (10, 0, 0)) (As := [.int a1, .int a2, .int a3]) hX (c_x0_areTwo rfl) (lw_x0_areTwo_ q1265) rfl rfl nn_x0_areTwo ⟨Nat.le_of_ble_eq_true rfl, Nat.le_of_ble_eq_true rfl⟩ ⟨Nat.zero_le _, Nat.zero_le _⟩ (by decide) rfl xs_main rfl rfl (Nat.le_of_ble_eq_true rfl) dX0_holds_4 rfl ?_
  refine gz_if_ne (tgt := 12) hX dX0_holds_7 (by decide) (fun c1 => ?_) (fun c1 => ?_)
  · have h := gz_ifn c1 h
    refine gz_aload_n (q := 0) hX dX0_holds_12 rfl rfl ?_
    refine xg_X0_20 (n2 := (20, 0, 0)) hX xs_main rfl dX0_holds_13 ?_
    refine xg_X0_234 (n2 := (23, 0, 0)) hX (xs_M (by decide)) rfl dX0_holds_16 ?_
    refine gz_iload_n (q := 1) hX dX0_holds_19 rfl rfl ?_
    refine gz_iload_n (q := 2) hX dX0_holds_20 rfl rfl ?_
    refine gz_iload_n (q := 3) hX dX0_holds_21 rfl rfl ?_
    refine gz_iconst (v := 0) hX dX0_holds_22 gl_c_0 ?_
    refine gz_null hX dX0_holds_23 ?_
    obtain ⟨V2, e3, h⟩ := gz_bd_o h
    refine gu_callV (ci := 2) (n := (23, 0, 0)) (As := [.int a1, .int a2, .int a3, .int 0, .null]) hX (c_x2_begins_0 (by decide) e3) (lw_x2_begins_0_ q1269) rfl rfl nn_x2_begins_0 ⟨Nat.le_of_ble_eq_true rfl, Nat.le_of_ble_eq_true rfl⟩ ⟨Nat.zero_le _, Nat.zero_le _⟩ (by decide) rfl (xs_G (by decide)) rfl rfl (Nat.le_of_ble_eq_true rfl) dX0_holds_24 rfl ?_
    refine gz_aload_n (q := 0) hX dX0_holds_27 rfl rfl ?_
    refine xg_X0_20 (n2 := (20, 0, 0)) hX xs_main rfl dX0_holds_28 ?_
    refine gz_iload_n (q := 2) hX dX0_holds_31 rfl rfl ?_
    refine gz_iload_n (q := 1) hX dX0_holds_32 rfl rfl ?_
    obtain ⟨V4, r5, e6, h⟩ := gz_b2_o h
    refine gu_callV (ci := 1) (n := (20, 0, 0)) (As := [.int a2, .int a1]) hX (c_x1_holds (by decide) e6) (lw_x1_holds_ q1275) rfl rfl nn_x1_holds ⟨Nat.le_of_ble_eq_true rfl, Nat.le_of_ble_eq_true rfl⟩ ⟨Nat.zero_le _, Nat.zero_le _⟩ (by decide) rfl (xs_M (by decide)) rfl rfl (Nat.le_of_ble_eq_true rfl) dX0_holds_33 rfl ?_
    obtain ⟨e_V, e_r⟩ := gz_in2 h
    exact gu_iret hX hZ hF e_V rfl e_r dX0_holds_36
  · have h := gz_ifp c1 h
    refine gz_iconst (v := (-1)) hX dX0_holds_10 gl_c_m1 ?_
    obtain ⟨e_V, e_r⟩ := gz_in2 h
    exact gu_iret hX hZ hF e_V rfl e_r dX0_holds_11
theorem lw_x0_holds_ {o : String} {i : Nat} (hl : Cond.methodLink o i yX0_holds ∈ lw_all) : GoodIn lw_all (wsV o i RX0 yX0_holds (ws_ yX0_holds cX0_holds 4 (some .int))) := lw_V hl q1272 q1273 q144 q1274
theorem nn_x0_holds : yX0_holds.cls = RX0 ∧ yX0_holds.cls ≠ "java/lang/invoke/MethodHandle" ∧ yX0_holds.cls ≠ "java/lang/invoke/VarHandle" ∧ (parseMethodDescriptor yX0_holds.desc).map (fun d => d.parameters.length) = some 3 := by decide +kernel
def rm_x0_passes : Room := { frames := 415, cells := 0, slots := 0, locals := 9574 }
noncomputable def x0_passes (N : Nat) (Ds : gz_S) (Df : gz_R) (V : gz_V) (a1 : Int32) (a2 : Int32) (a3 : Int32) (a4 : Int32) : Option (gz_V × Int32) := (if (x0_areTwo V a1 a2 a3) = 0 then some (V, (-1)) else (if (x0_isIn a4 0 4) = 0 then some (V, (-1)) else gz_bd (x2_begins_0 V 0 a1 a2 a3 0) (fun V3 => gz_b2 (x1_passes N Ds Df V3 0 a1 a2 a4) (fun V5 r6 => some (V5, r6)))))
theorem c_x0_passes {l : Launch} {D : va_G} {aC : Nat → ClassId} {ad : gz_A0} {N : Nat} {Ds : gz_S} {Df : gz_R} {V : gz_V} {a1 : Int32} {a2 : Int32} {a3 : Int32} {a4 : Int32} {W1 : gz_V} {r : Int32} (h : x0_passes N Ds Df V a1 a2 a3 a4 = some (W1, r)) : gz_Met l yX0_passes cX0_passes 5 (some .int) rm_x0_passes D aC ad (xw_s Ds) V (xw_c Df) [.ref (ad (10, 0, 0)), .int a1, .int a2, .int a3, .int a4] (gz_F1 (xw_s Ds) (xw_c Df) ad W1 (some (.int r))) 0 0 := by
  refine gu_ofW (own := RX0) (mn := "passes") (lv := [(0, .ref (ad (10, 0, 0))), (1, .int a1), (2, .int a2), (3, .int a3), (4, .int a4)]) (by decide) rfl rfl (Nat.le_of_ble_eq_true rfl) rfl ?_
  intro X hX hZ hF
  rw [x0_passes] at h
  refine gz_aload_n (q := 0) hX dX0_passes_0 rfl rfl ?_
  refine gz_iload_n (q := 1) hX dX0_passes_1 rfl rfl ?_
  refine gz_iload_n (q := 2) hX dX0_passes_2 rfl rfl ?_
  refine gz_iload_n (q := 3) hX dX0_passes_3 rfl rfl ?_
  refine gu_callV (ci := 0) (n := (10, 0, 0)) (As := [.int a1, .int a2, .int a3]) hX (c_x0_areTwo rfl) (lw_x0_areTwo_ q1265) rfl rfl nn_x0_areTwo ⟨Nat.le_of_ble_eq_true rfl, Nat.le_of_ble_eq_true rfl⟩ ⟨Nat.zero_le _, Nat.zero_le _⟩ (by decide) rfl xs_main rfl rfl (Nat.le_of_ble_eq_true rfl) dX0_passes_4 rfl ?_
  refine gz_if_eq (tgt := 20) hX dX0_passes_7 (by decide) (fun c1 => ?_) (fun c1 => ?_)
  · have h := gz_ifp c1 h
    refine gz_iconst (v := (-1)) hX dX0_passes_20 gl_c_m1 ?_
    obtain ⟨e_V, e_r⟩ := gz_in2 h
    exact gu_iret hX hZ hF e_V rfl e_r dX0_passes_21
  · have h := gz_ifn c1 h
    refine gz_iload (q := 4) hX dX0_passes_10 rfl ?_
    refine gz_iconst (v := 0) hX dX0_passes_12 gl_c_0 ?_
    refine gz_iconst (v := 4) hX dX0_passes_13 gl_c_4 ?_
    refine gu_callS (As := [.int a4, .int 0, .int 4]) hX (c_x0_isIn rfl) (lw_x0_isIn_ q502) rfl rfl nn_x0_isIn ⟨Nat.le_of_ble_eq_true rfl, Nat.le_of_ble_eq_true rfl⟩ ⟨Nat.zero_le _, Nat.zero_le _⟩ rfl rfl (Nat.le_of_ble_eq_true rfl) dX0_passes_14 rfl ?_
    refine gz_if_ne (tgt := 22) hX dX0_passes_17 (by decide) (fun c2 => ?_) (fun c2 => ?_)
    · have h := gz_ifn c2 h
      refine gz_aload_n (q := 0) hX dX0_passes_22 rfl rfl ?_
      refine xg_X0_20 (n2 := (20, 0, 0)) hX xs_main rfl dX0_passes_23 ?_
      refine xg_X0_234 (n2 := (23, 0, 0)) hX (xs_M (by decide)) rfl dX0_passes_26 ?_
      refine gz_iload_n (q := 1) hX dX0_passes_29 rfl rfl ?_
      refine gz_iload_n (q := 2) hX dX0_passes_30 rfl rfl ?_
      refine gz_iload_n (q := 3) hX dX0_passes_31 rfl rfl ?_
      refine gz_iconst (v := 0) hX dX0_passes_32 gl_c_0 ?_
      refine gz_null hX dX0_passes_33 ?_
      obtain ⟨V3, e4, h⟩ := gz_bd_o h
      refine gu_callV (ci := 2) (n := (23, 0, 0)) (As := [.int a1, .int a2, .int a3, .int 0, .null]) hX (c_x2_begins_0 (by decide) e4) (lw_x2_begins_0_ q1269) rfl rfl nn_x2_begins_0 ⟨Nat.le_of_ble_eq_true rfl, Nat.le_of_ble_eq_true rfl⟩ ⟨Nat.zero_le _, Nat.zero_le _⟩ (by decide) rfl (xs_G (by decide)) rfl rfl (Nat.le_of_ble_eq_true rfl) dX0_passes_34 rfl ?_
      refine gz_aload_n (q := 0) hX dX0_passes_37 rfl rfl ?_
      refine xg_X0_20 (n2 := (20, 0, 0)) hX xs_main rfl dX0_passes_38 ?_
      refine gz_iload_n (q := 1) hX dX0_passes_41 rfl rfl ?_
      refine gz_iload_n (q := 2) hX dX0_passes_42 rfl rfl ?_
      refine gz_iload (q := 4) hX dX0_passes_43 rfl ?_
      obtain ⟨V5, r6, e7, h⟩ := gz_b2_o h
      refine gu_callV (ci := 1) (n := (20, 0, 0)) (As := [.int a1, .int a2, .int a4]) hX (c_x1_passes (by decide) e7) (lw_x1_passes_ q1270) rfl rfl nn_x1_passes ⟨Nat.le_of_ble_eq_true rfl, Nat.le_of_ble_eq_true rfl⟩ ⟨Nat.zero_le _, Nat.zero_le _⟩ (by decide) rfl (xs_M (by decide)) rfl rfl (Nat.le_of_ble_eq_true rfl) dX0_passes_45 rfl ?_
      obtain ⟨e_V, e_r⟩ := gz_in2 h
      exact gu_iret hX hZ hF e_V rfl e_r dX0_passes_48
    · have h := gz_ifp c2 h
      refine gz_iconst (v := (-1)) hX dX0_passes_20 gl_c_m1 ?_
      obtain ⟨e_V, e_r⟩ := gz_in2 h
      exact gu_iret hX hZ hF e_V rfl e_r dX0_passes_21
theorem lw_x0_passes_ {o : String} {i : Nat} (hl : Cond.methodLink o i yX0_passes ∈ lw_all) : GoodIn lw_all (wsV o i RX0 yX0_passes (ws_ yX0_passes cX0_passes 5 (some .int))) := lw_V hl q1262 q1263 q144 q1264
theorem nn_x0_passes : yX0_passes.cls = RX0 ∧ yX0_passes.cls ≠ "java/lang/invoke/MethodHandle" ∧ yX0_passes.cls ≠ "java/lang/invoke/VarHandle" ∧ (parseMethodDescriptor yX0_passes.desc).map (fun d => d.parameters.length) = some 4 := by decide +kernel
theorem gl_s_m1000 : (Int16.ofInt (-1000)).toInt32 = (-1000) := by decide
def rm_x0_would : Room := { frames := 418, cells := 0, slots := 0, locals := 9649 }
noncomputable def x0_would (N : Nat) (Ds : gz_S) (Df : gz_R) (V : gz_V) (a1 : Int32) (a2 : Int32) (a3 : Int32) (a4 : Int32) : Option (gz_V × gz_R × Int32) := gz_b2 (x1_thinks N Ds Df V 2 0) (fun V1 D2 => (if (x0_canTell V1 a1 a2 a3 a4) = 0 then some (V1, D2, (-1000)) else gz_b2 (x1_canBuy N Ds D2 V1 2 a1 a2 a3 a4) (fun V5 r6 => (if r6 = 0 then some (V5, D2, (-1000)) else gz_b2 (x1_buys N Ds D2 V5 2 a2) (fun V9 r10 => gz_gd (gz_inb a1 12 = true) (gz_bd (x0_at a1) (fun w13 => some (V9, D2, ((V9 (41, 2, a1.toNatClampNeg) (0 : Int32).toNatClampNeg) - (V9 (41, 0, w13) (0 : Int32).toNatClampNeg))))))))))
theorem c_x0_would {l : Launch} {D : va_G} {aC : Nat → ClassId} {ad : gz_A0} {N : Nat} {Ds : gz_S} {Df : gz_R} {V : gz_V} {a1 : Int32} {a2 : Int32} {a3 : Int32} {a4 : Int32} {W1 : gz_V} {E1 : gz_R} {r : Int32} (h : x0_would N Ds Df V a1 a2 a3 a4 = some (W1, E1, r)) : gz_Met l yX0_would cX0_would 5 (some .int) rm_x0_would D aC ad (xw_s Ds) V (xw_c Df) [.ref (ad (10, 0, 0)), .int a1, .int a2, .int a3, .int a4] (gz_F1 (xw_s Ds) (xw_c E1) ad W1 (some (.int r))) 0 0 := by
  refine gu_ofW (own := RX0) (mn := "would") (lv := [(0, .ref (ad (10, 0, 0))), (1, .int a1), (2, .int a2), (3, .int a3), (4, .int a4)]) (by decide) rfl rfl (Nat.le_of_ble_eq_true rfl) rfl ?_
  intro X hX hZ hF
  rw [x0_would] at h
  refine gz_aload_n (q := 0) hX dX0_would_0 rfl rfl ?_
  refine xg_X0_27 (n2 := (20, 2, 0)) hX xs_main rfl dX0_would_1 ?_
  refine gz_aload_n (q := 0) hX dX0_would_4 rfl rfl ?_
  refine xg_X0_20 (n2 := (20, 0, 0)) hX xs_main rfl dX0_would_5 ?_
  obtain ⟨V1, D2, e3, h⟩ := gz_b2_o h
  refine gu_callV (ci := 1) (n := (20, 2, 0)) (As := [.ref (ad (20, 0, 0))]) hX (c_x1_thinks (by decide) (by decide) e3) (lw_x1_thinks_ q1289) rfl rfl nn_x1_thinks ⟨Nat.le_of_ble_eq_true rfl, Nat.le_of_ble_eq_true rfl⟩ ⟨Nat.zero_le _, Nat.zero_le _⟩ (by decide) rfl (xs_M (by decide)) rfl rfl (Nat.le_of_ble_eq_true rfl) dX0_would_8 rfl ?_
  refine gz_aload_n (q := 0) hX dX0_would_11 rfl rfl ?_
  refine gz_iload_n (q := 1) hX dX0_would_12 rfl rfl ?_
  refine gz_iload_n (q := 2) hX dX0_would_13 rfl rfl ?_
  refine gz_iload_n (q := 3) hX dX0_would_14 rfl rfl ?_
  refine gz_iload (q := 4) hX dX0_would_15 rfl ?_
  refine gu_callV (ci := 0) (n := (10, 0, 0)) (As := [.int a1, .int a2, .int a3, .int a4]) hX (c_x0_canTell rfl) (lw_x0_canTell_ q1080) rfl rfl nn_x0_canTell ⟨Nat.le_of_ble_eq_true rfl, Nat.le_of_ble_eq_true rfl⟩ ⟨Nat.zero_le _, Nat.zero_le _⟩ (by decide) rfl xs_main rfl rfl (Nat.le_of_ble_eq_true rfl) dX0_would_17 rfl ?_
  refine gz_if_eq (tgt := 38) hX dX0_would_20 (by decide) (fun c4 => ?_) (fun c4 => ?_)
  · have h := gz_ifp c4 h
    refine gz_sipush (v := (-1000)) hX dX0_would_38 gl_s_m1000 ?_
    obtain ⟨e_V, e_D, e_r⟩ := gz_in3 h
    exact gu_iret hX hZ hF e_V (congrArg xw_c e_D) e_r dX0_would_41
  · have h := gz_ifn c4 h
    refine gz_aload_n (q := 0) hX dX0_would_23 rfl rfl ?_
    refine xg_X0_27 (n2 := (20, 2, 0)) hX xs_main rfl dX0_would_24 ?_
    refine gz_iload_n (q := 1) hX dX0_would_27 rfl rfl ?_
    refine gz_iload_n (q := 2) hX dX0_would_28 rfl rfl ?_
    refine gz_iload_n (q := 3) hX dX0_would_29 rfl rfl ?_
    refine gz_iload (q := 4) hX dX0_would_30 rfl ?_
    obtain ⟨V5, r6, e7, h⟩ := gz_b2_o h
    refine gu_callV (ci := 1) (n := (20, 2, 0)) (As := [.int a1, .int a2, .int a3, .int a4]) hX (c_x1_canBuy (by decide) e7) (lw_x1_canBuy_ q1087) rfl rfl nn_x1_canBuy ⟨Nat.le_of_ble_eq_true rfl, Nat.le_of_ble_eq_true rfl⟩ ⟨Nat.zero_le _, Nat.zero_le _⟩ (by decide) rfl (xs_M (by decide)) rfl rfl (Nat.le_of_ble_eq_true rfl) dX0_would_32 rfl ?_
    refine gz_if_ne (tgt := 42) hX dX0_would_35 (by decide) (fun c8 => ?_) (fun c8 => ?_)
    · have h := gz_ifn c8 h
      refine gz_aload_n (q := 0) hX dX0_would_42 rfl rfl ?_
      refine xg_X0_27 (n2 := (20, 2, 0)) hX xs_main rfl dX0_would_43 ?_
      refine gz_iload_n (q := 2) hX dX0_would_46 rfl rfl ?_
      obtain ⟨V9, r10, e11, h⟩ := gz_b2_o h
      refine gu_callV (ci := 1) (n := (20, 2, 0)) (As := [.int a2]) hX (c_x1_buys (by decide) e11) (lw_x1_buys_ q1158) rfl rfl nn_x1_buys ⟨Nat.le_of_ble_eq_true rfl, Nat.le_of_ble_eq_true rfl⟩ ⟨Nat.zero_le _, Nat.zero_le _⟩ (by decide) rfl (xs_M (by decide)) rfl rfl (Nat.le_of_ble_eq_true rfl) dX0_would_47 rfl ?_
      refine gz_pop hX dX0_would_50 rfl ?_
      refine gz_aload_n (q := 0) hX dX0_would_51 rfl rfl ?_
      refine xg_X0_27 (n2 := (20, 2, 0)) hX xs_main rfl dX0_would_52 ?_
      refine xg_X0_143 (n2 := (21, 2, 0)) hX (xs_M (by decide)) rfl dX0_would_55 ?_
      refine gz_iload_n (q := 1) hX dX0_would_58 rfl rfl ?_
      obtain ⟨b12, h⟩ := gz_gd_o h
      refine gz_aald (L := 12) (t := 110) (t0 := 3) (ty := (.object "ClaspedFair$Person")) (n2 := (40, 2, a1.toNatClampNeg)) hX (by decide) (by decide) (fun _ => rfl) rfl (xs_PA (by decide)) (gz_inb_o b12) (xr_PA (gz_inb_lt b12)) dX0_would_59 ?_
      refine xg_X0_188 (n2 := (41, 2, a1.toNatClampNeg)) hX (xs_P (by decide) (gz_inb_lt b12)) rfl dX0_would_60 ?_
      refine gz_iconst (v := 0) hX dX0_would_63 gl_c_0 ?_
      refine gz_iald (L := 5) hX (xs_T (by decide) (gz_inb_lt b12)) (gz_inb_o (by decide)) dX0_would_64 ?_
      refine gz_aload_n (q := 0) hX dX0_would_65 rfl rfl ?_
      refine gz_iload_n (q := 1) hX dX0_would_66 rfl rfl ?_
      obtain ⟨w13, e14, h⟩ := gz_bd_o h
      refine gu_callV (ci := 0) (n := (10, 0, 0)) (As := [.int a1]) hX (c_x0_at e14) (lw_x0_at_ q1047) rfl rfl nn_x0_at ⟨Nat.le_of_ble_eq_true rfl, Nat.le_of_ble_eq_true rfl⟩ ⟨Nat.zero_le _, Nat.zero_le _⟩ (by decide) rfl xs_main rfl rfl (Nat.le_of_ble_eq_true rfl) dX0_would_67 rfl ?_
      refine xg_X0_188 (n2 := (41, 0, w13)) hX (xs_P (by decide) (b_x0_at e14)) rfl dX0_would_70 ?_
      refine gz_iconst (v := 0) hX dX0_would_73 gl_c_0 ?_
      refine gz_iald (L := 5) hX (xs_T (by decide) (b_x0_at e14)) (gz_inb_o (by decide)) dX0_would_74 ?_
      refine gz_isub hX dX0_would_75 ?_
      obtain ⟨e_V, e_D, e_r⟩ := gz_in3 h
      exact gu_iret hX hZ hF e_V (congrArg xw_c e_D) e_r dX0_would_76
    · have h := gz_ifp c8 h
      refine gz_sipush (v := (-1000)) hX dX0_would_38 gl_s_m1000 ?_
      obtain ⟨e_V, e_D, e_r⟩ := gz_in3 h
      exact gu_iret hX hZ hF e_V (congrArg xw_c e_D) e_r dX0_would_41
theorem lw_x0_would_ {o : String} {i : Nat} (hl : Cond.methodLink o i yX0_would ∈ lw_all) : GoodIn lw_all (wsV o i RX0 yX0_would (ws_ yX0_would cX0_would 5 (some .int))) := lw_V hl q1295 q1296 q144 q1297
theorem nn_x0_would : yX0_would.cls = RX0 ∧ yX0_would.cls ≠ "java/lang/invoke/MethodHandle" ∧ yX0_would.cls ≠ "java/lang/invoke/VarHandle" ∧ (parseMethodDescriptor yX0_would.desc).map (fun d => d.parameters.length) = some 4 := by decide +kernel
