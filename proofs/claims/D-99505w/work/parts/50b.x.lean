/-! CLASPEDFAIR, walked (static part). Printed by wip/D-99505w/gen/mkx.py -/
set_option maxRecDepth 100000
theorem gl_b_7 : (Int8.ofInt 7).toInt32 = 7 := by decide
theorem gl_s_999 : (Int16.ofInt 999).toInt32 = 999 := by decide
def rm_x0_canSet : Room := { frames := 2, cells := 0, slots := 0, locals := 43 }
noncomputable def x0_canSet (V : gz_V) (a1 : Int32) (a2 : Int32) (a3 : Int32) : Int32 := (if (x0_isIn a1 0 5) = 0 then (if (x0_isIn a1 6 7) = 0 then 0 else (if (x0_isHorse V a2) = 0 then 0 else gz_let (if a1 = 6 then (999 : Int32) else (9 : Int32)) (fun y4 => (if (x0_isIn a3 0 y4) = 0 then 0 else 1)))) else (if (x0_isPerson V a2) = 0 then 0 else gz_let (if a1 = 5 then (9999 : Int32) else (999 : Int32)) (fun y10 => (if (x0_isIn a3 0 y10) = 0 then 0 else 1))))
theorem c_x0_canSet {l : Launch} {D : va_G} {aC : Nat → ClassId} {ad : gz_A0} {Ds : gz_S} {Df : gz_R} {V : gz_V} {a1 : Int32} {a2 : Int32} {a3 : Int32} {r : Int32} (h : x0_canSet V a1 a2 a3 = r) : gz_Met l yX0_canSet cX0_canSet 4 (some .boolean) rm_x0_canSet D aC ad (xw_s Ds) V (xw_c Df) [.ref (ad (10, 0, 0)), .int a1, .int a2, .int a3] (gz_F1 (xw_s Ds) (xw_c Df) ad V (some (.int r))) 0 0 := by
  refine gu_ofW (own := RX0) (mn := "canSet") (lv := [(0, .ref (ad (10, 0, 0))), (1, .int a1), (2, .int a2), (3, .int a3)]) (by decide) rfl rfl (Nat.le_of_ble_eq_true rfl) rfl ?_
  intro X hX hZ hF
  rw [x0_canSet] at h
  refine gz_iload_n (q := 1) hX dX0_canSet_0 rfl rfl ?_
  refine gz_iconst (v := 0) hX dX0_canSet_1 gl_c_0 ?_
  refine gz_iconst (v := 5) hX dX0_canSet_2 gl_c_5 ?_
  refine gu_callS (As := [.int a1, .int 0, .int 5]) hX (c_x0_isIn rfl) (lw_x0_isIn_ q502) rfl rfl nn_x0_isIn ⟨Nat.le_of_ble_eq_true rfl, Nat.le_of_ble_eq_true rfl⟩ ⟨Nat.zero_le _, Nat.zero_le _⟩ rfl rfl (Nat.le_of_ble_eq_true rfl) dX0_canSet_3 rfl ?_
  refine gz_if_eq (tgt := 45) hX dX0_canSet_6 (by decide) (fun c1 => ?_) (fun c1 => ?_)
  · have h := gz_ifp c1 h
    refine gz_iload_n (q := 1) hX dX0_canSet_45 rfl rfl ?_
    refine gz_bipush (v := 6) hX dX0_canSet_46 gl_b_6 ?_
    refine gz_bipush (v := 7) hX dX0_canSet_48 gl_b_7 ?_
    refine gu_callS (As := [.int a1, .int 6, .int 7]) hX (c_x0_isIn rfl) (lw_x0_isIn_ q502) rfl rfl nn_x0_isIn ⟨Nat.le_of_ble_eq_true rfl, Nat.le_of_ble_eq_true rfl⟩ ⟨Nat.zero_le _, Nat.zero_le _⟩ rfl rfl (Nat.le_of_ble_eq_true rfl) dX0_canSet_50 rfl ?_
    refine gz_if_eq (tgt := 90) hX dX0_canSet_53 (by decide) (fun c2 => ?_) (fun c2 => ?_)
    · have h := gz_ifp c2 h
      refine gz_iconst (v := 0) hX dX0_canSet_90 gl_c_0 ?_
      exact gu_zret hX hZ rfl hF rfl rfl h dX0_canSet_91
    · have h := gz_ifn c2 h
      refine gz_aload_n (q := 0) hX dX0_canSet_56 rfl rfl ?_
      refine gz_iload_n (q := 2) hX dX0_canSet_57 rfl rfl ?_
      refine gu_callV (ci := 0) (n := (10, 0, 0)) (As := [.int a2]) hX (c_x0_isHorse rfl) (lw_x0_isHorse_ q1072) rfl rfl nn_x0_isHorse ⟨Nat.le_of_ble_eq_true rfl, Nat.le_of_ble_eq_true rfl⟩ ⟨Nat.zero_le _, Nat.zero_le _⟩ (by decide) rfl xs_main rfl rfl (Nat.le_of_ble_eq_true rfl) dX0_canSet_58 rfl ?_
      refine gz_if_eq (tgt := 90) hX dX0_canSet_61 (by decide) (fun c3 => ?_) (fun c3 => ?_)
      · have h := gz_ifp c3 h
        refine gz_iconst (v := 0) hX dX0_canSet_90 gl_c_0 ?_
        exact gu_zret hX hZ rfl hF rfl rfl h dX0_canSet_91
      · have h := gz_ifn c3 h
        refine gz_iload_n (q := 3) hX dX0_canSet_64 rfl rfl ?_
        refine gz_iconst (v := 0) hX dX0_canSet_65 gl_c_0 ?_
        refine gz_iload_n (q := 1) hX dX0_canSet_66 rfl rfl ?_
        refine gz_bipush (v := 6) hX dX0_canSet_67 gl_b_6 ?_
        obtain ⟨y4, g5, h⟩ := gz_let_o h
        have J6 : gW X 4 (xw_s Ds) (xw_c Df) ad V 0 0 80 [] [.int y4, .int 0, .int a3] := by
          refine gu_callS (As := [.int a3, .int 0, .int y4]) hX (c_x0_isIn rfl) (lw_x0_isIn_ q502) rfl rfl nn_x0_isIn ⟨Nat.le_of_ble_eq_true rfl, Nat.le_of_ble_eq_true rfl⟩ ⟨Nat.zero_le _, Nat.zero_le _⟩ rfl rfl (Nat.le_of_ble_eq_true rfl) dX0_canSet_80 rfl ?_
          refine gz_if_eq (tgt := 90) hX dX0_canSet_83 (by decide) (fun c8 => ?_) (fun c8 => ?_)
          · have h := gz_ifp c8 h
            refine gz_iconst (v := 0) hX dX0_canSet_90 gl_c_0 ?_
            exact gu_zret hX hZ rfl hF rfl rfl h dX0_canSet_91
          · have h := gz_ifn c8 h
            refine gz_iconst (v := 1) hX dX0_canSet_86 gl_c_1 ?_
            refine gz_goto (tgt := 91) hX dX0_canSet_87 (by decide) ?_
            exact gu_zret hX hZ rfl hF rfl rfl h dX0_canSet_91
        refine gz_icmp_ne (tgt := 78) hX dX0_canSet_69 (by decide) (fun c7 => ?_) (fun c7 => ?_)
        · have g5 := gz_ifn c7 g5
          refine gz_bipush (v := 9) hX dX0_canSet_78 gl_b_9 ?_
          obtain rfl := g5
          exact gz_lv [] rfl J6
        · have g5 := gz_ifp c7 g5
          refine gz_sipush (v := 999) hX dX0_canSet_72 gl_s_999 ?_
          refine gz_goto (tgt := 80) hX dX0_canSet_75 (by decide) ?_
          obtain rfl := g5
          exact gz_lv [] rfl J6
  · have h := gz_ifn c1 h
    refine gz_aload_n (q := 0) hX dX0_canSet_9 rfl rfl ?_
    refine gz_iload_n (q := 2) hX dX0_canSet_10 rfl rfl ?_
    refine gu_callV (ci := 0) (n := (10, 0, 0)) (As := [.int a2]) hX (c_x0_isPerson rfl) (lw_x0_isPerson_ q1059) rfl rfl nn_x0_isPerson ⟨Nat.le_of_ble_eq_true rfl, Nat.le_of_ble_eq_true rfl⟩ ⟨Nat.zero_le _, Nat.zero_le _⟩ (by decide) rfl xs_main rfl rfl (Nat.le_of_ble_eq_true rfl) dX0_canSet_11 rfl ?_
    refine gz_if_eq (tgt := 43) hX dX0_canSet_14 (by decide) (fun c9 => ?_) (fun c9 => ?_)
    · have h := gz_ifp c9 h
      refine gz_iconst (v := 0) hX dX0_canSet_43 gl_c_0 ?_
      exact gu_zret hX hZ rfl hF rfl rfl h dX0_canSet_44
    · have h := gz_ifn c9 h
      refine gz_iload_n (q := 3) hX dX0_canSet_17 rfl rfl ?_
      refine gz_iconst (v := 0) hX dX0_canSet_18 gl_c_0 ?_
      refine gz_iload_n (q := 1) hX dX0_canSet_19 rfl rfl ?_
      refine gz_iconst (v := 5) hX dX0_canSet_20 gl_c_5 ?_
      obtain ⟨y10, g11, h⟩ := gz_let_o h
      have J12 : gW X 4 (xw_s Ds) (xw_c Df) ad V 0 0 33 [] [.int y10, .int 0, .int a3] := by
        refine gu_callS (As := [.int a3, .int 0, .int y10]) hX (c_x0_isIn rfl) (lw_x0_isIn_ q502) rfl rfl nn_x0_isIn ⟨Nat.le_of_ble_eq_true rfl, Nat.le_of_ble_eq_true rfl⟩ ⟨Nat.zero_le _, Nat.zero_le _⟩ rfl rfl (Nat.le_of_ble_eq_true rfl) dX0_canSet_33 rfl ?_
        refine gz_if_eq (tgt := 43) hX dX0_canSet_36 (by decide) (fun c14 => ?_) (fun c14 => ?_)
        · have h := gz_ifp c14 h
          refine gz_iconst (v := 0) hX dX0_canSet_43 gl_c_0 ?_
          exact gu_zret hX hZ rfl hF rfl rfl h dX0_canSet_44
        · have h := gz_ifn c14 h
          refine gz_iconst (v := 1) hX dX0_canSet_39 gl_c_1 ?_
          refine gz_goto (tgt := 44) hX dX0_canSet_40 (by decide) ?_
          exact gu_zret hX hZ rfl hF rfl rfl h dX0_canSet_44
      refine gz_icmp_ne (tgt := 30) hX dX0_canSet_21 (by decide) (fun c13 => ?_) (fun c13 => ?_)
      · have g11 := gz_ifn c13 g11
        refine gz_sipush (v := 999) hX dX0_canSet_30 gl_s_999 ?_
        obtain rfl := g11
        exact gz_lv [] rfl J12
      · have g11 := gz_ifp c13 g11
        refine gz_sipush (v := 9999) hX dX0_canSet_24 gl_s_9999 ?_
        refine gz_goto (tgt := 33) hX dX0_canSet_27 (by decide) ?_
        obtain rfl := g11
        exact gz_lv [] rfl J12
theorem lw_x0_canSet_ {o : String} {i : Nat} (hl : Cond.methodLink o i yX0_canSet ∈ lw_all) : GoodIn lw_all (wsV o i RX0 yX0_canSet (ws_ yX0_canSet cX0_canSet 4 (some .boolean))) := lw_V hl q1070 qs32 q144 q1071
theorem nn_x0_canSet : yX0_canSet.cls = RX0 ∧ yX0_canSet.cls ≠ "java/lang/invoke/MethodHandle" ∧ yX0_canSet.cls ≠ "java/lang/invoke/VarHandle" ∧ (parseMethodDescriptor yX0_canSet.desc).map (fun d => d.parameters.length) = some 3 := by decide +kernel
theorem b_x0_canSet {V : gz_V} {a1 : Int32} {a2 : Int32} {a3 : Int32} : x0_canSet V a1 a2 a3 = 0 ∨ x0_canSet V a1 a2 a3 = 1 := by
  unfold x0_canSet
  try simp only [gz_let]
  repeat' split
  all_goals first | exact Or.inl rfl | exact Or.inr rfl | exact b_x0_isIn | exact b_x0_isPerson | exact b_x0_isIn | exact b_x0_isIn | exact b_x0_isHorse | exact b_x0_isIn
def rm_x1_canClasp : Room := { frames := 1, cells := 0, slots := 0, locals := 25 }
noncomputable def x1_canClasp (V : gz_V) (u1 : Nat) (a1 : Int32) (a2 : Int32) (a3 : Int32) : Option (gz_V × Int32) := (if a1 = a2 then some (V, 0) else gz_bd (x1_isSlung V u1 a1 a2) (fun r2 => (if r2 = 0 then gz_bd (x2_begins_0 V u1 a1 a2 a3 0) (fun V5 => some (V5, 1)) else some (V, 0))))
theorem c_x1_canClasp {l : Launch} {D : va_G} {aC : Nat → ClassId} {ad : gz_A0} {Ds : gz_S} {Df : gz_R} {V : gz_V} {u1 : Nat} {a1 : Int32} {a2 : Int32} {a3 : Int32} {W1 : gz_V} {r : Int32} (hu1 : u1 < 9) (h : x1_canClasp V u1 a1 a2 a3 = some (W1, r)) : gz_Met l yX1_canClasp cX1_canClasp 4 (some .boolean) rm_x1_canClasp D aC ad (xw_s Ds) V (xw_c Df) [.ref (ad (20, u1, 0)), .int a1, .int a2, .int a3] (gz_F1 (xw_s Ds) (xw_c Df) ad W1 (some (.int r))) 0 0 := by
  refine gu_ofW (own := RX1) (mn := "canClasp") (lv := [(0, .ref (ad (20, u1, 0))), (1, .int a1), (2, .int a2), (3, .int a3)]) (by decide) rfl rfl (Nat.le_of_ble_eq_true rfl) rfl ?_
  intro X hX hZ hF
  rw [x1_canClasp] at h
  refine gz_iload_n (q := 1) hX dX1_canClasp_0 rfl rfl ?_
  refine gz_iload_n (q := 2) hX dX1_canClasp_1 rfl rfl ?_
  refine gz_icmp_eq (tgt := 14) hX dX1_canClasp_2 (by decide) (fun c1 => ?_) (fun c1 => ?_)
  · have h := gz_ifp c1 h
    refine gz_iconst (v := 0) hX dX1_canClasp_14 gl_c_0 ?_
    obtain ⟨e_V, e_r⟩ := gz_in2 h
    exact gu_zret hX hZ rfl hF e_V rfl e_r dX1_canClasp_15
  · have h := gz_ifn c1 h
    refine gz_aload_n (q := 0) hX dX1_canClasp_5 rfl rfl ?_
    refine gz_iload_n (q := 1) hX dX1_canClasp_6 rfl rfl ?_
    refine gz_iload_n (q := 2) hX dX1_canClasp_7 rfl rfl ?_
    obtain ⟨r2, e3, h⟩ := gz_bd_o h
    refine gu_callV (ci := 1) (n := (20, u1, 0)) (As := [.int a1, .int a2]) hX (c_x1_isSlung hu1 e3) (lw_x1_isSlung_ q1091) rfl rfl nn_x1_isSlung ⟨Nat.le_of_ble_eq_true rfl, Nat.le_of_ble_eq_true rfl⟩ ⟨Nat.zero_le _, Nat.zero_le _⟩ (by decide) rfl (xs_M hu1) rfl rfl (Nat.le_of_ble_eq_true rfl) dX1_canClasp_8 rfl ?_
    refine gz_if_eq (tgt := 16) hX dX1_canClasp_11 (by decide) (fun c4 => ?_) (fun c4 => ?_)
    · have h := gz_ifp c4 h
      refine gz_aload_n (q := 0) hX dX1_canClasp_16 rfl rfl ?_
      refine xg_X1_26 (n2 := (23, u1, 0)) hX (xs_M hu1) rfl dX1_canClasp_17 ?_
      refine gz_iload_n (q := 1) hX dX1_canClasp_20 rfl rfl ?_
      refine gz_iload_n (q := 2) hX dX1_canClasp_21 rfl rfl ?_
      refine gz_iload_n (q := 3) hX dX1_canClasp_22 rfl rfl ?_
      refine gz_iconst (v := 0) hX dX1_canClasp_23 gl_c_0 ?_
      refine gz_null hX dX1_canClasp_24 ?_
      obtain ⟨V5, e6, h⟩ := gz_bd_o h
      refine gu_callV (ci := 2) (n := (23, u1, 0)) (As := [.int a1, .int a2, .int a3, .int 0, .null]) hX (c_x2_begins_0 hu1 e6) (lw_x2_begins_0_ q1095) rfl rfl nn_x2_begins_0 ⟨Nat.le_of_ble_eq_true rfl, Nat.le_of_ble_eq_true rfl⟩ ⟨Nat.zero_le _, Nat.zero_le _⟩ (by decide) rfl (xs_G hu1) rfl rfl (Nat.le_of_ble_eq_true rfl) dX1_canClasp_25 rfl ?_
      refine gz_iconst (v := 1) hX dX1_canClasp_28 gl_c_1 ?_
      obtain ⟨e_V, e_r⟩ := gz_in2 h
      exact gu_zret hX hZ rfl hF e_V rfl e_r dX1_canClasp_29
    · have h := gz_ifn c4 h
      refine gz_iconst (v := 0) hX dX1_canClasp_14 gl_c_0 ?_
      obtain ⟨e_V, e_r⟩ := gz_in2 h
      exact gu_zret hX hZ rfl hF e_V rfl e_r dX1_canClasp_15
theorem lw_x1_canClasp_ {o : String} {i : Nat} (hl : Cond.methodLink o i yX1_canClasp ∈ lw_all) : GoodIn lw_all (wsV o i RX1 yX1_canClasp (ws_ yX1_canClasp cX1_canClasp 4 (some .boolean))) := lw_V hl q1202 q1203 q145 q1204
theorem nn_x1_canClasp : yX1_canClasp.cls = RX1 ∧ yX1_canClasp.cls ≠ "java/lang/invoke/MethodHandle" ∧ yX1_canClasp.cls ≠ "java/lang/invoke/VarHandle" ∧ (parseMethodDescriptor yX1_canClasp.desc).map (fun d => d.parameters.length) = some 3 := by decide +kernel
theorem gl_b_20 : (Int8.ofInt 20).toInt32 = 20 := by decide
def rm_x0_cold : Room := { frames := 2, cells := 0, slots := 0, locals := 43 }
noncomputable def x0_cold_L27 (N : Nat) (Ds : gz_S) (Df : gz_R) (V : gz_V) (v2 : Int32) : Nat → Int32 → Int32 → Option (Int32 × Int32)
  | 0, _, _ => none
  | n + 1, v3, v4 => (if v2 = (-1) then gz_bd (x0_besideKin N Ds Df V v3) (fun r6 => (if r6 = v3 then some (v3, v4) else gz_bd (x0_besideKin N Ds Df V v3) (fun r9 => x0_cold_L27 N Ds Df V v2 n r9 (v4 + 1)))) else (if v2 ≤ v4 then some (v3, v4) else gz_bd (x0_besideKin N Ds Df V v3) (fun r12 => (if r12 = v3 then some (v3, v4) else gz_bd (x0_besideKin N Ds Df V v3) (fun r15 => x0_cold_L27 N Ds Df V v2 n r15 (v4 + 1))))))
theorem w_x0_cold_L27 {X : gz_X} {ad : gz_A0} {N : Nat} {Ds : gz_S} {Df : gz_R} {V : gz_V} {v2 : Int32} {o3 : Int32} {o4 : Int32} (hX : gz_ok X cX0_cold RX0 "cold" 5 rm_x0_cold (some .int)) (hZ : gz_Z X) (k : gW X 5 (xw_s Ds) (xw_c Df) ad V 0 0 59 [(2, .int v2), (3, .int o3), (4, .int o4)] []) : ∀ (n : Nat) {v3 : Int32} {v4 : Int32}, x0_cold_L27 N Ds Df V v2 n v3 v4 = some (o3, o4) → gW X 5 (xw_s Ds) (xw_c Df) ad V 0 0 27 [(0, .ref (ad (10, 0, 0))), (2, .int v2), (3, .int v3), (4, .int v4)] [] := by
  intro n
  induction n with
  | zero => intro v3 v4 h; rw [x0_cold_L27] at h; cases h
  | succ n ih =>
    intro v3 v4 h
    rw [x0_cold_L27] at h
    refine gz_iload_n (q := 1) hX dX0_cold_27 rfl rfl ?_
    refine gz_iconst (v := (-1)) hX dX0_cold_28 gl_c_m1 ?_
    refine gz_icmp_eq (tgt := 38) hX dX0_cold_29 (by decide) (fun c5 => ?_) (fun c5 => ?_)
    · have h := gz_ifp c5 h
      refine gz_aload_n (q := 0) hX dX0_cold_38 rfl rfl ?_
      refine gz_iload_n (q := 2) hX dX0_cold_39 rfl rfl ?_
      obtain ⟨r6, e7, h⟩ := gz_bd_o h
      refine gu_callV (ci := 0) (n := (10, 0, 0)) (As := [.int v3]) hX (c_x0_besideKin e7) (lw_x0_besideKin_ q1360) rfl rfl nn_x0_besideKin ⟨Nat.le_of_ble_eq_true rfl, Nat.le_of_ble_eq_true rfl⟩ ⟨Nat.zero_le _, Nat.zero_le _⟩ (by decide) rfl xs_main rfl rfl (Nat.le_of_ble_eq_true rfl) dX0_cold_40 rfl ?_
      refine gz_iload_n (q := 2) hX dX0_cold_43 rfl rfl ?_
      refine gz_icmp_eq (tgt := 59) hX dX0_cold_44 (by decide) (fun c8 => ?_) (fun c8 => ?_)
      · have h := gz_ifp c8 h
        obtain ⟨rfl, rfl⟩ := gz_in2 h
        exact gz_lv [1, 2, 3] rfl k
      · have h := gz_ifn c8 h
        refine gz_aload_n (q := 0) hX dX0_cold_47 rfl rfl ?_
        refine gz_iload_n (q := 2) hX dX0_cold_48 rfl rfl ?_
        obtain ⟨r9, e10, h⟩ := gz_bd_o h
        refine gu_callV (ci := 0) (n := (10, 0, 0)) (As := [.int v3]) hX (c_x0_besideKin e10) (lw_x0_besideKin_ q1360) rfl rfl nn_x0_besideKin ⟨Nat.le_of_ble_eq_true rfl, Nat.le_of_ble_eq_true rfl⟩ ⟨Nat.zero_le _, Nat.zero_le _⟩ (by decide) rfl xs_main rfl rfl (Nat.le_of_ble_eq_true rfl) dX0_cold_49 rfl ?_
        refine gz_istore_n (lv2 := [(3, .int r9), (0, .ref (ad (10, 0, 0))), (2, .int v2), (4, .int v4)]) hX dX0_cold_52 rfl (by decide) rfl ?_
        refine gz_iinc (q := 3) (lv2 := [(4, .int (v4 + 1)), (3, .int r9), (0, .ref (ad (10, 0, 0))), (2, .int v2)]) hX dX0_cold_53 rfl gl_c_1 (by decide) rfl ?_
        refine gz_goto (tgt := 27) hX dX0_cold_56 (by decide) ?_
        exact gz_lv [2, 3, 1, 0] rfl (ih h)
    · have h := gz_ifn c5 h
      refine gz_iload (q := 3) hX dX0_cold_32 rfl ?_
      refine gz_iload_n (q := 1) hX dX0_cold_34 rfl rfl ?_
      refine gz_icmp_ge (tgt := 59) hX dX0_cold_35 (by decide) (fun c11 => ?_) (fun c11 => ?_)
      · have h := gz_ifp c11 h
        obtain ⟨rfl, rfl⟩ := gz_in2 h
        exact gz_lv [1, 2, 3] rfl k
      · have h := gz_ifn c11 h
        refine gz_aload_n (q := 0) hX dX0_cold_38 rfl rfl ?_
        refine gz_iload_n (q := 2) hX dX0_cold_39 rfl rfl ?_
        obtain ⟨r12, e13, h⟩ := gz_bd_o h
        refine gu_callV (ci := 0) (n := (10, 0, 0)) (As := [.int v3]) hX (c_x0_besideKin e13) (lw_x0_besideKin_ q1360) rfl rfl nn_x0_besideKin ⟨Nat.le_of_ble_eq_true rfl, Nat.le_of_ble_eq_true rfl⟩ ⟨Nat.zero_le _, Nat.zero_le _⟩ (by decide) rfl xs_main rfl rfl (Nat.le_of_ble_eq_true rfl) dX0_cold_40 rfl ?_
        refine gz_iload_n (q := 2) hX dX0_cold_43 rfl rfl ?_
        refine gz_icmp_eq (tgt := 59) hX dX0_cold_44 (by decide) (fun c14 => ?_) (fun c14 => ?_)
        · have h := gz_ifp c14 h
          obtain ⟨rfl, rfl⟩ := gz_in2 h
          exact gz_lv [1, 2, 3] rfl k
        · have h := gz_ifn c14 h
          refine gz_aload_n (q := 0) hX dX0_cold_47 rfl rfl ?_
          refine gz_iload_n (q := 2) hX dX0_cold_48 rfl rfl ?_
          obtain ⟨r15, e16, h⟩ := gz_bd_o h
          refine gu_callV (ci := 0) (n := (10, 0, 0)) (As := [.int v3]) hX (c_x0_besideKin e16) (lw_x0_besideKin_ q1360) rfl rfl nn_x0_besideKin ⟨Nat.le_of_ble_eq_true rfl, Nat.le_of_ble_eq_true rfl⟩ ⟨Nat.zero_le _, Nat.zero_le _⟩ (by decide) rfl xs_main rfl rfl (Nat.le_of_ble_eq_true rfl) dX0_cold_49 rfl ?_
          refine gz_istore_n (lv2 := [(3, .int r15), (0, .ref (ad (10, 0, 0))), (2, .int v2), (4, .int v4)]) hX dX0_cold_52 rfl (by decide) rfl ?_
          refine gz_iinc (q := 3) (lv2 := [(4, .int (v4 + 1)), (3, .int r15), (0, .ref (ad (10, 0, 0))), (2, .int v2)]) hX dX0_cold_53 rfl gl_c_1 (by decide) rfl ?_
          refine gz_goto (tgt := 27) hX dX0_cold_56 (by decide) ?_
          exact gz_lv [2, 3, 1, 0] rfl (ih h)
noncomputable def x0_cold (N : Nat) (Ds : gz_S) (Df : gz_R) (V : gz_V) (a1 : Int32) (a2 : Int32) : Option (Int32) := (if (x0_isPerson V a1) = 0 then some (-1) else (if (x0_isIn a2 (-1) 20) = 0 then some (-1) else gz_let (((1 : Int32) <<< (a1 &&& 31))) (fun x3 => gz_b2 (x0_cold_L27 N Ds Df V a2 N x3 0) (fun x5 x6 => (if a2 = (-1) then some x6 else some (j13_bitCount x5))))))
theorem c_x0_cold {l : Launch} {D : va_G} {aC : Nat → ClassId} {ad : gz_A0} {N : Nat} {Ds : gz_S} {Df : gz_R} {V : gz_V} {a1 : Int32} {a2 : Int32} {r : Int32} (h : x0_cold N Ds Df V a1 a2 = some r) : gz_Met l yX0_cold cX0_cold 5 (some .int) rm_x0_cold D aC ad (xw_s Ds) V (xw_c Df) [.ref (ad (10, 0, 0)), .int a1, .int a2] (gz_F1 (xw_s Ds) (xw_c Df) ad V (some (.int r))) 0 0 := by
  refine gu_ofW (own := RX0) (mn := "cold") (lv := [(0, .ref (ad (10, 0, 0))), (1, .int a1), (2, .int a2)]) (by decide) rfl rfl (Nat.le_of_ble_eq_true rfl) rfl ?_
  intro X hX hZ hF
  rw [x0_cold] at h
  refine gz_aload_n (q := 0) hX dX0_cold_0 rfl rfl ?_
  refine gz_iload_n (q := 1) hX dX0_cold_1 rfl rfl ?_
  refine gu_callV (ci := 0) (n := (10, 0, 0)) (As := [.int a1]) hX (c_x0_isPerson rfl) (lw_x0_isPerson_ q1059) rfl rfl nn_x0_isPerson ⟨Nat.le_of_ble_eq_true rfl, Nat.le_of_ble_eq_true rfl⟩ ⟨Nat.zero_le _, Nat.zero_le _⟩ (by decide) rfl xs_main rfl rfl (Nat.le_of_ble_eq_true rfl) dX0_cold_2 rfl ?_
  refine gz_if_eq (tgt := 18) hX dX0_cold_5 (by decide) (fun c1 => ?_) (fun c1 => ?_)
  · have h := gz_ifp c1 h
    refine gz_iconst (v := (-1)) hX dX0_cold_18 gl_c_m1 ?_
    exact gu_iret hX hZ hF rfl rfl (gz_in1 h) dX0_cold_19
  · have h := gz_ifn c1 h
    refine gz_iload_n (q := 2) hX dX0_cold_8 rfl rfl ?_
    refine gz_iconst (v := (-1)) hX dX0_cold_9 gl_c_m1 ?_
    refine gz_bipush (v := 20) hX dX0_cold_10 gl_b_20 ?_
    refine gu_callS (As := [.int a2, .int (-1), .int 20]) hX (c_x0_isIn rfl) (lw_x0_isIn_ q502) rfl rfl nn_x0_isIn ⟨Nat.le_of_ble_eq_true rfl, Nat.le_of_ble_eq_true rfl⟩ ⟨Nat.zero_le _, Nat.zero_le _⟩ rfl rfl (Nat.le_of_ble_eq_true rfl) dX0_cold_12 rfl ?_
    refine gz_if_ne (tgt := 20) hX dX0_cold_15 (by decide) (fun c2 => ?_) (fun c2 => ?_)
    · have h := gz_ifn c2 h
      refine gz_iconst (v := 1) hX dX0_cold_20 gl_c_1 ?_
      refine gz_iload_n (q := 1) hX dX0_cold_21 rfl rfl ?_
      refine gz_ishl hX dX0_cold_22 ?_
      obtain ⟨x3, e4, h⟩ := gz_let_o h
      refine gz_nm e4 ?_
      refine gz_istore_n (lv2 := [(3, .int x3), (0, .ref (ad (10, 0, 0))), (1, .int a1), (2, .int a2)]) hX dX0_cold_23 rfl (by decide) rfl ?_
      refine gz_iconst (v := 0) hX dX0_cold_24 gl_c_0 ?_
      refine gz_istore (lv2 := [(4, .int 0), (3, .int x3), (0, .ref (ad (10, 0, 0))), (1, .int a1), (2, .int a2)]) hX dX0_cold_25 (by decide) rfl ?_
      obtain ⟨x5, x6, e7, h⟩ := gz_b2_o h
      refine gz_lv [2, 4, 1, 0] rfl (w_x0_cold_L27 hX hZ ?_ N e7)
      refine gz_iload_n (q := 0) hX dX0_cold_59 rfl rfl ?_
      refine gz_iconst (v := (-1)) hX dX0_cold_60 gl_c_m1 ?_
      refine gz_icmp_ne (tgt := 69) hX dX0_cold_61 (by decide) (fun c8 => ?_) (fun c8 => ?_)
      · have h := gz_ifn c8 h
        refine gz_iload_n (q := 1) hX dX0_cold_69 rfl rfl ?_
        refine gu_callS (As := [.int x5]) hX (c_j13_bitCount rfl) (lw_j13_bitCount_ q1368) rfl rfl nn_j13_bitCount ⟨Nat.le_of_ble_eq_true rfl, Nat.le_of_ble_eq_true rfl⟩ ⟨Nat.zero_le _, Nat.zero_le _⟩ rfl rfl (Nat.le_of_ble_eq_true rfl) dX0_cold_70 rfl ?_
        exact gu_iret hX hZ hF rfl rfl (gz_in1 h) dX0_cold_73
      · have h := gz_ifp c8 h
        refine gz_iload (q := 2) hX dX0_cold_64 rfl ?_
        refine gz_goto (tgt := 73) hX dX0_cold_66 (by decide) ?_
        exact gu_iret hX hZ hF rfl rfl (gz_in1 h) dX0_cold_73
    · have h := gz_ifp c2 h
      refine gz_iconst (v := (-1)) hX dX0_cold_18 gl_c_m1 ?_
      exact gu_iret hX hZ hF rfl rfl (gz_in1 h) dX0_cold_19
theorem lw_x0_cold_ {o : String} {i : Nat} (hl : Cond.methodLink o i yX0_cold ∈ lw_all) : GoodIn lw_all (wsV o i RX0 yX0_cold (ws_ yX0_cold cX0_cold 5 (some .int))) := lw_V hl q1375 q1376 q144 q1377
theorem nn_x0_cold : yX0_cold.cls = RX0 ∧ yX0_cold.cls ≠ "java/lang/invoke/MethodHandle" ∧ yX0_cold.cls ≠ "java/lang/invoke/VarHandle" ∧ (parseMethodDescriptor yX0_cold.desc).map (fun d => d.parameters.length) = some 2 := by decide +kernel
theorem lw_x0_common_ {o : String} {i : Nat} (hl : Cond.methodLink o i yX0_common ∈ lw_all) : GoodIn lw_all (va_wsS o i yX0_common (ws_ yX0_common cX0_common 2 (some .int))) := lw_S hl q1383 q144 q1384
theorem nn_x0_common : yX0_common.cls ≠ "java/lang/invoke/MethodHandle" ∧ yX0_common.cls ≠ "java/lang/invoke/VarHandle" ∧ (parseMethodDescriptor yX0_common.desc).map (fun d => d.parameters.length) = some 2 := by decide +kernel
def rm_x0_common (d : Nat) : Room := { frames := d + 0, cells := 0, slots := 0, locals := d * 21 + 0 }
noncomputable def x0_common_B (rc : Int32 → Int32 → Option (Int32)) (a1 : Int32) (a2 : Int32) : Option (Int32) := (if a2 = 0 then some a1 else gz_gd (¬ a2 = 0) (gz_bd (rc a2 (a1 - a1 / a2 * a2)) (fun r3 => some r3)))
theorem c_x0_common_B {l : Launch} {D : va_G} {aC : Nat → ClassId} {ad : gz_A0} {d : Nat} {rc : Int32 → Int32 → Option (Int32)} {sh : gz_S} {Rf : gz_R} {V : gz_V} {a1 : Int32} {a2 : Int32} {r : Int32} (hrc : ∀ {l : Launch} {D : va_G} {aC : Nat → ClassId} {ad : gz_A0} {V : gz_V} {a1 : Int32} {a2 : Int32} {r : Int32}, rc a1 a2 = some r → gz_Met l yX0_common cX0_common 2 (some .int) (rm_x0_common d) D aC ad sh V Rf [.int a1, .int a2] (gz_F1 sh Rf ad V (some (.int r))) 0 0) (h : x0_common_B rc a1 a2 = some r) : gz_Met l yX0_common cX0_common 2 (some .int) (rm_x0_common (d + 1)) D aC ad sh V Rf [.int a1, .int a2] (gz_F1 sh Rf ad V (some (.int r))) 0 0 := by
  refine gu_ofW (own := RX0) (mn := "common") (lv := [(0, .int a1), (1, .int a2)]) (by decide) rfl rfl (Nat.le_of_ble_eq_true rfl) rfl ?_
  intro X hX hZ hF
  rw [x0_common_B] at h
  refine gz_iload_n (q := 1) hX dX0_common_0 rfl rfl ?_
  refine gz_if_ne (tgt := 8) hX dX0_common_1 (by decide) (fun c1 => ?_) (fun c1 => ?_)
  · have h := gz_ifn c1 h
    refine gz_iload_n (q := 1) hX dX0_common_8 rfl rfl ?_
    refine gz_iload_n (q := 0) hX dX0_common_9 rfl rfl ?_
    refine gz_iload_n (q := 1) hX dX0_common_10 rfl rfl ?_
    obtain ⟨b2, h⟩ := gz_gd_o h
    refine gz_irem hX dX0_common_11 b2 ?_
    obtain ⟨r3, e4, h⟩ := gz_bd_o h
    refine gu_callS (As := [.int a2, .int (a1 - a1 / a2 * a2)]) hX (hrc e4) (lw_x0_common_ q1382) rfl rfl nn_x0_common ⟨by simp only [rm_x0_common]; omega, by simp only [rm_x0_common]; omega⟩ ⟨Nat.zero_le _, Nat.zero_le _⟩ rfl rfl (Nat.le_of_ble_eq_true rfl) dX0_common_12 rfl ?_
    exact gu_iret hX hZ hF rfl rfl (gz_in1 h) dX0_common_15
  · have h := gz_ifp c1 h
    refine gz_iload_n (q := 0) hX dX0_common_4 rfl rfl ?_
    refine gz_goto (tgt := 15) hX dX0_common_5 (by decide) ?_
    exact gu_iret hX hZ hF rfl rfl (gz_in1 h) dX0_common_15
noncomputable def x0_common : Nat → Int32 → Int32 → Option (Int32)
  | 0 => fun _ _ => none
  | d + 1 => x0_common_B (x0_common d)
theorem c_x0_common_d {sh : gz_S} {Rf : gz_R} : ∀ (d : Nat) {l : Launch} {D : va_G} {aC : Nat → ClassId} {ad : gz_A0} {V : gz_V} {a1 : Int32} {a2 : Int32} {r : Int32}, x0_common d a1 a2 = some r → gz_Met l yX0_common cX0_common 2 (some .int) (rm_x0_common d) D aC ad sh V Rf [.int a1, .int a2] (gz_F1 sh Rf ad V (some (.int r))) 0 0 := by
  intro d
  induction d with
  | zero => intro l D aC ad V a1 a2 r h; cases h
  | succ d ih => intro l D aC ad V a1 a2 r h; exact c_x0_common_B ih h
theorem c_x0_common {l : Launch} {D : va_G} {aC : Nat → ClassId} {ad : gz_A0} {sh : gz_S} {Rf : gz_R} {V : gz_V} {a1 : Int32} {a2 : Int32} {r : Int32} (h : x0_common 70 a1 a2 = some r) : gz_Met l yX0_common cX0_common 2 (some .int) (rm_x0_common 70) D aC ad sh V Rf [.int a1, .int a2] (gz_F1 sh Rf ad V (some (.int r))) 0 0 := c_x0_common_d 70 h
def rm_x16_isOf_Wa : Room := { frames := 0, cells := 0, slots := 0, locals := 0 }
noncomputable def x16_isOf_Wa (V : gz_V) (u1 : gz_N) (a1 : Int32) : Int32 := (if (V u1 0) = a1 then 1 else 0)
theorem c_x16_isOf_Wa {l : Launch} {D : va_G} {aC : Nat → ClassId} {ad : gz_A0} {Ds : gz_S} {Df : gz_R} {V : gz_V} {u1 : gz_N} {a1 : Int32} {r : Int32} (hu1 : 90 ≤ u1.1 ∧ Ds u1 = some (15, 3)) (h : x16_isOf_Wa V u1 a1 = r) : gz_Met l yX16_isOf cX16_isOf 2 (some .boolean) rm_x16_isOf_Wa D aC ad (xw_s Ds) V (xw_c Df) [.ref (ad u1), .int a1] (gz_F1 (xw_s Ds) (xw_c Df) ad V (some (.int r))) 0 0 := by
  refine gu_ofW (own := RX16) (mn := "isOf") (lv := [(0, .ref (ad u1)), (1, .int a1)]) (by decide) rfl rfl (Nat.le_of_ble_eq_true rfl) rfl ?_
  intro X hX hZ hF
  rw [x16_isOf_Wa] at h
  refine gz_aload_n (q := 0) hX dX16_isOf_0 rfl rfl ?_
  refine xg_X16_7_15 hX (xs_dyn hu1) dX16_isOf_1 ?_
  refine gz_iload_n (q := 1) hX dX16_isOf_4 rfl rfl ?_
  refine gz_icmp_ne (tgt := 12) hX dX16_isOf_5 (by decide) (fun c1 => ?_) (fun c1 => ?_)
  · have h := gz_ifn c1 h
    refine gz_iconst (v := 0) hX dX16_isOf_12 gl_c_0 ?_
    exact gu_zret hX hZ rfl hF rfl rfl h dX16_isOf_13
  · have h := gz_ifp c1 h
    refine gz_iconst (v := 1) hX dX16_isOf_8 gl_c_1 ?_
    refine gz_goto (tgt := 13) hX dX16_isOf_9 (by decide) ?_
    exact gu_zret hX hZ rfl hF rfl rfl h dX16_isOf_13
theorem b_x16_isOf_Wa {V : gz_V} {u1 : gz_N} {a1 : Int32} : x16_isOf_Wa V u1 a1 = 0 ∨ x16_isOf_Wa V u1 a1 = 1 := by
  unfold x16_isOf_Wa
  try simp only [gz_let]
  repeat' split
  all_goals first | exact Or.inl rfl | exact Or.inr rfl
def rm_x16_isOf_Co : Room := { frames := 0, cells := 0, slots := 0, locals := 0 }
noncomputable def x16_isOf_Co (V : gz_V) (u1 : gz_N) (a1 : Int32) : Int32 := (if (V u1 0) = a1 then 1 else 0)
theorem c_x16_isOf_Co {l : Launch} {D : va_G} {aC : Nat → ClassId} {ad : gz_A0} {Ds : gz_S} {Df : gz_R} {V : gz_V} {u1 : gz_N} {a1 : Int32} {r : Int32} (hu1 : 90 ≤ u1.1 ∧ Ds u1 = some (16, 4)) (h : x16_isOf_Co V u1 a1 = r) : gz_Met l yX16_isOf cX16_isOf 2 (some .boolean) rm_x16_isOf_Co D aC ad (xw_s Ds) V (xw_c Df) [.ref (ad u1), .int a1] (gz_F1 (xw_s Ds) (xw_c Df) ad V (some (.int r))) 0 0 := by
  refine gu_ofW (own := RX16) (mn := "isOf") (lv := [(0, .ref (ad u1)), (1, .int a1)]) (by decide) rfl rfl (Nat.le_of_ble_eq_true rfl) rfl ?_
  intro X hX hZ hF
  rw [x16_isOf_Co] at h
  refine gz_aload_n (q := 0) hX dX16_isOf_0 rfl rfl ?_
  refine xg_X16_7_16 hX (xs_dyn hu1) dX16_isOf_1 ?_
  refine gz_iload_n (q := 1) hX dX16_isOf_4 rfl rfl ?_
  refine gz_icmp_ne (tgt := 12) hX dX16_isOf_5 (by decide) (fun c1 => ?_) (fun c1 => ?_)
  · have h := gz_ifn c1 h
    refine gz_iconst (v := 0) hX dX16_isOf_12 gl_c_0 ?_
    exact gu_zret hX hZ rfl hF rfl rfl h dX16_isOf_13
  · have h := gz_ifp c1 h
    refine gz_iconst (v := 1) hX dX16_isOf_8 gl_c_1 ?_
    refine gz_goto (tgt := 13) hX dX16_isOf_9 (by decide) ?_
    exact gu_zret hX hZ rfl hF rfl rfl h dX16_isOf_13
theorem b_x16_isOf_Co {V : gz_V} {u1 : gz_N} {a1 : Int32} : x16_isOf_Co V u1 a1 = 0 ∨ x16_isOf_Co V u1 a1 = 1 := by
  unfold x16_isOf_Co
  try simp only [gz_let]
  repeat' split
  all_goals first | exact Or.inl rfl | exact Or.inr rfl
def rm_x16_isOf_Sl : Room := { frames := 0, cells := 0, slots := 0, locals := 0 }
noncomputable def x16_isOf_Sl (V : gz_V) (u1 : gz_N) (a1 : Int32) : Int32 := (if (V u1 0) = a1 then 1 else 0)
theorem c_x16_isOf_Sl {l : Launch} {D : va_G} {aC : Nat → ClassId} {ad : gz_A0} {Ds : gz_S} {Df : gz_R} {V : gz_V} {u1 : gz_N} {a1 : Int32} {r : Int32} (hu1 : 90 ≤ u1.1 ∧ Ds u1 = some (17, 3)) (h : x16_isOf_Sl V u1 a1 = r) : gz_Met l yX16_isOf cX16_isOf 2 (some .boolean) rm_x16_isOf_Sl D aC ad (xw_s Ds) V (xw_c Df) [.ref (ad u1), .int a1] (gz_F1 (xw_s Ds) (xw_c Df) ad V (some (.int r))) 0 0 := by
  refine gu_ofW (own := RX16) (mn := "isOf") (lv := [(0, .ref (ad u1)), (1, .int a1)]) (by decide) rfl rfl (Nat.le_of_ble_eq_true rfl) rfl ?_
  intro X hX hZ hF
  rw [x16_isOf_Sl] at h
  refine gz_aload_n (q := 0) hX dX16_isOf_0 rfl rfl ?_
  refine xg_X16_7_17 hX (xs_dyn hu1) dX16_isOf_1 ?_
  refine gz_iload_n (q := 1) hX dX16_isOf_4 rfl rfl ?_
  refine gz_icmp_ne (tgt := 12) hX dX16_isOf_5 (by decide) (fun c1 => ?_) (fun c1 => ?_)
  · have h := gz_ifn c1 h
    refine gz_iconst (v := 0) hX dX16_isOf_12 gl_c_0 ?_
    exact gu_zret hX hZ rfl hF rfl rfl h dX16_isOf_13
  · have h := gz_ifp c1 h
    refine gz_iconst (v := 1) hX dX16_isOf_8 gl_c_1 ?_
    refine gz_goto (tgt := 13) hX dX16_isOf_9 (by decide) ?_
    exact gu_zret hX hZ rfl hF rfl rfl h dX16_isOf_13
theorem b_x16_isOf_Sl {V : gz_V} {u1 : gz_N} {a1 : Int32} : x16_isOf_Sl V u1 a1 = 0 ∨ x16_isOf_Sl V u1 a1 = 1 := by
  unfold x16_isOf_Sl
  try simp only [gz_let]
  repeat' split
  all_goals first | exact Or.inl rfl | exact Or.inr rfl
def rm_x16_person_Wa : Room := { frames := 0, cells := 0, slots := 0, locals := 0 }
noncomputable def x16_person_Wa (V : gz_V) (u1 : gz_N) : Int32 := (V u1 1)
theorem c_x16_person_Wa {l : Launch} {D : va_G} {aC : Nat → ClassId} {ad : gz_A0} {Ds : gz_S} {Df : gz_R} {V : gz_V} {u1 : gz_N} {r : Int32} (hu1 : 90 ≤ u1.1 ∧ Ds u1 = some (15, 3)) (h : x16_person_Wa V u1 = r) : gz_Met l yX16_person cX16_person 1 (some .int) rm_x16_person_Wa D aC ad (xw_s Ds) V (xw_c Df) [.ref (ad u1)] (gz_F1 (xw_s Ds) (xw_c Df) ad V (some (.int r))) 0 0 := by
  refine gu_ofW (own := RX16) (mn := "person") (lv := [(0, .ref (ad u1))]) (by decide) rfl rfl (Nat.le_of_ble_eq_true rfl) rfl ?_
  intro X hX hZ hF
  rw [x16_person_Wa] at h
  refine gz_aload_n (q := 0) hX dX16_person_0 rfl rfl ?_
  refine xg_X16_13_15 hX (xs_dyn hu1) dX16_person_1 ?_
  exact gu_iret hX hZ hF rfl rfl h dX16_person_4
def rm_x16_person_Co : Room := { frames := 0, cells := 0, slots := 0, locals := 0 }
noncomputable def x16_person_Co (V : gz_V) (u1 : gz_N) : Int32 := (V u1 1)
theorem c_x16_person_Co {l : Launch} {D : va_G} {aC : Nat → ClassId} {ad : gz_A0} {Ds : gz_S} {Df : gz_R} {V : gz_V} {u1 : gz_N} {r : Int32} (hu1 : 90 ≤ u1.1 ∧ Ds u1 = some (16, 4)) (h : x16_person_Co V u1 = r) : gz_Met l yX16_person cX16_person 1 (some .int) rm_x16_person_Co D aC ad (xw_s Ds) V (xw_c Df) [.ref (ad u1)] (gz_F1 (xw_s Ds) (xw_c Df) ad V (some (.int r))) 0 0 := by
  refine gu_ofW (own := RX16) (mn := "person") (lv := [(0, .ref (ad u1))]) (by decide) rfl rfl (Nat.le_of_ble_eq_true rfl) rfl ?_
  intro X hX hZ hF
  rw [x16_person_Co] at h
  refine gz_aload_n (q := 0) hX dX16_person_0 rfl rfl ?_
  refine xg_X16_13_16 hX (xs_dyn hu1) dX16_person_1 ?_
  exact gu_iret hX hZ hF rfl rfl h dX16_person_4
def rm_x16_person_Sl : Room := { frames := 0, cells := 0, slots := 0, locals := 0 }
noncomputable def x16_person_Sl (V : gz_V) (u1 : gz_N) : Int32 := (V u1 1)
theorem c_x16_person_Sl {l : Launch} {D : va_G} {aC : Nat → ClassId} {ad : gz_A0} {Ds : gz_S} {Df : gz_R} {V : gz_V} {u1 : gz_N} {r : Int32} (hu1 : 90 ≤ u1.1 ∧ Ds u1 = some (17, 3)) (h : x16_person_Sl V u1 = r) : gz_Met l yX16_person cX16_person 1 (some .int) rm_x16_person_Sl D aC ad (xw_s Ds) V (xw_c Df) [.ref (ad u1)] (gz_F1 (xw_s Ds) (xw_c Df) ad V (some (.int r))) 0 0 := by
  refine gu_ofW (own := RX16) (mn := "person") (lv := [(0, .ref (ad u1))]) (by decide) rfl rfl (Nat.le_of_ble_eq_true rfl) rfl ?_
  intro X hX hZ hF
  rw [x16_person_Sl] at h
  refine gz_aload_n (q := 0) hX dX16_person_0 rfl rfl ?_
  refine xg_X16_13_17 hX (xs_dyn hu1) dX16_person_1 ?_
  exact gu_iret hX hZ hF rfl rfl h dX16_person_4
def rm_x0_end : Room := { frames := 1, cells := 0, slots := 0, locals := 22 }
noncomputable def x0_end (V : gz_V) (a1 : Int32) : Option (gz_V × Int32) := (if (x0_isIn a1 0 (V (10, 0, 0) 1)) = 0 then some (V, 0) else gz_let (gz_up V (10, 0, 0) 1 a1) (fun V2 => some (V2, 1)))
theorem c_x0_end {l : Launch} {D : va_G} {aC : Nat → ClassId} {ad : gz_A0} {Ds : gz_S} {Df : gz_R} {V : gz_V} {a1 : Int32} {W1 : gz_V} {r : Int32} (h : x0_end V a1 = some (W1, r)) : gz_Met l yX0_end cX0_end 2 (some .boolean) rm_x0_end D aC ad (xw_s Ds) V (xw_c Df) [.ref (ad (10, 0, 0)), .int a1] (gz_F1 (xw_s Ds) (xw_c Df) ad W1 (some (.int r))) 0 0 := by
  refine gu_ofW (own := RX0) (mn := "end") (lv := [(0, .ref (ad (10, 0, 0))), (1, .int a1)]) (by decide) rfl rfl (Nat.le_of_ble_eq_true rfl) rfl ?_
  intro X hX hZ hF
  rw [x0_end] at h
  refine gz_iload_n (q := 1) hX dX0_end_0 rfl rfl ?_
  refine gz_iconst (v := 0) hX dX0_end_1 gl_c_0 ?_
  refine gz_aload_n (q := 0) hX dX0_end_2 rfl rfl ?_
  refine xg_X0_60 hX xs_main dX0_end_3 ?_
  refine gu_callS (As := [.int a1, .int 0, .int (V (10, 0, 0) 1)]) hX (c_x0_isIn rfl) (lw_x0_isIn_ q502) rfl rfl nn_x0_isIn ⟨Nat.le_of_ble_eq_true rfl, Nat.le_of_ble_eq_true rfl⟩ ⟨Nat.zero_le _, Nat.zero_le _⟩ rfl rfl (Nat.le_of_ble_eq_true rfl) dX0_end_6 rfl ?_
  refine gz_if_ne (tgt := 14) hX dX0_end_9 (by decide) (fun c1 => ?_) (fun c1 => ?_)
  · have h := gz_ifn c1 h
    refine gz_aload_n (q := 0) hX dX0_end_14 rfl rfl ?_
    refine gz_iload_n (q := 1) hX dX0_end_15 rfl rfl ?_
    obtain ⟨V2, e3, h⟩ := gz_let_o h
    refine xp_X0_60 hX xs_main (gz_ne0 9 rfl) dX0_end_16 e3 ?_
    refine gz_iconst (v := 1) hX dX0_end_19 gl_c_1 ?_
    obtain ⟨e_V, e_r⟩ := gz_in2 h
    exact gu_zret hX hZ rfl hF e_V rfl e_r dX0_end_20
  · have h := gz_ifp c1 h
    refine gz_iconst (v := 0) hX dX0_end_12 gl_c_0 ?_
    obtain ⟨e_V, e_r⟩ := gz_in2 h
    exact gu_zret hX hZ rfl hF e_V rfl e_r dX0_end_13
theorem lw_x0_end_ {o : String} {i : Nat} (hl : Cond.methodLink o i yX0_end ∈ lw_all) : GoodIn lw_all (wsV o i RX0 yX0_end (ws_ yX0_end cX0_end 2 (some .boolean))) := lw_V hl q499 q500 q144 q501
theorem nn_x0_end : yX0_end.cls = RX0 ∧ yX0_end.cls ≠ "java/lang/invoke/MethodHandle" ∧ yX0_end.cls ≠ "java/lang/invoke/VarHandle" ∧ (parseMethodDescriptor yX0_end.desc).map (fun d => d.parameters.length) = some 1 := by decide +kernel
def rm_x0_fault : Room := { frames := 0, cells := 0, slots := 0, locals := 0 }
noncomputable def x0_fault (V : gz_V) (a1 : Int32) : Int32 := (if a1 = 0 then (V (10, 0, 0) 2) else (if a1 = 1 then (V (10, 0, 0) 3) else (-1)))
theorem c_x0_fault {l : Launch} {D : va_G} {aC : Nat → ClassId} {ad : gz_A0} {Ds : gz_S} {Df : gz_R} {V : gz_V} {a1 : Int32} {r : Int32} (h : x0_fault V a1 = r) : gz_Met l yX0_fault cX0_fault 2 (some .int) rm_x0_fault D aC ad (xw_s Ds) V (xw_c Df) [.ref (ad (10, 0, 0)), .int a1] (gz_F1 (xw_s Ds) (xw_c Df) ad V (some (.int r))) 0 0 := by
  refine gu_ofW (own := RX0) (mn := "fault") (lv := [(0, .ref (ad (10, 0, 0))), (1, .int a1)]) (by decide) rfl rfl (Nat.le_of_ble_eq_true rfl) rfl ?_
  intro X hX hZ hF
  rw [x0_fault] at h
  refine gz_iload_n (q := 1) hX dX0_fault_0 rfl rfl ?_
  refine gz_if_ne (tgt := 11) hX dX0_fault_1 (by decide) (fun c1 => ?_) (fun c1 => ?_)
  · have h := gz_ifn c1 h
    refine gz_iload_n (q := 1) hX dX0_fault_11 rfl rfl ?_
    refine gz_iconst (v := 1) hX dX0_fault_12 gl_c_1 ?_
    refine gz_icmp_ne (tgt := 23) hX dX0_fault_13 (by decide) (fun c2 => ?_) (fun c2 => ?_)
    · have h := gz_ifn c2 h
      refine gz_iconst (v := (-1)) hX dX0_fault_23 gl_c_m1 ?_
      exact gu_iret hX hZ hF rfl rfl h dX0_fault_24
    · have h := gz_ifp c2 h
      refine gz_aload_n (q := 0) hX dX0_fault_16 rfl rfl ?_
      refine xg_X0_13 hX xs_main dX0_fault_17 ?_
      refine gz_goto (tgt := 24) hX dX0_fault_20 (by decide) ?_
      exact gu_iret hX hZ hF rfl rfl h dX0_fault_24
  · have h := gz_ifp c1 h
    refine gz_aload_n (q := 0) hX dX0_fault_4 rfl rfl ?_
    refine xg_X0_115 hX xs_main dX0_fault_5 ?_
    refine gz_goto (tgt := 24) hX dX0_fault_8 (by decide) ?_
    exact gu_iret hX hZ hF rfl rfl h dX0_fault_24
theorem lw_x0_fault_ {o : String} {i : Nat} (hl : Cond.methodLink o i yX0_fault ∈ lw_all) : GoodIn lw_all (wsV o i RX0 yX0_fault (ws_ yX0_fault cX0_fault 2 (some .int))) := lw_V hl q1016 q1017 q144 q1018
theorem nn_x0_fault : yX0_fault.cls = RX0 ∧ yX0_fault.cls ≠ "java/lang/invoke/MethodHandle" ∧ yX0_fault.cls ≠ "java/lang/invoke/VarHandle" ∧ (parseMethodDescriptor yX0_fault.desc).map (fun d => d.parameters.length) = some 1 := by decide +kernel
theorem gl_b_24 : (Int8.ofInt 24).toInt32 = 24 := by decide
theorem gl_c_m8 : Int32.ofInt (-8) = (-8) := by decide
def rm_x0_word : Room := { frames := 0, cells := 0, slots := 0, locals := 0 }
noncomputable def x0_word_L3 (N : Nat) (v1 : Int32) : Nat → gz_V → Int32 → Option (gz_V)
  | 0, _, _ => none
  | n + 1, V, v2 => (if v2 < 0 then some V else gz_gd (gz_inb (V (10, 0, 0) 1) 400 = true) (gz_let (gz_up V (11, 0, 0) (V (10, 0, 0) 1).toNatClampNeg (v1 >>> (v2 &&& 31)).toInt8.toInt32.toInt8.toInt32) (fun V3 => gz_let (gz_up V3 (10, 0, 0) 1 ((V3 (10, 0, 0) 1) + 1)) (fun V5 => x0_word_L3 N v1 n V5 (v2 + (-8))))))
theorem w_x0_word_L3 {X : gz_X} {ad : gz_A0} {N : Nat} {Ds : gz_S} {Df : gz_R} {v1 : Int32} {W1 : gz_V} (hX : gz_ok X cX0_word RX0 "word" 3 rm_x0_word none) (hZ : gz_Z X) (k : gW X 3 (xw_s Ds) (xw_c Df) ad W1 0 0 36 [] []) : ∀ (n : Nat) {V : gz_V} {v2 : Int32}, x0_word_L3 N v1 n V v2 = some W1 → gW X 3 (xw_s Ds) (xw_c Df) ad V 0 0 3 [(0, .ref (ad (10, 0, 0))), (1, .int v1), (2, .int v2)] [] := by
  intro n
  induction n with
  | zero => intro V v2 h; rw [x0_word_L3] at h; cases h
  | succ n ih =>
    intro V v2 h
    rw [x0_word_L3] at h
    refine gz_iload_n (q := 2) hX dX0_word_3 rfl rfl ?_
    refine gz_if_lt (tgt := 36) hX dX0_word_4 (by decide) (fun c1 => ?_) (fun c1 => ?_)
    · have h := gz_ifp c1 h
      obtain rfl := gz_in1 h
      exact gz_lv [] rfl k
    · have h := gz_ifn c1 h
      refine gz_aload_n (q := 0) hX dX0_word_7 rfl rfl ?_
      refine xg_X0_9 (n2 := (11, 0, 0)) hX xs_main rfl dX0_word_8 ?_
      refine gz_aload_n (q := 0) hX dX0_word_11 rfl rfl ?_
      refine xg_X0_60 hX xs_main dX0_word_12 ?_
      refine gz_iload_n (q := 1) hX dX0_word_15 rfl rfl ?_
      refine gz_iload_n (q := 2) hX dX0_word_16 rfl rfl ?_
      refine gz_ishr hX dX0_word_17 ?_
      refine gz_i2b hX dX0_word_18 ?_
      obtain ⟨b2, h⟩ := gz_gd_o h
      obtain ⟨V3, e4, h⟩ := gz_let_o h
      refine gz_bast (L := 400) hX xs_tape (gz_ne0 10 rfl) (gz_inb_o b2) dX0_word_19 e4 ?_
      refine gz_aload_n (q := 0) hX dX0_word_20 rfl rfl ?_
      refine gz_dupa hX dX0_word_21 ?_
      refine xg_X0_60 hX xs_main dX0_word_22 ?_
      refine gz_iconst (v := 1) hX dX0_word_25 gl_c_1 ?_
      refine gz_iadd hX dX0_word_26 ?_
      obtain ⟨V5, e6, h⟩ := gz_let_o h
      refine xp_X0_60 hX xs_main (gz_ne0 9 rfl) dX0_word_27 e6 ?_
      refine gz_iinc (q := 2) (lv2 := [(2, .int (v2 + (-8))), (0, .ref (ad (10, 0, 0))), (1, .int v1)]) hX dX0_word_30 rfl gl_c_m8 (by decide) rfl ?_
      refine gz_goto (tgt := 3) hX dX0_word_33 (by decide) ?_
      exact gz_lv [1, 2, 0] rfl (ih h)
noncomputable def x0_word (N : Nat) (V : gz_V) (a1 : Int32) : Option (gz_V) := gz_bd (x0_word_L3 N a1 N V 24) (fun V1 => some V1)
theorem c_x0_word {l : Launch} {D : va_G} {aC : Nat → ClassId} {ad : gz_A0} {N : Nat} {Ds : gz_S} {Df : gz_R} {V : gz_V} {a1 : Int32} {W1 : gz_V} (h : x0_word N V a1 = some W1) : gz_Met l yX0_word cX0_word 3 none rm_x0_word D aC ad (xw_s Ds) V (xw_c Df) [.ref (ad (10, 0, 0)), .int a1] (gz_F1 (xw_s Ds) (xw_c Df) ad W1 none) 0 0 := by
  refine gu_ofW (own := RX0) (mn := "word") (lv := [(0, .ref (ad (10, 0, 0))), (1, .int a1)]) (by decide) rfl rfl (Nat.le_of_ble_eq_true rfl) rfl ?_
  intro X hX hZ hF
  rw [x0_word] at h
  refine gz_bipush (v := 24) hX dX0_word_0 gl_b_24 ?_
  refine gz_istore_n (lv2 := [(2, .int 24), (0, .ref (ad (10, 0, 0))), (1, .int a1)]) hX dX0_word_2 rfl (by decide) rfl ?_
  obtain ⟨V1, e2, h⟩ := gz_bd_o h
  refine gz_lv [1, 2, 0] rfl (w_x0_word_L3 hX hZ ?_ N e2)
  exact gu_vret hX hZ hF (gz_in1 h) rfl dX0_word_36
theorem lw_x0_word_ {o : String} {i : Nat} (hl : Cond.methodLink o i yX0_word ∈ lw_all) : GoodIn lw_all (wsV o i RX0 yX0_word (ws_ yX0_word cX0_word 3 none)) := lw_V hl q496 qs0 q144 q497
theorem nn_x0_word : yX0_word.cls = RX0 ∧ yX0_word.cls ≠ "java/lang/invoke/MethodHandle" ∧ yX0_word.cls ≠ "java/lang/invoke/VarHandle" ∧ (parseMethodDescriptor yX0_word.desc).map (fun d => d.parameters.length) = some 1 := by decide +kernel
theorem gl_s_400 : (Int16.ofInt 400).toInt32 = 400 := by decide
def rm_x0_feed : Room := { frames := 1, cells := 0, slots := 0, locals := 22 }
noncomputable def x0_feed (N : Nat) (V : gz_V) (a1 : Int32) (a2 : Int32) (a3 : Int32) (a4 : Int32) (a5 : Int32) : Option (gz_V × Int32) := (if ((V (10, 0, 0) 1) + 20) ≤ 400 then gz_bd (x0_word N V a1) (fun V2 => gz_bd (x0_word N V2 a2) (fun V4 => gz_bd (x0_word N V4 a3) (fun V6 => gz_bd (x0_word N V6 a4) (fun V8 => gz_bd (x0_word N V8 a5) (fun V10 => some (V10, (V10 (10, 0, 0) 1))))))) else some (V, (-1)))
theorem c_x0_feed {l : Launch} {D : va_G} {aC : Nat → ClassId} {ad : gz_A0} {N : Nat} {Ds : gz_S} {Df : gz_R} {V : gz_V} {a1 : Int32} {a2 : Int32} {a3 : Int32} {a4 : Int32} {a5 : Int32} {W1 : gz_V} {r : Int32} (h : x0_feed N V a1 a2 a3 a4 a5 = some (W1, r)) : gz_Met l yX0_feed cX0_feed 6 (some .int) rm_x0_feed D aC ad (xw_s Ds) V (xw_c Df) [.ref (ad (10, 0, 0)), .int a1, .int a2, .int a3, .int a4, .int a5] (gz_F1 (xw_s Ds) (xw_c Df) ad W1 (some (.int r))) 0 0 := by
  refine gu_ofW (own := RX0) (mn := "feed") (lv := [(0, .ref (ad (10, 0, 0))), (1, .int a1), (2, .int a2), (3, .int a3), (4, .int a4), (5, .int a5)]) (by decide) rfl rfl (Nat.le_of_ble_eq_true rfl) rfl ?_
  intro X hX hZ hF
  rw [x0_feed] at h
  refine gz_aload_n (q := 0) hX dX0_feed_0 rfl rfl ?_
  refine xg_X0_60 hX xs_main dX0_feed_1 ?_
  refine gz_bipush (v := 20) hX dX0_feed_4 gl_b_20 ?_
  refine gz_iadd hX dX0_feed_6 ?_
  refine gz_sipush (v := 400) hX dX0_feed_7 gl_s_400 ?_
  refine gz_icmp_le (tgt := 15) hX dX0_feed_10 (by decide) (fun c1 => ?_) (fun c1 => ?_)
  · have h := gz_ifp c1 h
    refine gz_aload_n (q := 0) hX dX0_feed_15 rfl rfl ?_
    refine gz_iload_n (q := 1) hX dX0_feed_16 rfl rfl ?_
    obtain ⟨V2, e3, h⟩ := gz_bd_o h
    refine gu_callV (ci := 0) (n := (10, 0, 0)) (As := [.int a1]) hX (c_x0_word e3) (lw_x0_word_ q494) rfl rfl nn_x0_word ⟨Nat.le_of_ble_eq_true rfl, Nat.le_of_ble_eq_true rfl⟩ ⟨Nat.zero_le _, Nat.zero_le _⟩ (by decide) rfl xs_main rfl rfl (Nat.le_of_ble_eq_true rfl) dX0_feed_17 rfl ?_
    refine gz_aload_n (q := 0) hX dX0_feed_20 rfl rfl ?_
    refine gz_iload_n (q := 2) hX dX0_feed_21 rfl rfl ?_
    obtain ⟨V4, e5, h⟩ := gz_bd_o h
    refine gu_callV (ci := 0) (n := (10, 0, 0)) (As := [.int a2]) hX (c_x0_word e5) (lw_x0_word_ q494) rfl rfl nn_x0_word ⟨Nat.le_of_ble_eq_true rfl, Nat.le_of_ble_eq_true rfl⟩ ⟨Nat.zero_le _, Nat.zero_le _⟩ (by decide) rfl xs_main rfl rfl (Nat.le_of_ble_eq_true rfl) dX0_feed_22 rfl ?_
    refine gz_aload_n (q := 0) hX dX0_feed_25 rfl rfl ?_
    refine gz_iload_n (q := 3) hX dX0_feed_26 rfl rfl ?_
    obtain ⟨V6, e7, h⟩ := gz_bd_o h
    refine gu_callV (ci := 0) (n := (10, 0, 0)) (As := [.int a3]) hX (c_x0_word e7) (lw_x0_word_ q494) rfl rfl nn_x0_word ⟨Nat.le_of_ble_eq_true rfl, Nat.le_of_ble_eq_true rfl⟩ ⟨Nat.zero_le _, Nat.zero_le _⟩ (by decide) rfl xs_main rfl rfl (Nat.le_of_ble_eq_true rfl) dX0_feed_27 rfl ?_
    refine gz_aload_n (q := 0) hX dX0_feed_30 rfl rfl ?_
    refine gz_iload (q := 4) hX dX0_feed_31 rfl ?_
    obtain ⟨V8, e9, h⟩ := gz_bd_o h
    refine gu_callV (ci := 0) (n := (10, 0, 0)) (As := [.int a4]) hX (c_x0_word e9) (lw_x0_word_ q494) rfl rfl nn_x0_word ⟨Nat.le_of_ble_eq_true rfl, Nat.le_of_ble_eq_true rfl⟩ ⟨Nat.zero_le _, Nat.zero_le _⟩ (by decide) rfl xs_main rfl rfl (Nat.le_of_ble_eq_true rfl) dX0_feed_33 rfl ?_
    refine gz_aload_n (q := 0) hX dX0_feed_36 rfl rfl ?_
    refine gz_iload (q := 5) hX dX0_feed_37 rfl ?_
    obtain ⟨V10, e11, h⟩ := gz_bd_o h
    refine gu_callV (ci := 0) (n := (10, 0, 0)) (As := [.int a5]) hX (c_x0_word e11) (lw_x0_word_ q494) rfl rfl nn_x0_word ⟨Nat.le_of_ble_eq_true rfl, Nat.le_of_ble_eq_true rfl⟩ ⟨Nat.zero_le _, Nat.zero_le _⟩ (by decide) rfl xs_main rfl rfl (Nat.le_of_ble_eq_true rfl) dX0_feed_39 rfl ?_
    refine gz_aload_n (q := 0) hX dX0_feed_42 rfl rfl ?_
    refine xg_X0_60 hX xs_main dX0_feed_43 ?_
    obtain ⟨e_V, e_r⟩ := gz_in2 h
    exact gu_iret hX hZ hF e_V rfl e_r dX0_feed_46
  · have h := gz_ifn c1 h
    refine gz_iconst (v := (-1)) hX dX0_feed_13 gl_c_m1 ?_
    obtain ⟨e_V, e_r⟩ := gz_in2 h
    exact gu_iret hX hZ hF e_V rfl e_r dX0_feed_14
theorem lw_x0_feed_ {o : String} {i : Nat} (hl : Cond.methodLink o i yX0_feed ∈ lw_all) : GoodIn lw_all (wsV o i RX0 yX0_feed (ws_ yX0_feed cX0_feed 6 (some .int))) := lw_V hl q491 q492 q144 q493
theorem nn_x0_feed : yX0_feed.cls = RX0 ∧ yX0_feed.cls ≠ "java/lang/invoke/MethodHandle" ∧ yX0_feed.cls ≠ "java/lang/invoke/VarHandle" ∧ (parseMethodDescriptor yX0_feed.desc).map (fun d => d.parameters.length) = some 5 := by decide +kernel
def rm_x0_forgets : Room := { frames := 0, cells := 0, slots := 0, locals := 0 }
noncomputable def x0_forgets (V : gz_V) : Option (gz_V × Int32) := gz_let (gz_up V (10, 0, 0) 8 0) (fun V1 => some (V1, 1))
theorem c_x0_forgets {l : Launch} {D : va_G} {aC : Nat → ClassId} {ad : gz_A0} {Ds : gz_S} {Df : gz_R} {V : gz_V} {W1 : gz_V} {r : Int32} (h : x0_forgets V = some (W1, r)) : gz_Met l yX0_forgets cX0_forgets 1 (some .boolean) rm_x0_forgets D aC ad (xw_s Ds) V (xw_c Df) [.ref (ad (10, 0, 0))] (gz_F1 (xw_s Ds) (xw_c Df) ad W1 (some (.int r))) 0 0 := by
  refine gu_ofW (own := RX0) (mn := "forgets") (lv := [(0, .ref (ad (10, 0, 0)))]) (by decide) rfl rfl (Nat.le_of_ble_eq_true rfl) rfl ?_
  intro X hX hZ hF
  rw [x0_forgets] at h
  refine gz_aload_n (q := 0) hX dX0_forgets_0 rfl rfl ?_
  refine gz_iconst (v := 0) hX dX0_forgets_1 gl_c_0 ?_
  obtain ⟨V1, e2, h⟩ := gz_let_o h
  refine xp_X0_130 hX xs_main (gz_ne0 9 rfl) dX0_forgets_2 e2 ?_
  refine gz_iconst (v := 1) hX dX0_forgets_5 gl_c_1 ?_
  obtain ⟨e_V, e_r⟩ := gz_in2 h
  exact gu_zret hX hZ rfl hF e_V rfl e_r dX0_forgets_6
theorem lw_x0_forgets_ {o : String} {i : Nat} (hl : Cond.methodLink o i yX0_forgets ∈ lw_all) : GoodIn lw_all (wsV o i RX0 yX0_forgets (ws_ yX0_forgets cX0_forgets 1 (some .boolean))) := lw_V hl q951 qs27 q144 q952
theorem nn_x0_forgets : yX0_forgets.cls = RX0 ∧ yX0_forgets.cls ≠ "java/lang/invoke/MethodHandle" ∧ yX0_forgets.cls ≠ "java/lang/invoke/VarHandle" ∧ (parseMethodDescriptor yX0_forgets.desc).map (fun d => d.parameters.length) = some 0 := by decide +kernel
theorem b_x0_forgets {V W1 : gz_V} {r : Int32} (h : x0_forgets V = some (W1, r)) : r = 0 ∨ r = 1 := by
  unfold x0_forgets at h
  obtain ⟨_, _, h⟩ := gz_let_o h
  obtain ⟨_, e⟩ := gz_in2 h
  rw [← e]
  exact Or.inr rfl
def rm_x0_laysNims : Room := { frames := 1, cells := 0, slots := 0, locals := 21 }
noncomputable def x0_laysNims_L25 (N : Nat) (V : gz_V) (v1 : Int32) (v3 : Int32) : Nat → Int32 → Int32 → Option (Int32)
  | 0, _, _ => none
  | n + 1, v2, v4 => (if v1 < (v4 + v3) then some v2 else gz_gd (gz_inb v4 21 = true) (gz_gd (gz_inb ((v1 - v3) - v4) 21 = true) (gz_let ((v2 ||| ((1 : Int32) <<< (((V (11, 15, 0) v4.toNatClampNeg) ^^^ (V (11, 15, 0) ((v1 - v3) - v4).toNatClampNeg)) &&& 31)))) (fun x7 => x0_laysNims_L25 N V v1 v3 n x7 (v4 + 1)))))
theorem w_x0_laysNims_L25 {X : gz_X} {ad : gz_A0} {N : Nat} {Ds : gz_S} {Df : gz_R} {V : gz_V} {v1 : Int32} {v3 : Int32} {o2 : Int32} (hX : gz_ok X cX0_laysNims RX0 "laysNims" 5 rm_x0_laysNims none) (hZ : gz_Z X) (k : gW X 5 (xw_s Ds) (xw_c Df) ad V 0 0 63 [(0, .ref (ad (10, 0, 0))), (1, .int v1), (2, .int o2), (3, .int v3)] []) : ∀ (n : Nat) {v2 : Int32} {v4 : Int32}, x0_laysNims_L25 N V v1 v3 n v2 v4 = some o2 → gW X 5 (xw_s Ds) (xw_c Df) ad V 0 0 25 [(0, .ref (ad (10, 0, 0))), (1, .int v1), (2, .int v2), (3, .int v3), (4, .int v4)] [] := by
  intro n
  induction n with
  | zero => intro v2 v4 h; rw [x0_laysNims_L25] at h; cases h
  | succ n ih =>
    intro v2 v4 h
    rw [x0_laysNims_L25] at h
    refine gz_iload (q := 4) hX dX0_laysNims_25 rfl ?_
    refine gz_iload_n (q := 3) hX dX0_laysNims_27 rfl rfl ?_
    refine gz_iadd hX dX0_laysNims_28 ?_
    refine gz_iload_n (q := 1) hX dX0_laysNims_29 rfl rfl ?_
    refine gz_icmp_gt (tgt := 63) hX dX0_laysNims_30 (by decide) (fun c4 => ?_) (fun c4 => ?_)
    · have h := gz_ifp c4 h
      obtain rfl := gz_in1 h
      exact gz_lv [0, 1, 2, 3] rfl k
    · have h := gz_ifn c4 h
      refine gz_iload_n (q := 2) hX dX0_laysNims_33 rfl rfl ?_
      refine gz_iconst (v := 1) hX dX0_laysNims_34 gl_c_1 ?_
      refine gz_aload_n (q := 0) hX dX0_laysNims_35 rfl rfl ?_
      refine xg_X0_48 (n2 := (11, 15, 0)) hX xs_main rfl dX0_laysNims_36 ?_
      refine gz_iload (q := 4) hX dX0_laysNims_39 rfl ?_
      obtain ⟨b5, h⟩ := gz_gd_o h
      refine gz_iald (L := 21) hX xs_nims (gz_inb_o b5) dX0_laysNims_41 ?_
      refine gz_aload_n (q := 0) hX dX0_laysNims_42 rfl rfl ?_
      refine xg_X0_48 (n2 := (11, 15, 0)) hX xs_main rfl dX0_laysNims_43 ?_
      refine gz_iload_n (q := 1) hX dX0_laysNims_46 rfl rfl ?_
      refine gz_iload_n (q := 3) hX dX0_laysNims_47 rfl rfl ?_
      refine gz_isub hX dX0_laysNims_48 ?_
      refine gz_iload (q := 4) hX dX0_laysNims_49 rfl ?_
      refine gz_isub hX dX0_laysNims_51 ?_
      obtain ⟨b6, h⟩ := gz_gd_o h
      refine gz_iald (L := 21) hX xs_nims (gz_inb_o b6) dX0_laysNims_52 ?_
      refine gz_ixor hX dX0_laysNims_53 ?_
      refine gz_ishl hX dX0_laysNims_54 ?_
      refine gz_ior hX dX0_laysNims_55 ?_
      obtain ⟨x7, e8, h⟩ := gz_let_o h
      refine gz_nm e8 ?_
      refine gz_istore_n (lv2 := [(2, .int x7), (0, .ref (ad (10, 0, 0))), (1, .int v1), (3, .int v3), (4, .int v4)]) hX dX0_laysNims_56 rfl (by decide) rfl ?_
      refine gz_iinc (q := 4) (lv2 := [(4, .int (v4 + 1)), (2, .int x7), (0, .ref (ad (10, 0, 0))), (1, .int v1), (3, .int v3)]) hX dX0_laysNims_57 rfl gl_c_1 (by decide) rfl ?_
      refine gz_goto (tgt := 25) hX dX0_laysNims_60 (by decide) ?_
      exact gz_lv [2, 3, 1, 4, 0] rfl (ih h)
noncomputable def x0_laysNims_L12 (N : Nat) (V : gz_V) (v1 : Int32) : Nat → Int32 → Int32 → Option (Int32)
  | 0, _, _ => none
  | n + 1, v2, v3 => (if 2 < v3 then some v2 else (if v1 < v3 then some v2 else gz_bd (x0_laysNims_L25 N V v1 v3 N v2 0) (fun x4 => x0_laysNims_L12 N V v1 n x4 (v3 + 1))))
theorem w_x0_laysNims_L12 {X : gz_X} {ad : gz_A0} {N : Nat} {Ds : gz_S} {Df : gz_R} {V : gz_V} {v1 : Int32} {o2 : Int32} (hX : gz_ok X cX0_laysNims RX0 "laysNims" 5 rm_x0_laysNims none) (hZ : gz_Z X) (k : gW X 5 (xw_s Ds) (xw_c Df) ad V 0 0 69 [(0, .ref (ad (10, 0, 0))), (1, .int v1), (2, .int o2)] []) : ∀ (n : Nat) {v2 : Int32} {v3 : Int32}, x0_laysNims_L12 N V v1 n v2 v3 = some o2 → gW X 5 (xw_s Ds) (xw_c Df) ad V 0 0 12 [(0, .ref (ad (10, 0, 0))), (1, .int v1), (2, .int v2), (3, .int v3)] [] := by
  intro n
  induction n with
  | zero => intro v2 v3 h; rw [x0_laysNims_L12] at h; cases h
  | succ n ih =>
    intro v2 v3 h
    rw [x0_laysNims_L12] at h
    refine gz_iload_n (q := 3) hX dX0_laysNims_12 rfl rfl ?_
    refine gz_iconst (v := 2) hX dX0_laysNims_13 gl_c_2 ?_
    refine gz_icmp_gt (tgt := 69) hX dX0_laysNims_14 (by decide) (fun c2 => ?_) (fun c2 => ?_)
    · have h := gz_ifp c2 h
      obtain rfl := gz_in1 h
      exact gz_lv [0, 1, 2] rfl k
    · have h := gz_ifn c2 h
      refine gz_iload_n (q := 3) hX dX0_laysNims_17 rfl rfl ?_
      refine gz_iload_n (q := 1) hX dX0_laysNims_18 rfl rfl ?_
      refine gz_icmp_gt (tgt := 69) hX dX0_laysNims_19 (by decide) (fun c3 => ?_) (fun c3 => ?_)
      · have h := gz_ifp c3 h
        obtain rfl := gz_in1 h
        exact gz_lv [0, 1, 2] rfl k
      · have h := gz_ifn c3 h
        refine gz_iconst (v := 0) hX dX0_laysNims_22 gl_c_0 ?_
        refine gz_istore (lv2 := [(4, .int 0), (0, .ref (ad (10, 0, 0))), (1, .int v1), (2, .int v2), (3, .int v3)]) hX dX0_laysNims_23 (by decide) rfl ?_
        obtain ⟨x4, e5, h⟩ := gz_bd_o h
        refine gz_lv [1, 2, 3, 4, 0] rfl (w_x0_laysNims_L25 hX hZ ?_ N e5)
        refine gz_iinc (q := 3) (lv2 := [(3, .int (v3 + 1)), (0, .ref (ad (10, 0, 0))), (1, .int v1), (2, .int x4)]) hX dX0_laysNims_63 rfl gl_c_1 (by decide) rfl ?_
        refine gz_goto (tgt := 12) hX dX0_laysNims_66 (by decide) ?_
        exact gz_lv [1, 2, 3, 0] rfl (ih h)
noncomputable def x0_laysNims_L2 (N : Nat) : Nat → gz_V → Int32 → Option (gz_V)
  | 0, _, _ => none
  | n + 1, V, v1 => (if 20 < v1 then some V else gz_bd (x0_laysNims_L12 N V v1 N 0 1) (fun x2 => gz_gd (gz_inb v1 21 = true) (gz_let (gz_up V (11, 15, 0) v1.toNatClampNeg (j13_numberOfTrailingZeros (x2 ^^^ (-1)))) (fun V5 => x0_laysNims_L2 N n V5 (v1 + 1)))))
theorem w_x0_laysNims_L2 {X : gz_X} {ad : gz_A0} {N : Nat} {Ds : gz_S} {Df : gz_R} {W1 : gz_V} (hX : gz_ok X cX0_laysNims RX0 "laysNims" 5 rm_x0_laysNims none) (hZ : gz_Z X) (k : gW X 5 (xw_s Ds) (xw_c Df) ad W1 0 0 87 [] []) : ∀ (n : Nat) {V : gz_V} {v1 : Int32}, x0_laysNims_L2 N n V v1 = some W1 → gW X 5 (xw_s Ds) (xw_c Df) ad V 0 0 2 [(0, .ref (ad (10, 0, 0))), (1, .int v1)] [] := by
  intro n
  induction n with
  | zero => intro V v1 h; rw [x0_laysNims_L2] at h; cases h
  | succ n ih =>
    intro V v1 h
    rw [x0_laysNims_L2] at h
    refine gz_iload_n (q := 1) hX dX0_laysNims_2 rfl rfl ?_
    refine gz_bipush (v := 20) hX dX0_laysNims_3 gl_b_20 ?_
    refine gz_icmp_gt (tgt := 87) hX dX0_laysNims_5 (by decide) (fun c1 => ?_) (fun c1 => ?_)
    · have h := gz_ifp c1 h
      obtain rfl := gz_in1 h
      exact gz_lv [] rfl k
    · have h := gz_ifn c1 h
      refine gz_iconst (v := 0) hX dX0_laysNims_8 gl_c_0 ?_
      refine gz_istore_n (lv2 := [(2, .int 0), (0, .ref (ad (10, 0, 0))), (1, .int v1)]) hX dX0_laysNims_9 rfl (by decide) rfl ?_
      refine gz_iconst (v := 1) hX dX0_laysNims_10 gl_c_1 ?_
      refine gz_istore_n (lv2 := [(3, .int 1), (2, .int 0), (0, .ref (ad (10, 0, 0))), (1, .int v1)]) hX dX0_laysNims_11 rfl (by decide) rfl ?_
      obtain ⟨x2, e3, h⟩ := gz_bd_o h
      refine gz_lv [2, 3, 1, 0] rfl (w_x0_laysNims_L12 hX hZ ?_ N e3)
      refine gz_aload_n (q := 0) hX dX0_laysNims_69 rfl rfl ?_
      refine xg_X0_48 (n2 := (11, 15, 0)) hX xs_main rfl dX0_laysNims_70 ?_
      refine gz_iload_n (q := 1) hX dX0_laysNims_73 rfl rfl ?_
      refine gz_iload_n (q := 2) hX dX0_laysNims_74 rfl rfl ?_
      refine gz_iconst (v := (-1)) hX dX0_laysNims_75 gl_c_m1 ?_
      refine gz_ixor hX dX0_laysNims_76 ?_
      refine gu_callS (As := [.int (x2 ^^^ (-1))]) hX (c_j13_numberOfTrailingZeros rfl) (lw_j13_numberOfTrailingZeros_ q1344) rfl rfl nn_j13_numberOfTrailingZeros ⟨Nat.le_of_ble_eq_true rfl, Nat.le_of_ble_eq_true rfl⟩ ⟨Nat.zero_le _, Nat.zero_le _⟩ rfl rfl (Nat.le_of_ble_eq_true rfl) dX0_laysNims_77 rfl ?_
      obtain ⟨b4, h⟩ := gz_gd_o h
      obtain ⟨V5, e6, h⟩ := gz_let_o h
      refine gz_iast (L := 21) hX xs_nims (gz_ne0 10 rfl) (gz_inb_o b4) dX0_laysNims_80 e6 ?_
      refine gz_iinc (q := 1) (lv2 := [(1, .int (v1 + 1)), (0, .ref (ad (10, 0, 0))), (2, .int x2)]) hX dX0_laysNims_81 rfl gl_c_1 (by decide) rfl ?_
      refine gz_goto (tgt := 2) hX dX0_laysNims_84 (by decide) ?_
      exact gz_lv [1, 0] rfl (ih h)
noncomputable def x0_laysNims (N : Nat) (V : gz_V) : Option (gz_V) := gz_bd (x0_laysNims_L2 N N V 1) (fun V1 => some V1)
theorem c_x0_laysNims {l : Launch} {D : va_G} {aC : Nat → ClassId} {ad : gz_A0} {N : Nat} {Ds : gz_S} {Df : gz_R} {V : gz_V} {W1 : gz_V} (h : x0_laysNims N V = some W1) : gz_Met l yX0_laysNims cX0_laysNims 5 none rm_x0_laysNims D aC ad (xw_s Ds) V (xw_c Df) [.ref (ad (10, 0, 0))] (gz_F1 (xw_s Ds) (xw_c Df) ad W1 none) 0 0 := by
  refine gu_ofW (own := RX0) (mn := "laysNims") (lv := [(0, .ref (ad (10, 0, 0)))]) (by decide) rfl rfl (Nat.le_of_ble_eq_true rfl) rfl ?_
  intro X hX hZ hF
  rw [x0_laysNims] at h
  refine gz_iconst (v := 1) hX dX0_laysNims_0 gl_c_1 ?_
  refine gz_istore_n (lv2 := [(1, .int 1), (0, .ref (ad (10, 0, 0)))]) hX dX0_laysNims_1 rfl (by decide) rfl ?_
  obtain ⟨V1, e2, h⟩ := gz_bd_o h
  refine gz_lv [1, 0] rfl (w_x0_laysNims_L2 hX hZ ?_ N e2)
  exact gu_vret hX hZ hF (gz_in1 h) rfl dX0_laysNims_87
theorem lw_x0_laysNims_ {o : String} {i : Nat} (hl : Cond.methodLink o i yX0_laysNims ∈ lw_all) : GoodIn lw_all (wsV o i RX0 yX0_laysNims (ws_ yX0_laysNims cX0_laysNims 5 none)) := lw_V hl q1447 qs52 q144 q1448
theorem nn_x0_laysNims : yX0_laysNims.cls = RX0 ∧ yX0_laysNims.cls ≠ "java/lang/invoke/MethodHandle" ∧ yX0_laysNims.cls ≠ "java/lang/invoke/VarHandle" ∧ (parseMethodDescriptor yX0_laysNims.desc).map (fun d => d.parameters.length) = some 0 := by decide +kernel
def rm_x0_game : Room := { frames := 2, cells := 0, slots := 0, locals := 45 }
noncomputable def x0_game_L19 (N : Nat) (V : gz_V) (v1 : Int32) : Nat → Int32 → Int32 → Option (Int32)
  | 0, _, _ => none
  | n + 1, v2, v3 => (if (V (27, 0, 4) 1) ≤ v3 then some v2 else gz_bd (x3_first V 0 4 v3) (fun r5 => gz_gd (gz_inb r5 21 = true) (gz_let ((v2 ^^^ (V (11, 15, 0) r5.toNatClampNeg))) (fun x8 => x0_game_L19 N V v1 n x8 (v3 + 1)))))
theorem w_x0_game_L19 {X : gz_X} {ad : gz_A0} {N : Nat} {Ds : gz_S} {Df : gz_R} {V : gz_V} {v1 : Int32} {o2 : Int32} (hX : gz_ok X cX0_game RX0 "game" 7 rm_x0_game (some .int)) (hZ : gz_Z X) (k : gW X 7 (xw_s Ds) (xw_c Df) ad V 0 0 58 [(0, .ref (ad (10, 0, 0))), (1, .int v1), (2, .int o2)] []) : ∀ (n : Nat) {v2 : Int32} {v3 : Int32}, x0_game_L19 N V v1 n v2 v3 = some o2 → gW X 7 (xw_s Ds) (xw_c Df) ad V 0 0 19 [(0, .ref (ad (10, 0, 0))), (1, .int v1), (2, .int v2), (3, .int v3)] [] := by
  intro n
  induction n with
  | zero => intro v2 v3 h; rw [x0_game_L19] at h; cases h
  | succ n ih =>
    intro v2 v3 h
    rw [x0_game_L19] at h
    refine gz_iload_n (q := 3) hX dX0_game_19 rfl rfl ?_
    refine gz_aload_n (q := 0) hX dX0_game_20 rfl rfl ?_
    refine xg_X0_20 (n2 := (20, 0, 0)) hX xs_main rfl dX0_game_21 ?_
    refine xg_X0_354 (n2 := (27, 0, 4)) hX (xs_M (by decide)) rfl dX0_game_24 ?_
    refine xg_X0_280 hX (xs_RO (by decide) (by decide)) dX0_game_27 ?_
    refine gz_icmp_ge (tgt := 58) hX dX0_game_30 (by decide) (fun c4 => ?_) (fun c4 => ?_)
    · have h := gz_ifp c4 h
      obtain rfl := gz_in1 h
      exact gz_lv [0, 1, 2] rfl k
    · have h := gz_ifn c4 h
      refine gz_iload_n (q := 2) hX dX0_game_33 rfl rfl ?_
      refine gz_aload_n (q := 0) hX dX0_game_34 rfl rfl ?_
      refine xg_X0_48 (n2 := (11, 15, 0)) hX xs_main rfl dX0_game_35 ?_
      refine gz_aload_n (q := 0) hX dX0_game_38 rfl rfl ?_
      refine xg_X0_20 (n2 := (20, 0, 0)) hX xs_main rfl dX0_game_39 ?_
      refine xg_X0_354 (n2 := (27, 0, 4)) hX (xs_M (by decide)) rfl dX0_game_42 ?_
      refine gz_iload_n (q := 3) hX dX0_game_45 rfl rfl ?_
      obtain ⟨r5, e6, h⟩ := gz_bd_o h
      refine gu_callV (ci := 3) (n := (27, 0, 4)) (As := [.int v3]) hX (c_x3_first (by decide) (by decide) e6) (lw_x3_first_ q1326) rfl rfl nn_x3_first ⟨Nat.le_of_ble_eq_true rfl, Nat.le_of_ble_eq_true rfl⟩ ⟨Nat.zero_le _, Nat.zero_le _⟩ (by decide) rfl (xs_RO (by decide) (by decide)) rfl rfl (Nat.le_of_ble_eq_true rfl) dX0_game_46 rfl ?_
      obtain ⟨b7, h⟩ := gz_gd_o h
      refine gz_iald (L := 21) hX xs_nims (gz_inb_o b7) dX0_game_49 ?_
      refine gz_ixor hX dX0_game_50 ?_
      obtain ⟨x8, e9, h⟩ := gz_let_o h
      refine gz_nm e9 ?_
      refine gz_istore_n (lv2 := [(2, .int x8), (0, .ref (ad (10, 0, 0))), (1, .int v1), (3, .int v3)]) hX dX0_game_51 rfl (by decide) rfl ?_
      refine gz_iinc (q := 3) (lv2 := [(3, .int (v3 + 1)), (2, .int x8), (0, .ref (ad (10, 0, 0))), (1, .int v1)]) hX dX0_game_52 rfl gl_c_1 (by decide) rfl ?_
      refine gz_goto (tgt := 19) hX dX0_game_55 (by decide) ?_
      exact gz_lv [2, 3, 1, 0] rfl (ih h)
noncomputable def x0_game_L100 (N : Nat) (V : gz_V) (v1 : Int32) (v2 : Int32) (v3 : Int32) (v4 : Int32) (v5 : Int32) : Nat → Int32 → Option ((gz_V × Int32) ⊕ (Unit))
  | 0, _ => none
  | n + 1, v6 => (if 2 < v6 then some (.inr ()) else (if v4 < (v5 + v6) then some (.inr ()) else gz_gd (gz_inb v5 21 = true) (gz_gd (gz_inb ((v4 - v6) - v5) 21 = true) (gz_gd (gz_inb v4 21 = true) ((if ((V (11, 15, 0) v5.toNatClampNeg) ^^^ (V (11, 15, 0) ((v4 - v6) - v5).toNatClampNeg)) = (v2 ^^^ (V (11, 15, 0) v4.toNatClampNeg)) then (if v1 = 0 then some (.inl (V, v3)) else (if v1 = 1 then some (.inl (V, v5)) else some (.inl (V, v6)))) else x0_game_L100 N V v1 v2 v3 v4 v5 n (v6 + 1)))))))
theorem w_x0_game_L100 {X : gz_X} {ad : gz_A0} {N : Nat} {Ds : gz_S} {Df : gz_R} {V : gz_V} {v1 : Int32} {v2 : Int32} {v3 : Int32} {v4 : Int32} {v5 : Int32} {out : (gz_V × Int32) ⊕ (Unit)} (hX : gz_ok X cX0_game RX0 "game" 7 rm_x0_game (some .int)) (hZ : gz_Z X) (hout : (∃ (W2 : gz_V) (r : Int32), out = .inl (W2, r) ∧ gx_F X (xw_s Ds) W2 (xw_c Df) ad (some (.int r))) ∨ (out = .inr () ∧ gW X 7 (xw_s Ds) (xw_c Df) ad V 0 0 176 [(0, .ref (ad (10, 0, 0))), (1, .int v1), (2, .int v2), (3, .int v3), (4, .int v4), (5, .int v5)] [])) : ∀ (n : Nat) {v6 : Int32}, x0_game_L100 N V v1 v2 v3 v4 v5 n v6 = some out → gW X 7 (xw_s Ds) (xw_c Df) ad V 0 0 100 [(0, .ref (ad (10, 0, 0))), (1, .int v1), (2, .int v2), (3, .int v3), (4, .int v4), (5, .int v5), (6, .int v6)] [] := by
  intro n
  induction n with
  | zero => intro v6 h; rw [x0_game_L100] at h; cases h
  | succ n ih =>
    intro v6 h
    rw [x0_game_L100] at h
    refine gz_iload (q := 6) hX dX0_game_100 rfl ?_
    refine gz_iconst (v := 2) hX dX0_game_102 gl_c_2 ?_
    refine gz_icmp_gt (tgt := 176) hX dX0_game_103 (by decide) (fun c10 => ?_) (fun c10 => ?_)
    · have h := gz_ifp c10 h
      obtain rfl := gz_in1 h
      obtain ⟨_, _, e0, _⟩ | ⟨e0, k⟩ := hout
      · cases e0
      · cases e0
        exact gz_lv [0, 1, 2, 3, 4, 5] rfl k
    · have h := gz_ifn c10 h
      refine gz_iload (q := 5) hX dX0_game_106 rfl ?_
      refine gz_iload (q := 6) hX dX0_game_108 rfl ?_
      refine gz_iadd hX dX0_game_110 ?_
      refine gz_iload (q := 4) hX dX0_game_111 rfl ?_
      refine gz_icmp_gt (tgt := 176) hX dX0_game_113 (by decide) (fun c11 => ?_) (fun c11 => ?_)
      · have h := gz_ifp c11 h
        obtain rfl := gz_in1 h
        obtain ⟨_, _, e0, _⟩ | ⟨e0, k⟩ := hout
        · cases e0
        · cases e0
          exact gz_lv [0, 1, 2, 3, 4, 5] rfl k
      · have h := gz_ifn c11 h
        refine gz_aload_n (q := 0) hX dX0_game_116 rfl rfl ?_
        refine xg_X0_48 (n2 := (11, 15, 0)) hX xs_main rfl dX0_game_117 ?_
        refine gz_iload (q := 5) hX dX0_game_120 rfl ?_
        obtain ⟨b12, h⟩ := gz_gd_o h
        refine gz_iald (L := 21) hX xs_nims (gz_inb_o b12) dX0_game_122 ?_
        refine gz_aload_n (q := 0) hX dX0_game_123 rfl rfl ?_
        refine xg_X0_48 (n2 := (11, 15, 0)) hX xs_main rfl dX0_game_124 ?_
        refine gz_iload (q := 4) hX dX0_game_127 rfl ?_
        refine gz_iload (q := 6) hX dX0_game_129 rfl ?_
        refine gz_isub hX dX0_game_131 ?_
        refine gz_iload (q := 5) hX dX0_game_132 rfl ?_
        refine gz_isub hX dX0_game_134 ?_
        obtain ⟨b13, h⟩ := gz_gd_o h
        refine gz_iald (L := 21) hX xs_nims (gz_inb_o b13) dX0_game_135 ?_
        refine gz_ixor hX dX0_game_136 ?_
        refine gz_iload_n (q := 2) hX dX0_game_137 rfl rfl ?_
        refine gz_aload_n (q := 0) hX dX0_game_138 rfl rfl ?_
        refine xg_X0_48 (n2 := (11, 15, 0)) hX xs_main rfl dX0_game_139 ?_
        refine gz_iload (q := 4) hX dX0_game_142 rfl ?_
        obtain ⟨b14, h⟩ := gz_gd_o h
        refine gz_iald (L := 21) hX xs_nims (gz_inb_o b14) dX0_game_144 ?_
        refine gz_ixor hX dX0_game_145 ?_
        refine gz_icmp_ne (tgt := 170) hX dX0_game_146 (by decide) (fun c15 => ?_) (fun c15 => ?_)
        · have h := gz_ifn c15 h
          refine gz_iinc (q := 6) (lv2 := [(6, .int (v6 + 1)), (0, .ref (ad (10, 0, 0))), (1, .int v1), (2, .int v2), (3, .int v3), (4, .int v4), (5, .int v5)]) hX dX0_game_170 rfl gl_c_1 (by decide) rfl ?_
          refine gz_goto (tgt := 100) hX dX0_game_173 (by decide) ?_
          exact gz_lv [1, 2, 3, 4, 5, 6, 0] rfl (ih h)
        · have h := gz_ifp c15 h
          refine gz_iload_n (q := 1) hX dX0_game_149 rfl rfl ?_
          refine gz_if_ne (tgt := 157) hX dX0_game_150 (by decide) (fun c16 => ?_) (fun c16 => ?_)
          · have h := gz_ifn c16 h
            refine gz_iload_n (q := 1) hX dX0_game_157 rfl rfl ?_
            refine gz_iconst (v := 1) hX dX0_game_158 gl_c_1 ?_
            refine gz_icmp_ne (tgt := 167) hX dX0_game_159 (by decide) (fun c17 => ?_) (fun c17 => ?_)
            · have h := gz_ifn c17 h
              refine gz_iload (q := 6) hX dX0_game_167 rfl ?_
              obtain rfl := gz_in1 h
              obtain ⟨_, _, e0, hF⟩ | ⟨e0, _⟩ := hout
              · cases e0
                exact gu_iret hX hZ hF rfl rfl rfl dX0_game_169
              · cases e0
            · have h := gz_ifp c17 h
              refine gz_iload (q := 5) hX dX0_game_162 rfl ?_
              refine gz_goto (tgt := 169) hX dX0_game_164 (by decide) ?_
              obtain rfl := gz_in1 h
              obtain ⟨_, _, e0, hF⟩ | ⟨e0, _⟩ := hout
              · cases e0
                exact gu_iret hX hZ hF rfl rfl rfl dX0_game_169
              · cases e0
          · have h := gz_ifp c16 h
            refine gz_iload_n (q := 3) hX dX0_game_153 rfl rfl ?_
            refine gz_goto (tgt := 169) hX dX0_game_154 (by decide) ?_
            obtain rfl := gz_in1 h
            obtain ⟨_, _, e0, hF⟩ | ⟨e0, _⟩ := hout
            · cases e0
              exact gu_iret hX hZ hF rfl rfl rfl dX0_game_169
            · cases e0
noncomputable def x0_game_L90 (N : Nat) (V : gz_V) (v1 : Int32) (v2 : Int32) (v3 : Int32) (v4 : Int32) : Nat → Int32 → Option ((gz_V × Int32) ⊕ (Unit))
  | 0, _ => none
  | n + 1, v5 => (if v4 ≤ v5 then some (.inr ()) else gz_lp (x0_game_L100 N V v1 v2 v3 v4 v5 N 1) (fun p => some (.inl p)) (fun _ => x0_game_L90 N V v1 v2 v3 v4 n (v5 + 1)))
theorem w_x0_game_L90 {X : gz_X} {ad : gz_A0} {N : Nat} {Ds : gz_S} {Df : gz_R} {V : gz_V} {v1 : Int32} {v2 : Int32} {v3 : Int32} {v4 : Int32} {out : (gz_V × Int32) ⊕ (Unit)} (hX : gz_ok X cX0_game RX0 "game" 7 rm_x0_game (some .int)) (hZ : gz_Z X) (hout : (∃ (W2 : gz_V) (r : Int32), out = .inl (W2, r) ∧ gx_F X (xw_s Ds) W2 (xw_c Df) ad (some (.int r))) ∨ (out = .inr () ∧ gW X 7 (xw_s Ds) (xw_c Df) ad V 0 0 182 [(0, .ref (ad (10, 0, 0))), (1, .int v1), (2, .int v2), (3, .int v3)] [])) : ∀ (n : Nat) {v5 : Int32}, x0_game_L90 N V v1 v2 v3 v4 n v5 = some out → gW X 7 (xw_s Ds) (xw_c Df) ad V 0 0 90 [(0, .ref (ad (10, 0, 0))), (1, .int v1), (2, .int v2), (3, .int v3), (4, .int v4), (5, .int v5)] [] := by
  intro n
  induction n with
  | zero => intro v5 h; rw [x0_game_L90] at h; cases h
  | succ n ih =>
    intro v5 h
    rw [x0_game_L90] at h
    refine gz_iload (q := 5) hX dX0_game_90 rfl ?_
    refine gz_iload (q := 4) hX dX0_game_92 rfl ?_
    refine gz_icmp_ge (tgt := 182) hX dX0_game_94 (by decide) (fun c9 => ?_) (fun c9 => ?_)
    · have h := gz_ifp c9 h
      obtain rfl := gz_in1 h
      obtain ⟨_, _, e0, _⟩ | ⟨e0, k⟩ := hout
      · cases e0
      · cases e0
        exact gz_lv [0, 1, 2, 3] rfl k
    · have h := gz_ifn c9 h
      refine gz_iconst (v := 1) hX dX0_game_97 gl_c_1 ?_
      refine gz_istore (lv2 := [(6, .int 1), (0, .ref (ad (10, 0, 0))), (1, .int v1), (2, .int v2), (3, .int v3), (4, .int v4), (5, .int v5)]) hX dX0_game_98 (by decide) rfl ?_
      rcases gz_lp_o h with ⟨p11, e10, h⟩ | ⟨_, e10, h⟩
      · obtain rfl := gz_in1 h
        obtain ⟨_, _, e0, hF⟩ | ⟨e0, _⟩ := hout
        · cases e0
          exact gz_lv [1, 2, 3, 4, 5, 6, 0] rfl (w_x0_game_L100 hX hZ (Or.inl ⟨_, _, rfl, hF⟩) N e10)
        · cases e0
      · refine gz_lv [1, 2, 3, 4, 5, 6, 0] rfl (w_x0_game_L100 hX hZ (Or.inr ⟨rfl, ?_⟩) N e10)
        refine gz_iinc (q := 5) (lv2 := [(5, .int (v5 + 1)), (0, .ref (ad (10, 0, 0))), (1, .int v1), (2, .int v2), (3, .int v3), (4, .int v4)]) hX dX0_game_176 rfl gl_c_1 (by decide) rfl ?_
        refine gz_goto (tgt := 90) hX dX0_game_179 (by decide) ?_
        exact gz_lv [1, 2, 3, 4, 5, 0] rfl (ih h)
noncomputable def x0_game_L60 (N : Nat) (V : gz_V) (v1 : Int32) (v2 : Int32) : Nat → Int32 → Option ((gz_V × Int32) ⊕ (Unit))
  | 0, _ => none
  | n + 1, v3 => (if (V (27, 0, 4) 1) ≤ v3 then some (.inr ()) else gz_bd (x3_first V 0 4 v3) (fun r7 => gz_lp (x0_game_L90 N V v1 v2 v3 r7 N 0) (fun p => some (.inl p)) (fun _ => x0_game_L60 N V v1 v2 n (v3 + 1))))
theorem w_x0_game_L60 {X : gz_X} {ad : gz_A0} {N : Nat} {Ds : gz_S} {Df : gz_R} {V : gz_V} {v1 : Int32} {v2 : Int32} {out : (gz_V × Int32) ⊕ (Unit)} (hX : gz_ok X cX0_game RX0 "game" 7 rm_x0_game (some .int)) (hZ : gz_Z X) (hout : (∃ (W2 : gz_V) (r : Int32), out = .inl (W2, r) ∧ gx_F X (xw_s Ds) W2 (xw_c Df) ad (some (.int r))) ∨ (out = .inr () ∧ gW X 7 (xw_s Ds) (xw_c Df) ad V 0 0 188 [] [])) : ∀ (n : Nat) {v3 : Int32}, x0_game_L60 N V v1 v2 n v3 = some out → gW X 7 (xw_s Ds) (xw_c Df) ad V 0 0 60 [(0, .ref (ad (10, 0, 0))), (1, .int v1), (2, .int v2), (3, .int v3)] [] := by
  intro n
  induction n with
  | zero => intro v3 h; rw [x0_game_L60] at h; cases h
  | succ n ih =>
    intro v3 h
    rw [x0_game_L60] at h
    refine gz_iload_n (q := 3) hX dX0_game_60 rfl rfl ?_
    refine gz_aload_n (q := 0) hX dX0_game_61 rfl rfl ?_
    refine xg_X0_20 (n2 := (20, 0, 0)) hX xs_main rfl dX0_game_62 ?_
    refine xg_X0_354 (n2 := (27, 0, 4)) hX (xs_M (by decide)) rfl dX0_game_65 ?_
    refine xg_X0_280 hX (xs_RO (by decide) (by decide)) dX0_game_68 ?_
    refine gz_icmp_ge (tgt := 188) hX dX0_game_71 (by decide) (fun c6 => ?_) (fun c6 => ?_)
    · have h := gz_ifp c6 h
      obtain rfl := gz_in1 h
      obtain ⟨_, _, e0, _⟩ | ⟨e0, k⟩ := hout
      · cases e0
      · cases e0
        exact gz_lv [] rfl k
    · have h := gz_ifn c6 h
      refine gz_aload_n (q := 0) hX dX0_game_74 rfl rfl ?_
      refine xg_X0_20 (n2 := (20, 0, 0)) hX xs_main rfl dX0_game_75 ?_
      refine xg_X0_354 (n2 := (27, 0, 4)) hX (xs_M (by decide)) rfl dX0_game_78 ?_
      refine gz_iload_n (q := 3) hX dX0_game_81 rfl rfl ?_
      obtain ⟨r7, e8, h⟩ := gz_bd_o h
      refine gu_callV (ci := 3) (n := (27, 0, 4)) (As := [.int v3]) hX (c_x3_first (by decide) (by decide) e8) (lw_x3_first_ q1326) rfl rfl nn_x3_first ⟨Nat.le_of_ble_eq_true rfl, Nat.le_of_ble_eq_true rfl⟩ ⟨Nat.zero_le _, Nat.zero_le _⟩ (by decide) rfl (xs_RO (by decide) (by decide)) rfl rfl (Nat.le_of_ble_eq_true rfl) dX0_game_82 rfl ?_
      refine gz_istore (lv2 := [(4, .int r7), (0, .ref (ad (10, 0, 0))), (1, .int v1), (2, .int v2), (3, .int v3)]) hX dX0_game_85 (by decide) rfl ?_
      refine gz_iconst (v := 0) hX dX0_game_87 gl_c_0 ?_
      refine gz_istore (lv2 := [(5, .int 0), (4, .int r7), (0, .ref (ad (10, 0, 0))), (1, .int v1), (2, .int v2), (3, .int v3)]) hX dX0_game_88 (by decide) rfl ?_
      rcases gz_lp_o h with ⟨p10, e9, h⟩ | ⟨_, e9, h⟩
      · obtain rfl := gz_in1 h
        obtain ⟨_, _, e0, hF⟩ | ⟨e0, _⟩ := hout
        · cases e0
          exact gz_lv [2, 3, 4, 5, 1, 0] rfl (w_x0_game_L90 hX hZ (Or.inl ⟨_, _, rfl, hF⟩) N e9)
        · cases e0
      · refine gz_lv [2, 3, 4, 5, 1, 0] rfl (w_x0_game_L90 hX hZ (Or.inr ⟨rfl, ?_⟩) N e9)
        refine gz_iinc (q := 3) (lv2 := [(3, .int (v3 + 1)), (0, .ref (ad (10, 0, 0))), (1, .int v1), (2, .int v2)]) hX dX0_game_182 rfl gl_c_1 (by decide) rfl ?_
        refine gz_goto (tgt := 60) hX dX0_game_185 (by decide) ?_
        exact gz_lv [1, 2, 3, 0] rfl (ih h)
noncomputable def x0_game (N : Nat) (V : gz_V) (a1 : Int32) : Option (gz_V × Int32) := (if (x0_isIn a1 0 2) = 0 then some (V, (-1)) else gz_bd (x0_laysNims N V) (fun V2 => gz_bd (x0_game_L19 N V2 a1 N 0 0) (fun x4 => gz_lp (x0_game_L60 N V2 a1 x4 N 0) some (fun _ => some (V2, (-1))))))
theorem c_x0_game {l : Launch} {D : va_G} {aC : Nat → ClassId} {ad : gz_A0} {N : Nat} {Ds : gz_S} {Df : gz_R} {V : gz_V} {a1 : Int32} {W1 : gz_V} {r : Int32} (h : x0_game N V a1 = some (W1, r)) : gz_Met l yX0_game cX0_game 7 (some .int) rm_x0_game D aC ad (xw_s Ds) V (xw_c Df) [.ref (ad (10, 0, 0)), .int a1] (gz_F1 (xw_s Ds) (xw_c Df) ad W1 (some (.int r))) 0 0 := by
  refine gu_ofW (own := RX0) (mn := "game") (lv := [(0, .ref (ad (10, 0, 0))), (1, .int a1)]) (by decide) rfl rfl (Nat.le_of_ble_eq_true rfl) rfl ?_
  intro X hX hZ hF
  rw [x0_game] at h
  refine gz_iload_n (q := 1) hX dX0_game_0 rfl rfl ?_
  refine gz_iconst (v := 0) hX dX0_game_1 gl_c_0 ?_
  refine gz_iconst (v := 2) hX dX0_game_2 gl_c_2 ?_
  refine gu_callS (As := [.int a1, .int 0, .int 2]) hX (c_x0_isIn rfl) (lw_x0_isIn_ q502) rfl rfl nn_x0_isIn ⟨Nat.le_of_ble_eq_true rfl, Nat.le_of_ble_eq_true rfl⟩ ⟨Nat.zero_le _, Nat.zero_le _⟩ rfl rfl (Nat.le_of_ble_eq_true rfl) dX0_game_3 rfl ?_
  refine gz_if_ne (tgt := 11) hX dX0_game_6 (by decide) (fun c1 => ?_) (fun c1 => ?_)
  · have h := gz_ifn c1 h
    refine gz_aload_n (q := 0) hX dX0_game_11 rfl rfl ?_
    obtain ⟨V2, e3, h⟩ := gz_bd_o h
    refine gu_callV (ci := 0) (n := (10, 0, 0)) (As := []) hX (c_x0_laysNims e3) (lw_x0_laysNims_ q1445) rfl rfl nn_x0_laysNims ⟨Nat.le_of_ble_eq_true rfl, Nat.le_of_ble_eq_true rfl⟩ ⟨Nat.zero_le _, Nat.zero_le _⟩ (by decide) rfl xs_main rfl rfl (Nat.le_of_ble_eq_true rfl) dX0_game_12 rfl ?_
    refine gz_iconst (v := 0) hX dX0_game_15 gl_c_0 ?_
    refine gz_istore_n (lv2 := [(2, .int 0), (0, .ref (ad (10, 0, 0))), (1, .int a1)]) hX dX0_game_16 rfl (by decide) rfl ?_
    refine gz_iconst (v := 0) hX dX0_game_17 gl_c_0 ?_
    refine gz_istore_n (lv2 := [(3, .int 0), (2, .int 0), (0, .ref (ad (10, 0, 0))), (1, .int a1)]) hX dX0_game_18 rfl (by decide) rfl ?_
    obtain ⟨x4, e5, h⟩ := gz_bd_o h
    refine gz_lv [2, 3, 1, 0] rfl (w_x0_game_L19 hX hZ ?_ N e5)
    refine gz_iconst (v := 0) hX dX0_game_58 gl_c_0 ?_
    refine gz_istore_n (lv2 := [(3, .int 0), (0, .ref (ad (10, 0, 0))), (1, .int a1), (2, .int x4)]) hX dX0_game_59 rfl (by decide) rfl ?_
    rcases gz_lp_o h with ⟨p7, e6, h⟩ | ⟨_, e6, h⟩
    · obtain rfl := gz_in1 h
      exact gz_lv [1, 2, 3, 0] rfl (w_x0_game_L60 hX hZ (Or.inl ⟨_, _, rfl, hF⟩) N e6)
    · refine gz_lv [1, 2, 3, 0] rfl (w_x0_game_L60 hX hZ (Or.inr ⟨rfl, ?_⟩) N e6)
      refine gz_iconst (v := (-1)) hX dX0_game_188 gl_c_m1 ?_
      obtain ⟨e_V, e_r⟩ := gz_in2 h
      exact gu_iret hX hZ hF e_V rfl e_r dX0_game_189
  · have h := gz_ifp c1 h
    refine gz_iconst (v := (-1)) hX dX0_game_9 gl_c_m1 ?_
    obtain ⟨e_V, e_r⟩ := gz_in2 h
    exact gu_iret hX hZ hF e_V rfl e_r dX0_game_10
theorem lw_x0_game_ {o : String} {i : Nat} (hl : Cond.methodLink o i yX0_game ∈ lw_all) : GoodIn lw_all (wsV o i RX0 yX0_game (ws_ yX0_game cX0_game 7 (some .int))) := lw_V hl q1442 q1443 q144 q1444
theorem nn_x0_game : yX0_game.cls = RX0 ∧ yX0_game.cls ≠ "java/lang/invoke/MethodHandle" ∧ yX0_game.cls ≠ "java/lang/invoke/VarHandle" ∧ (parseMethodDescriptor yX0_game.desc).map (fun d => d.parameters.length) = some 1 := by decide +kernel
def rm_x1_thinks : Room := { frames := 3, cells := 0, slots := 0, locals := 66 }
noncomputable def x1_thinks (N : Nat) (Ds : gz_S) (Df : gz_R) (V : gz_V) (u1 : Nat) (u2 : Nat) : Option (gz_V × gz_R) := gz_bd (x1_moves N V u1 u2) (fun V1 => gz_let (gz_up V1 (20, u1, 0) 13 (V1 (20, u2, 0) 13)) (fun V3 => gz_let (gz_up V3 (20, u1, 0) 14 (V3 (20, u2, 0) 14)) (fun V5 => gz_bd (Df (20, u2, 0) 9) (fun n7 => gz_let (gz_ur Df (20, u1, 0) 9 (some n7)) (fun D9 => gz_bd (D9 (20, u2, 0) 10) (fun n11 => gz_let (gz_ur D9 (20, u1, 0) 10 (some n11)) (fun D13 => gz_bd (D13 (20, u2, 0) 11) (fun n15 => gz_let (gz_ur D13 (20, u1, 0) 11 (some n15)) (fun D17 => gz_bd (D17 (20, u2, 0) 12) (fun n19 => gz_gd (90 ≤ n19.1 ∧ Ds n19 = some (100, 12)) (gz_let (gz_ur D17 (20, u1, 0) 12 (some n19)) (fun D22 => gz_let (gz_up V5 (20, u1, 0) 20 (V5 (20, u2, 0) 20)) (fun V24 => some (V24, D22))))))))))))))
theorem c_x1_thinks {l : Launch} {D : va_G} {aC : Nat → ClassId} {ad : gz_A0} {N : Nat} {Ds : gz_S} {Df : gz_R} {V : gz_V} {u1 : Nat} {u2 : Nat} {W1 : gz_V} {E1 : gz_R} (hu1 : u1 < 9) (hu2 : u2 < 9) (h : x1_thinks N Ds Df V u1 u2 = some (W1, E1)) : gz_Met l yX1_thinks cX1_thinks 2 none rm_x1_thinks D aC ad (xw_s Ds) V (xw_c Df) [.ref (ad (20, u1, 0)), .ref (ad (20, u2, 0))] (gz_F1 (xw_s Ds) (xw_c E1) ad W1 none) 0 0 := by
  refine gu_ofW (own := RX1) (mn := "thinks") (lv := [(0, .ref (ad (20, u1, 0))), (1, .ref (ad (20, u2, 0)))]) (by decide) rfl rfl (Nat.le_of_ble_eq_true rfl) rfl ?_
  intro X hX hZ hF
  rw [x1_thinks] at h
  refine gz_aload_n (q := 0) hX dX1_thinks_0 rfl rfl ?_
  refine gz_aload_n (q := 1) hX dX1_thinks_1 rfl rfl ?_
  obtain ⟨V1, e2, h⟩ := gz_bd_o h
  refine gu_callV (ci := 1) (n := (20, u1, 0)) (As := [.ref (ad (20, u2, 0))]) hX (c_x1_moves hu1 hu2 e2) (lw_x1_moves_ q1293) rfl rfl nn_x1_moves ⟨Nat.le_of_ble_eq_true rfl, Nat.le_of_ble_eq_true rfl⟩ ⟨Nat.zero_le _, Nat.zero_le _⟩ (by decide) rfl (xs_M hu1) rfl rfl (Nat.le_of_ble_eq_true rfl) dX1_thinks_2 rfl ?_
  refine gz_aload_n (q := 0) hX dX1_thinks_5 rfl rfl ?_
  refine gz_aload_n (q := 1) hX dX1_thinks_6 rfl rfl ?_
  refine xg_X1_102 hX (xs_M hu2) dX1_thinks_7 ?_
  obtain ⟨V3, e4, h⟩ := gz_let_o h
  refine xp_X1_102 hX (xs_M hu1) (gz_ne0 19 rfl) dX1_thinks_10 e4 ?_
  refine gz_aload_n (q := 0) hX dX1_thinks_13 rfl rfl ?_
  refine gz_aload_n (q := 1) hX dX1_thinks_14 rfl rfl ?_
  refine xg_X1_105 hX (xs_M hu2) dX1_thinks_15 ?_
  obtain ⟨V5, e6, h⟩ := gz_let_o h
  refine xp_X1_105 hX (xs_M hu1) (gz_ne0 19 rfl) dX1_thinks_18 e6 ?_
  refine gz_aload_n (q := 0) hX dX1_thinks_21 rfl rfl ?_
  refine gz_aload_n (q := 1) hX dX1_thinks_22 rfl rfl ?_
  obtain ⟨n7, e8, h⟩ := gz_bd_o h
  refine xg_X1_59 (n2 := n7) hX (xs_M hu2) e8 dX1_thinks_23 ?_
  obtain ⟨D9, e10, h⟩ := gz_let_o h
  refine xp_X1_59 hX (xs_M hu1) (gz_ne0 19 rfl) (Or.inr ⟨(20, u2, 0), 9, gz_nn (xs_M hu2), e8⟩) dX1_thinks_26 ((xr_urM (by decide)).trans (congrArg xw_c e10)) ?_
  refine gz_aload_n (q := 0) hX dX1_thinks_29 rfl rfl ?_
  refine gz_aload_n (q := 1) hX dX1_thinks_30 rfl rfl ?_
  obtain ⟨n11, e12, h⟩ := gz_bd_o h
  refine xg_X1_63 (n2 := n11) hX (xs_M hu2) e12 dX1_thinks_31 ?_
  obtain ⟨D13, e14, h⟩ := gz_let_o h
  refine xp_X1_63 hX (xs_M hu1) (gz_ne0 19 rfl) (Or.inr ⟨(20, u2, 0), 10, gz_nn (xs_M hu2), e12⟩) dX1_thinks_34 ((xr_urM (by decide)).trans (congrArg xw_c e14)) ?_
  refine gz_aload_n (q := 0) hX dX1_thinks_37 rfl rfl ?_
  refine gz_aload_n (q := 1) hX dX1_thinks_38 rfl rfl ?_
  obtain ⟨n15, e16, h⟩ := gz_bd_o h
  refine xg_X1_66 (n2 := n15) hX (xs_M hu2) e16 dX1_thinks_39 ?_
  obtain ⟨D17, e18, h⟩ := gz_let_o h
  refine xp_X1_66 hX (xs_M hu1) (gz_ne0 19 rfl) (Or.inr ⟨(20, u2, 0), 11, gz_nn (xs_M hu2), e16⟩) dX1_thinks_42 ((xr_urM (by decide)).trans (congrArg xw_c e18)) ?_
  refine gz_aload_n (q := 0) hX dX1_thinks_45 rfl rfl ?_
  refine gz_aload_n (q := 1) hX dX1_thinks_46 rfl rfl ?_
  obtain ⟨n19, e20, h⟩ := gz_bd_o h
  obtain ⟨b21, h⟩ := gz_gd_o h
  refine xg_X1_69 (n2 := n19) hX (xs_M hu2) e20 dX1_thinks_47 ?_
  obtain ⟨D22, e23, h⟩ := gz_let_o h
  refine xp_X1_69 hX (xs_M hu1) (gz_ne0 19 rfl) (Or.inr ⟨(20, u2, 0), 12, gz_nn (xs_M hu2), e20⟩) dX1_thinks_50 ((xr_urM (by decide)).trans (congrArg xw_c e23)) ?_
  refine gz_aload_n (q := 0) hX dX1_thinks_53 rfl rfl ?_
  refine gz_aload_n (q := 1) hX dX1_thinks_54 rfl rfl ?_
  refine xg_X1_108 hX (xs_M hu2) dX1_thinks_55 ?_
  obtain ⟨V24, e25, h⟩ := gz_let_o h
  refine xp_X1_108 hX (xs_M hu1) (gz_ne0 19 rfl) dX1_thinks_58 e25 ?_
  obtain ⟨e_V, e_D⟩ := gz_in2 h
  exact gu_vret hX hZ hF e_V (congrArg xw_c e_D) dX1_thinks_61
theorem lw_x1_thinks_ {o : String} {i : Nat} (hl : Cond.methodLink o i yX1_thinks ∈ lw_all) : GoodIn lw_all (wsV o i RX1 yX1_thinks (ws_ yX1_thinks cX1_thinks 2 none)) := lw_V hl q1290 q1291 q145 q1292
theorem nn_x1_thinks : yX1_thinks.cls = RX1 ∧ yX1_thinks.cls ≠ "java/lang/invoke/MethodHandle" ∧ yX1_thinks.cls ≠ "java/lang/invoke/VarHandle" ∧ (parseMethodDescriptor yX1_thinks.desc).map (fun d => d.parameters.length) = some 1 := by decide +kernel
def rm_x0_hand : Room := { frames := 4, cells := 0, slots := 0, locals := 88 }
noncomputable def x0_hand (N : Nat) (Ds : gz_S) (Df : gz_R) (V : gz_V) (a1 : Int32) (a2 : Int32) : Option (gz_V × gz_R × Int32) := (if (x0_isPerson V a1) = 0 then some (V, Df, 0) else (if (x0_isIn a2 0 2) = 0 then some (V, Df, 0) else gz_bd (x0_at a1) (fun w3 => (if (V (40, 0, w3) 2) = a2 then some (V, Df, 0) else gz_b2 (x0_remembers N Ds Df V) (fun V6 D7 => gz_bd (x0_at a1) (fun w9 => gz_let (gz_up V6 (40, 0, w9) 2 a2) (fun V11 => some (V11, D7, 1))))))))
theorem c_x0_hand {l : Launch} {D : va_G} {aC : Nat → ClassId} {ad : gz_A0} {N : Nat} {Ds : gz_S} {Df : gz_R} {V : gz_V} {a1 : Int32} {a2 : Int32} {W1 : gz_V} {E1 : gz_R} {r : Int32} (h : x0_hand N Ds Df V a1 a2 = some (W1, E1, r)) : gz_Met l yX0_hand cX0_hand 3 (some .boolean) rm_x0_hand D aC ad (xw_s Ds) V (xw_c Df) [.ref (ad (10, 0, 0)), .int a1, .int a2] (gz_F1 (xw_s Ds) (xw_c E1) ad W1 (some (.int r))) 0 0 := by
  refine gu_ofW (own := RX0) (mn := "hand") (lv := [(0, .ref (ad (10, 0, 0))), (1, .int a1), (2, .int a2)]) (by decide) rfl rfl (Nat.le_of_ble_eq_true rfl) rfl ?_
  intro X hX hZ hF
  rw [x0_hand] at h
  refine gz_aload_n (q := 0) hX dX0_hand_0 rfl rfl ?_
  refine gz_iload_n (q := 1) hX dX0_hand_1 rfl rfl ?_
  refine gu_callV (ci := 0) (n := (10, 0, 0)) (As := [.int a1]) hX (c_x0_isPerson rfl) (lw_x0_isPerson_ q1059) rfl rfl nn_x0_isPerson ⟨Nat.le_of_ble_eq_true rfl, Nat.le_of_ble_eq_true rfl⟩ ⟨Nat.zero_le _, Nat.zero_le _⟩ (by decide) rfl xs_main rfl rfl (Nat.le_of_ble_eq_true rfl) dX0_hand_2 rfl ?_
  refine gz_if_eq (tgt := 29) hX dX0_hand_5 (by decide) (fun c1 => ?_) (fun c1 => ?_)
  · have h := gz_ifp c1 h
    refine gz_iconst (v := 0) hX dX0_hand_29 gl_c_0 ?_
    obtain ⟨e_V, e_D, e_r⟩ := gz_in3 h
    exact gu_zret hX hZ rfl hF e_V (congrArg xw_c e_D) e_r dX0_hand_30
  · have h := gz_ifn c1 h
    refine gz_iload_n (q := 2) hX dX0_hand_8 rfl rfl ?_
    refine gz_iconst (v := 0) hX dX0_hand_9 gl_c_0 ?_
    refine gz_iconst (v := 2) hX dX0_hand_10 gl_c_2 ?_
    refine gu_callS (As := [.int a2, .int 0, .int 2]) hX (c_x0_isIn rfl) (lw_x0_isIn_ q502) rfl rfl nn_x0_isIn ⟨Nat.le_of_ble_eq_true rfl, Nat.le_of_ble_eq_true rfl⟩ ⟨Nat.zero_le _, Nat.zero_le _⟩ rfl rfl (Nat.le_of_ble_eq_true rfl) dX0_hand_11 rfl ?_
    refine gz_if_eq (tgt := 29) hX dX0_hand_14 (by decide) (fun c2 => ?_) (fun c2 => ?_)
    · have h := gz_ifp c2 h
      refine gz_iconst (v := 0) hX dX0_hand_29 gl_c_0 ?_
      obtain ⟨e_V, e_D, e_r⟩ := gz_in3 h
      exact gu_zret hX hZ rfl hF e_V (congrArg xw_c e_D) e_r dX0_hand_30
    · have h := gz_ifn c2 h
      refine gz_aload_n (q := 0) hX dX0_hand_17 rfl rfl ?_
      refine gz_iload_n (q := 1) hX dX0_hand_18 rfl rfl ?_
      obtain ⟨w3, e4, h⟩ := gz_bd_o h
      refine gu_callV (ci := 0) (n := (10, 0, 0)) (As := [.int a1]) hX (c_x0_at e4) (lw_x0_at_ q1047) rfl rfl nn_x0_at ⟨Nat.le_of_ble_eq_true rfl, Nat.le_of_ble_eq_true rfl⟩ ⟨Nat.zero_le _, Nat.zero_le _⟩ (by decide) rfl xs_main rfl rfl (Nat.le_of_ble_eq_true rfl) dX0_hand_19 rfl ?_
      refine xg_X0_213 hX (xs_P (by decide) (b_x0_at e4)) dX0_hand_22 ?_
      refine gz_iload_n (q := 2) hX dX0_hand_25 rfl rfl ?_
      refine gz_icmp_ne (tgt := 31) hX dX0_hand_26 (by decide) (fun c5 => ?_) (fun c5 => ?_)
      · have h := gz_ifn c5 h
        refine gz_aload_n (q := 0) hX dX0_hand_31 rfl rfl ?_
        obtain ⟨V6, D7, e8, h⟩ := gz_b2_o h
        refine gu_callV (ci := 0) (n := (10, 0, 0)) (As := []) hX (c_x0_remembers e8) (lw_x0_remembers_ q1154) rfl rfl nn_x0_remembers ⟨Nat.le_of_ble_eq_true rfl, Nat.le_of_ble_eq_true rfl⟩ ⟨Nat.zero_le _, Nat.zero_le _⟩ (by decide) rfl xs_main rfl rfl (Nat.le_of_ble_eq_true rfl) dX0_hand_32 rfl ?_
        refine gz_aload_n (q := 0) hX dX0_hand_35 rfl rfl ?_
        refine gz_iload_n (q := 1) hX dX0_hand_36 rfl rfl ?_
        obtain ⟨w9, e10, h⟩ := gz_bd_o h
        refine gu_callV (ci := 0) (n := (10, 0, 0)) (As := [.int a1]) hX (c_x0_at e10) (lw_x0_at_ q1047) rfl rfl nn_x0_at ⟨Nat.le_of_ble_eq_true rfl, Nat.le_of_ble_eq_true rfl⟩ ⟨Nat.zero_le _, Nat.zero_le _⟩ (by decide) rfl xs_main rfl rfl (Nat.le_of_ble_eq_true rfl) dX0_hand_37 rfl ?_
        refine gz_iload_n (q := 2) hX dX0_hand_40 rfl rfl ?_
        obtain ⟨V11, e12, h⟩ := gz_let_o h
        refine xp_X0_213 hX (xs_P (by decide) (b_x0_at e10)) (gz_ne0 39 rfl) dX0_hand_41 e12 ?_
        refine gz_iconst (v := 1) hX dX0_hand_44 gl_c_1 ?_
        obtain ⟨e_V, e_D, e_r⟩ := gz_in3 h
        exact gu_zret hX hZ rfl hF e_V (congrArg xw_c e_D) e_r dX0_hand_45
      · have h := gz_ifp c5 h
        refine gz_iconst (v := 0) hX dX0_hand_29 gl_c_0 ?_
        obtain ⟨e_V, e_D, e_r⟩ := gz_in3 h
        exact gu_zret hX hZ rfl hF e_V (congrArg xw_c e_D) e_r dX0_hand_30
theorem lw_x0_hand_ {o : String} {i : Nat} (hl : Cond.methodLink o i yX0_hand ∈ lw_all) : GoodIn lw_all (wsV o i RX0 yX0_hand (ws_ yX0_hand cX0_hand 3 (some .boolean))) := lw_V hl q1210 q1211 q144 q1212
theorem nn_x0_hand : yX0_hand.cls = RX0 ∧ yX0_hand.cls ≠ "java/lang/invoke/MethodHandle" ∧ yX0_hand.cls ≠ "java/lang/invoke/VarHandle" ∧ (parseMethodDescriptor yX0_hand.desc).map (fun d => d.parameters.length) = some 2 := by decide +kernel
def rm_x0_hasMost : Room := { frames := 1, cells := 0, slots := 0, locals := 21 }
noncomputable def x0_hasMost_L2 (N : Nat) (V : gz_V) (v1 : Int32) (v2 : Int32) : Nat → Int32 → Option ((Int32) ⊕ (Unit))
  | 0, _ => none
  | n + 1, v3 => (if (V (20, 0, 0) 13) ≤ v3 then some (.inr ()) else (if v3 = v1 then x0_hasMost_L2 N V v1 v2 n (v3 + 1) else gz_bd (x0_at v3) (fun w3 => gz_gd (gz_inb v2 5 = true) (gz_bd (x0_at v1) (fun w6 => gz_gd (gz_inb v2 5 = true) ((if (V (41, 0, w3) v2.toNatClampNeg) < (V (41, 0, w6) v2.toNatClampNeg) then x0_hasMost_L2 N V v1 v2 n (v3 + 1) else some (.inl 0))))))))
theorem w_x0_hasMost_L2 {X : gz_X} {ad : gz_A0} {N : Nat} {Ds : gz_S} {Df : gz_R} {V : gz_V} {v1 : Int32} {v2 : Int32} {out : (Int32) ⊕ (Unit)} (hX : gz_ok X cX0_hasMost RX0 "hasMost" 4 rm_x0_hasMost (some .boolean)) (hZ : gz_Z X) (hout : (∃ (r : Int32), out = .inl r ∧ gx_F X (xw_s Ds) V (xw_c Df) ad (some (.int r))) ∨ (out = .inr () ∧ gW X 4 (xw_s Ds) (xw_c Df) ad V 0 0 49 [] [])) : ∀ (n : Nat) {v3 : Int32}, x0_hasMost_L2 N V v1 v2 n v3 = some out → gW X 4 (xw_s Ds) (xw_c Df) ad V 0 0 2 [(0, .ref (ad (10, 0, 0))), (1, .int v1), (2, .int v2), (3, .int v3)] [] := by
  intro n
  induction n with
  | zero => intro v3 h; rw [x0_hasMost_L2] at h; cases h
  | succ n ih =>
    intro v3 h
    rw [x0_hasMost_L2] at h
    refine gz_iload_n (q := 3) hX dX0_hasMost_2 rfl rfl ?_
    refine gz_aload_n (q := 0) hX dX0_hasMost_3 rfl rfl ?_
    refine xg_X0_20 (n2 := (20, 0, 0)) hX xs_main rfl dX0_hasMost_4 ?_
    refine xg_X0_137 hX (xs_M (by decide)) dX0_hasMost_7 ?_
    refine gz_icmp_ge (tgt := 49) hX dX0_hasMost_10 (by decide) (fun c1 => ?_) (fun c1 => ?_)
    · have h := gz_ifp c1 h
      obtain rfl := gz_in1 h
      obtain ⟨_, e0, _⟩ | ⟨e0, k⟩ := hout
      · cases e0
      · cases e0
        exact gz_lv [] rfl k
    · have h := gz_ifn c1 h
      refine gz_iload_n (q := 3) hX dX0_hasMost_13 rfl rfl ?_
      refine gz_iload_n (q := 1) hX dX0_hasMost_14 rfl rfl ?_
      refine gz_icmp_eq (tgt := 43) hX dX0_hasMost_15 (by decide) (fun c2 => ?_) (fun c2 => ?_)
      · have h := gz_ifp c2 h
        refine gz_iinc (q := 3) (lv2 := [(3, .int (v3 + 1)), (0, .ref (ad (10, 0, 0))), (1, .int v1), (2, .int v2)]) hX dX0_hasMost_43 rfl gl_c_1 (by decide) rfl ?_
        refine gz_goto (tgt := 2) hX dX0_hasMost_46 (by decide) ?_
        exact gz_lv [1, 2, 3, 0] rfl (ih h)
      · have h := gz_ifn c2 h
        refine gz_aload_n (q := 0) hX dX0_hasMost_18 rfl rfl ?_
        refine gz_iload_n (q := 3) hX dX0_hasMost_19 rfl rfl ?_
        obtain ⟨w3, e4, h⟩ := gz_bd_o h
        refine gu_callV (ci := 0) (n := (10, 0, 0)) (As := [.int v3]) hX (c_x0_at e4) (lw_x0_at_ q1047) rfl rfl nn_x0_at ⟨Nat.le_of_ble_eq_true rfl, Nat.le_of_ble_eq_true rfl⟩ ⟨Nat.zero_le _, Nat.zero_le _⟩ (by decide) rfl xs_main rfl rfl (Nat.le_of_ble_eq_true rfl) dX0_hasMost_20 rfl ?_
        refine xg_X0_188 (n2 := (41, 0, w3)) hX (xs_P (by decide) (b_x0_at e4)) rfl dX0_hasMost_23 ?_
        refine gz_iload_n (q := 2) hX dX0_hasMost_26 rfl rfl ?_
        obtain ⟨b5, h⟩ := gz_gd_o h
        refine gz_iald (L := 5) hX (xs_T (by decide) (b_x0_at e4)) (gz_inb_o b5) dX0_hasMost_27 ?_
        refine gz_aload_n (q := 0) hX dX0_hasMost_28 rfl rfl ?_
        refine gz_iload_n (q := 1) hX dX0_hasMost_29 rfl rfl ?_
        obtain ⟨w6, e7, h⟩ := gz_bd_o h
        refine gu_callV (ci := 0) (n := (10, 0, 0)) (As := [.int v1]) hX (c_x0_at e7) (lw_x0_at_ q1047) rfl rfl nn_x0_at ⟨Nat.le_of_ble_eq_true rfl, Nat.le_of_ble_eq_true rfl⟩ ⟨Nat.zero_le _, Nat.zero_le _⟩ (by decide) rfl xs_main rfl rfl (Nat.le_of_ble_eq_true rfl) dX0_hasMost_30 rfl ?_
        refine xg_X0_188 (n2 := (41, 0, w6)) hX (xs_P (by decide) (b_x0_at e7)) rfl dX0_hasMost_33 ?_
        refine gz_iload_n (q := 2) hX dX0_hasMost_36 rfl rfl ?_
        obtain ⟨b8, h⟩ := gz_gd_o h
        refine gz_iald (L := 5) hX (xs_T (by decide) (b_x0_at e7)) (gz_inb_o b8) dX0_hasMost_37 ?_
        refine gz_icmp_lt (tgt := 43) hX dX0_hasMost_38 (by decide) (fun c9 => ?_) (fun c9 => ?_)
        · have h := gz_ifp c9 h
          refine gz_iinc (q := 3) (lv2 := [(3, .int (v3 + 1)), (0, .ref (ad (10, 0, 0))), (1, .int v1), (2, .int v2)]) hX dX0_hasMost_43 rfl gl_c_1 (by decide) rfl ?_
          refine gz_goto (tgt := 2) hX dX0_hasMost_46 (by decide) ?_
          exact gz_lv [1, 2, 3, 0] rfl (ih h)
        · have h := gz_ifn c9 h
          refine gz_iconst (v := 0) hX dX0_hasMost_41 gl_c_0 ?_
          obtain rfl := gz_in1 h
          obtain ⟨_, e0, hF⟩ | ⟨e0, _⟩ := hout
          · cases e0
            exact gu_zret hX hZ rfl hF rfl rfl rfl dX0_hasMost_42
          · cases e0
noncomputable def x0_hasMost (N : Nat) (V : gz_V) (a1 : Int32) (a2 : Int32) : Option (Int32) := gz_lp (x0_hasMost_L2 N V a1 a2 N 0) some (fun _ => some 1)
theorem c_x0_hasMost {l : Launch} {D : va_G} {aC : Nat → ClassId} {ad : gz_A0} {N : Nat} {Ds : gz_S} {Df : gz_R} {V : gz_V} {a1 : Int32} {a2 : Int32} {r : Int32} (h : x0_hasMost N V a1 a2 = some r) : gz_Met l yX0_hasMost cX0_hasMost 4 (some .boolean) rm_x0_hasMost D aC ad (xw_s Ds) V (xw_c Df) [.ref (ad (10, 0, 0)), .int a1, .int a2] (gz_F1 (xw_s Ds) (xw_c Df) ad V (some (.int r))) 0 0 := by
  refine gu_ofW (own := RX0) (mn := "hasMost") (lv := [(0, .ref (ad (10, 0, 0))), (1, .int a1), (2, .int a2)]) (by decide) rfl rfl (Nat.le_of_ble_eq_true rfl) rfl ?_
  intro X hX hZ hF
  rw [x0_hasMost] at h
  refine gz_iconst (v := 0) hX dX0_hasMost_0 gl_c_0 ?_
  refine gz_istore_n (lv2 := [(3, .int 0), (0, .ref (ad (10, 0, 0))), (1, .int a1), (2, .int a2)]) hX dX0_hasMost_1 rfl (by decide) rfl ?_
  rcases gz_lp_o h with ⟨p2, e1, h⟩ | ⟨_, e1, h⟩
  · obtain rfl := gz_in1 h
    exact gz_lv [1, 2, 3, 0] rfl (w_x0_hasMost_L2 hX hZ (Or.inl ⟨_, rfl, hF⟩) N e1)
  · refine gz_lv [1, 2, 3, 0] rfl (w_x0_hasMost_L2 hX hZ (Or.inr ⟨rfl, ?_⟩) N e1)
    refine gz_iconst (v := 1) hX dX0_hasMost_49 gl_c_1 ?_
    exact gu_zret hX hZ rfl hF rfl rfl (gz_in1 h) dX0_hasMost_50
theorem lw_x0_hasMost_ {o : String} {i : Nat} (hl : Cond.methodLink o i yX0_hasMost ∈ lw_all) : GoodIn lw_all (wsV o i RX0 yX0_hasMost (ws_ yX0_hasMost cX0_hasMost 4 (some .boolean))) := lw_V hl q1418 qs50 q144 q1419
theorem nn_x0_hasMost : yX0_hasMost.cls = RX0 ∧ yX0_hasMost.cls ≠ "java/lang/invoke/MethodHandle" ∧ yX0_hasMost.cls ≠ "java/lang/invoke/VarHandle" ∧ (parseMethodDescriptor yX0_hasMost.desc).map (fun d => d.parameters.length) = some 2 := by decide +kernel
def rm_x3_ends : Room := { frames := 0, cells := 0, slots := 0, locals := 0 }
noncomputable def x3_ends (V : gz_V) (u1 : Nat) (u2 : Nat) : Option (gz_V × Int32) := gz_let (gz_up V (27, u1, u2) 1 0) (fun V1 => some (V1, 0))
theorem c_x3_ends {l : Launch} {D : va_G} {aC : Nat → ClassId} {ad : gz_A0} {Ds : gz_S} {Df : gz_R} {V : gz_V} {u1 : Nat} {u2 : Nat} {W1 : gz_V} {r : Int32} (hu1 : u1 < 9) (hu2 : u2 < 5) (h : x3_ends V u1 u2 = some (W1, r)) : gz_Met l yX3_ends cX3_ends 1 (some .int) rm_x3_ends D aC ad (xw_s Ds) V (xw_c Df) [.ref (ad (27, u1, u2))] (gz_F1 (xw_s Ds) (xw_c Df) ad W1 (some (.int r))) 0 0 := by
  refine gu_ofW (own := RX3) (mn := "ends") (lv := [(0, .ref (ad (27, u1, u2)))]) (by decide) rfl rfl (Nat.le_of_ble_eq_true rfl) rfl ?_
  intro X hX hZ hF
  rw [x3_ends] at h
  refine gz_aload_n (q := 0) hX dX3_ends_0 rfl rfl ?_
  refine gz_iconst (v := 0) hX dX3_ends_1 gl_c_0 ?_
  obtain ⟨V1, e2, h⟩ := gz_let_o h
  refine xp_X3_16 hX (xs_RO hu1 hu2) (gz_ne0 26 rfl) dX3_ends_2 e2 ?_
  refine gz_iconst (v := 0) hX dX3_ends_5 gl_c_0 ?_
  obtain ⟨e_V, e_r⟩ := gz_in2 h
  exact gu_iret hX hZ hF e_V rfl e_r dX3_ends_6
theorem lw_x3_ends_ {o : String} {i : Nat} (hl : Cond.methodLink o i yX3_ends ∈ lw_all) : GoodIn lw_all (wsV o i RX3 yX3_ends (ws_ yX3_ends cX3_ends 1 (some .int))) := lw_V hl q1303 q1304 q147 q1305
theorem nn_x3_ends : yX3_ends.cls = RX3 ∧ yX3_ends.cls ≠ "java/lang/invoke/MethodHandle" ∧ yX3_ends.cls ≠ "java/lang/invoke/VarHandle" ∧ (parseMethodDescriptor yX3_ends.desc).map (fun d => d.parameters.length) = some 0 := by decide +kernel
def rm_x3_tells : Room := { frames := 0, cells := 0, slots := 0, locals := 0 }
noncomputable def x3_tells (V : gz_V) (u1 : Nat) (u2 : Nat) (a1 : Int32) (a2 : Int32) : Option (gz_V × Int32) := (if (V (27, u1, u2) 1) = ((xw_rl u2).toInt32) then some (V, (-1)) else gz_gd (gz_inb (V (27, u1, u2) 1) (xw_rl u2) = true) (gz_let (gz_up V (30 + u2, u1, (V (27, u1, u2) 1).toNatClampNeg) (0 : Int32).toNatClampNeg a1) (fun V3 => gz_gd (gz_inb (V3 (27, u1, u2) 1) (xw_rl u2) = true) (gz_let (gz_up V3 (30 + u2, u1, (V3 (27, u1, u2) 1).toNatClampNeg) (1 : Int32).toNatClampNeg a2) (fun V6 => gz_let (gz_up V6 (27, u1, u2) 1 ((V6 (27, u1, u2) 1) + 1)) (fun V8 => some (V8, (V8 (27, u1, u2) 1))))))))
theorem c_x3_tells {l : Launch} {D : va_G} {aC : Nat → ClassId} {ad : gz_A0} {Ds : gz_S} {Df : gz_R} {V : gz_V} {u1 : Nat} {u2 : Nat} {a1 : Int32} {a2 : Int32} {W1 : gz_V} {r : Int32} (hu1 : u1 < 9) (hu2 : u2 < 5) (h : x3_tells V u1 u2 a1 a2 = some (W1, r)) : gz_Met l yX3_tells cX3_tells 3 (some .int) rm_x3_tells D aC ad (xw_s Ds) V (xw_c Df) [.ref (ad (27, u1, u2)), .int a1, .int a2] (gz_F1 (xw_s Ds) (xw_c Df) ad W1 (some (.int r))) 0 0 := by
  refine gu_ofW (own := RX3) (mn := "tells") (lv := [(0, .ref (ad (27, u1, u2))), (1, .int a1), (2, .int a2)]) (by decide) rfl rfl (Nat.le_of_ble_eq_true rfl) rfl ?_
  intro X hX hZ hF
  rw [x3_tells] at h
  refine gz_aload_n (q := 0) hX dX3_tells_0 rfl rfl ?_
  refine xg_X3_16 hX (xs_RO hu1 hu2) dX3_tells_1 ?_
  refine gz_aload_n (q := 0) hX dX3_tells_4 rfl rfl ?_
  refine xg_X3_11 (n2 := (28, u1, u2)) hX (xs_RO hu1 hu2) rfl dX3_tells_5 ?_
  refine gz_alenq (t := 112) (t0 := 5) (ty := (.array .int)) hX (by decide) (by decide) (fun _ => rfl) (xs_RA hu1 hu2) rfl dX3_tells_8 ?_
  refine gz_icmp_ne (tgt := 14) hX dX3_tells_9 (by decide) (fun c1 => ?_) (fun c1 => ?_)
  · have h := gz_ifn c1 h
    refine gz_aload_n (q := 0) hX dX3_tells_14 rfl rfl ?_
    refine xg_X3_11 (n2 := (28, u1, u2)) hX (xs_RO hu1 hu2) rfl dX3_tells_15 ?_
    refine gz_aload_n (q := 0) hX dX3_tells_18 rfl rfl ?_
    refine xg_X3_16 hX (xs_RO hu1 hu2) dX3_tells_19 ?_
    obtain ⟨b2, h⟩ := gz_gd_o h
    refine gz_aald (L := (xw_rl u2)) (t := 112) (t0 := 5) (ty := (.array .int)) (n2 := (30 + u2, u1, (V (27, u1, u2) 1).toNatClampNeg)) hX (by decide) (by decide) (fun _ => rfl) rfl (xs_RA hu1 hu2) (gz_inb_o b2) (xr_RA (gz_inb_lt b2)) dX3_tells_22 ?_
    refine gz_iconst (v := 0) hX dX3_tells_23 gl_c_0 ?_
    refine gz_iload_n (q := 1) hX dX3_tells_24 rfl rfl ?_
    obtain ⟨V3, e4, h⟩ := gz_let_o h
    refine gz_iast (L := 2) hX (xs_RR hu1 hu2 (gz_inb_lt b2)) (by show 30 + u2 ≠ 0; omega) (gz_inb_o (by decide)) dX3_tells_25 e4 ?_
    refine gz_aload_n (q := 0) hX dX3_tells_26 rfl rfl ?_
    refine xg_X3_11 (n2 := (28, u1, u2)) hX (xs_RO hu1 hu2) rfl dX3_tells_27 ?_
    refine gz_aload_n (q := 0) hX dX3_tells_30 rfl rfl ?_
    refine xg_X3_16 hX (xs_RO hu1 hu2) dX3_tells_31 ?_
    obtain ⟨b5, h⟩ := gz_gd_o h
    refine gz_aald (L := (xw_rl u2)) (t := 112) (t0 := 5) (ty := (.array .int)) (n2 := (30 + u2, u1, (V3 (27, u1, u2) 1).toNatClampNeg)) hX (by decide) (by decide) (fun _ => rfl) rfl (xs_RA hu1 hu2) (gz_inb_o b5) (xr_RA (gz_inb_lt b5)) dX3_tells_34 ?_
    refine gz_iconst (v := 1) hX dX3_tells_35 gl_c_1 ?_
    refine gz_iload_n (q := 2) hX dX3_tells_36 rfl rfl ?_
    obtain ⟨V6, e7, h⟩ := gz_let_o h
    refine gz_iast (L := 2) hX (xs_RR hu1 hu2 (gz_inb_lt b5)) (by show 30 + u2 ≠ 0; omega) (gz_inb_o (by decide)) dX3_tells_37 e7 ?_
    refine gz_aload_n (q := 0) hX dX3_tells_38 rfl rfl ?_
    refine gz_dupa hX dX3_tells_39 ?_
    refine xg_X3_16 hX (xs_RO hu1 hu2) dX3_tells_40 ?_
    refine gz_iconst (v := 1) hX dX3_tells_43 gl_c_1 ?_
    refine gz_iadd hX dX3_tells_44 ?_
    obtain ⟨V8, e9, h⟩ := gz_let_o h
    refine xp_X3_16 hX (xs_RO hu1 hu2) (gz_ne0 26 rfl) dX3_tells_45 e9 ?_
    refine gz_aload_n (q := 0) hX dX3_tells_48 rfl rfl ?_
    refine xg_X3_16 hX (xs_RO hu1 hu2) dX3_tells_49 ?_
    obtain ⟨e_V, e_r⟩ := gz_in2 h
    exact gu_iret hX hZ hF e_V rfl e_r dX3_tells_52
  · have h := gz_ifp c1 h
    refine gz_iconst (v := (-1)) hX dX3_tells_12 gl_c_m1 ?_
    obtain ⟨e_V, e_r⟩ := gz_in2 h
    exact gu_iret hX hZ hF e_V rfl e_r dX3_tells_13
theorem lw_x3_tells_ {o : String} {i : Nat} (hl : Cond.methodLink o i yX3_tells ∈ lw_all) : GoodIn lw_all (wsV o i RX3 yX3_tells (ws_ yX3_tells cX3_tells 3 (some .int))) := lw_V hl q1307 q1308 q147 q1309
theorem nn_x3_tells : yX3_tells.cls = RX3 ∧ yX3_tells.cls ≠ "java/lang/invoke/MethodHandle" ∧ yX3_tells.cls ≠ "java/lang/invoke/VarHandle" ∧ (parseMethodDescriptor yX3_tells.desc).map (fun d => d.parameters.length) = some 2 := by decide +kernel
theorem gl_b_30 : (Int8.ofInt 30).toInt32 = 30 := by decide
def rm_x0_herd : Room := { frames := 1, cells := 0, slots := 0, locals := 22 }
noncomputable def x0_herd (V : gz_V) (a1 : Int32) : Option (gz_V × Int32) := (if a1 = (-1) then gz_b2 (x3_ends V 0 3) (fun V6 r7 => some (V6, r7)) else (if (x0_isIn a1 1 30) = 0 then some (V, (-1)) else gz_b2 (x3_tells V 0 3 a1 0) (fun V3 r4 => some (V3, r4))))
theorem c_x0_herd {l : Launch} {D : va_G} {aC : Nat → ClassId} {ad : gz_A0} {Ds : gz_S} {Df : gz_R} {V : gz_V} {a1 : Int32} {W1 : gz_V} {r : Int32} (h : x0_herd V a1 = some (W1, r)) : gz_Met l yX0_herd cX0_herd 2 (some .int) rm_x0_herd D aC ad (xw_s Ds) V (xw_c Df) [.ref (ad (10, 0, 0)), .int a1] (gz_F1 (xw_s Ds) (xw_c Df) ad W1 (some (.int r))) 0 0 := by
  refine gu_ofW (own := RX0) (mn := "herd") (lv := [(0, .ref (ad (10, 0, 0))), (1, .int a1)]) (by decide) rfl rfl (Nat.le_of_ble_eq_true rfl) rfl ?_
  intro X hX hZ hF
  rw [x0_herd] at h
  refine gz_iload_n (q := 1) hX dX0_herd_0 rfl rfl ?_
  refine gz_iconst (v := (-1)) hX dX0_herd_1 gl_c_m1 ?_
  refine gz_icmp_ne (tgt := 18) hX dX0_herd_2 (by decide) (fun c1 => ?_) (fun c1 => ?_)
  · have h := gz_ifn c1 h
    refine gz_iload_n (q := 1) hX dX0_herd_18 rfl rfl ?_
    refine gz_iconst (v := 1) hX dX0_herd_19 gl_c_1 ?_
    refine gz_bipush (v := 30) hX dX0_herd_20 gl_b_30 ?_
    refine gu_callS (As := [.int a1, .int 1, .int 30]) hX (c_x0_isIn rfl) (lw_x0_isIn_ q502) rfl rfl nn_x0_isIn ⟨Nat.le_of_ble_eq_true rfl, Nat.le_of_ble_eq_true rfl⟩ ⟨Nat.zero_le _, Nat.zero_le _⟩ rfl rfl (Nat.le_of_ble_eq_true rfl) dX0_herd_22 rfl ?_
    refine gz_if_eq (tgt := 43) hX dX0_herd_25 (by decide) (fun c2 => ?_) (fun c2 => ?_)
    · have h := gz_ifp c2 h
      refine gz_iconst (v := (-1)) hX dX0_herd_43 gl_c_m1 ?_
      obtain ⟨e_V, e_r⟩ := gz_in2 h
      exact gu_iret hX hZ hF e_V rfl e_r dX0_herd_44
    · have h := gz_ifn c2 h
      refine gz_aload_n (q := 0) hX dX0_herd_28 rfl rfl ?_
      refine xg_X0_20 (n2 := (20, 0, 0)) hX xs_main rfl dX0_herd_29 ?_
      refine xg_X0_341 (n2 := (27, 0, 3)) hX (xs_M (by decide)) rfl dX0_herd_32 ?_
      refine gz_iload_n (q := 1) hX dX0_herd_35 rfl rfl ?_
      refine gz_iconst (v := 0) hX dX0_herd_36 gl_c_0 ?_
      obtain ⟨V3, r4, e5, h⟩ := gz_b2_o h
      refine gu_callV (ci := 3) (n := (27, 0, 3)) (As := [.int a1, .int 0]) hX (c_x3_tells (by decide) (by decide) e5) (lw_x3_tells_ q1306) rfl rfl nn_x3_tells ⟨Nat.le_of_ble_eq_true rfl, Nat.le_of_ble_eq_true rfl⟩ ⟨Nat.zero_le _, Nat.zero_le _⟩ (by decide) rfl (xs_RO (by decide) (by decide)) rfl rfl (Nat.le_of_ble_eq_true rfl) dX0_herd_37 rfl ?_
      refine gz_goto (tgt := 44) hX dX0_herd_40 (by decide) ?_
      obtain ⟨e_V, e_r⟩ := gz_in2 h
      exact gu_iret hX hZ hF e_V rfl e_r dX0_herd_44
  · have h := gz_ifp c1 h
    refine gz_aload_n (q := 0) hX dX0_herd_5 rfl rfl ?_
    refine xg_X0_20 (n2 := (20, 0, 0)) hX xs_main rfl dX0_herd_6 ?_
    refine xg_X0_341 (n2 := (27, 0, 3)) hX (xs_M (by decide)) rfl dX0_herd_9 ?_
    obtain ⟨V6, r7, e8, h⟩ := gz_b2_o h
    refine gu_callV (ci := 3) (n := (27, 0, 3)) (As := []) hX (c_x3_ends (by decide) (by decide) e8) (lw_x3_ends_ q1302) rfl rfl nn_x3_ends ⟨Nat.le_of_ble_eq_true rfl, Nat.le_of_ble_eq_true rfl⟩ ⟨Nat.zero_le _, Nat.zero_le _⟩ (by decide) rfl (xs_RO (by decide) (by decide)) rfl rfl (Nat.le_of_ble_eq_true rfl) dX0_herd_12 rfl ?_
    refine gz_goto (tgt := 44) hX dX0_herd_15 (by decide) ?_
    obtain ⟨e_V, e_r⟩ := gz_in2 h
    exact gu_iret hX hZ hF e_V rfl e_r dX0_herd_44
theorem lw_x0_herd_ {o : String} {i : Nat} (hl : Cond.methodLink o i yX0_herd ∈ lw_all) : GoodIn lw_all (wsV o i RX0 yX0_herd (ws_ yX0_herd cX0_herd 2 (some .int))) := lw_V hl q1421 q1422 q144 q1423
theorem nn_x0_herd : yX0_herd.cls = RX0 ∧ yX0_herd.cls ≠ "java/lang/invoke/MethodHandle" ∧ yX0_herd.cls ≠ "java/lang/invoke/VarHandle" ∧ (parseMethodDescriptor yX0_herd.desc).map (fun d => d.parameters.length) = some 1 := by decide +kernel
def rm_x0_horse : Room := { frames := 2, cells := 0, slots := 0, locals := 43 }
noncomputable def x0_horse (V : gz_V) (a1 : Int32) (a2 : Int32) (a3 : Int32) : Option (gz_V × Int32) := (if (x0_isPerson V a1) = 0 then some (V, (-1)) else (if (x0_isIn a2 0 999) = 0 then some (V, (-1)) else (if (x0_isIn a3 0 9) = 0 then some (V, (-1)) else (if (V (20, 0, 0) 14) = 10 then some (V, (-1)) else gz_gd (gz_inb (V (20, 0, 0) 14) 10 = true) (gz_bd (x5_begins V 0 ((V (20, 0, 0) 14).toNatClampNeg) a1 a2 a3) (fun V6 => gz_let (gz_up V6 (20, 0, 0) 14 ((V6 (20, 0, 0) 14) + 1)) (fun V8 => gz_b2 (x0_forgets V8) (fun V10 r11 => some (V10, ((V10 (20, 0, 0) 14) - 1))))))))))
theorem c_x0_horse {l : Launch} {D : va_G} {aC : Nat → ClassId} {ad : gz_A0} {Ds : gz_S} {Df : gz_R} {V : gz_V} {a1 : Int32} {a2 : Int32} {a3 : Int32} {W1 : gz_V} {r : Int32} (h : x0_horse V a1 a2 a3 = some (W1, r)) : gz_Met l yX0_horse cX0_horse 4 (some .int) rm_x0_horse D aC ad (xw_s Ds) V (xw_c Df) [.ref (ad (10, 0, 0)), .int a1, .int a2, .int a3] (gz_F1 (xw_s Ds) (xw_c Df) ad W1 (some (.int r))) 0 0 := by
  refine gu_ofW (own := RX0) (mn := "horse") (lv := [(0, .ref (ad (10, 0, 0))), (1, .int a1), (2, .int a2), (3, .int a3)]) (by decide) rfl rfl (Nat.le_of_ble_eq_true rfl) rfl ?_
  intro X hX hZ hF
  rw [x0_horse] at h
  refine gz_aload_n (q := 0) hX dX0_horse_0 rfl rfl ?_
  refine gz_iload_n (q := 1) hX dX0_horse_1 rfl rfl ?_
  refine gu_callV (ci := 0) (n := (10, 0, 0)) (As := [.int a1]) hX (c_x0_isPerson rfl) (lw_x0_isPerson_ q1059) rfl rfl nn_x0_isPerson ⟨Nat.le_of_ble_eq_true rfl, Nat.le_of_ble_eq_true rfl⟩ ⟨Nat.zero_le _, Nat.zero_le _⟩ (by decide) rfl xs_main rfl rfl (Nat.le_of_ble_eq_true rfl) dX0_horse_2 rfl ?_
  refine gz_if_eq (tgt := 41) hX dX0_horse_5 (by decide) (fun c1 => ?_) (fun c1 => ?_)
  · have h := gz_ifp c1 h
    refine gz_iconst (v := (-1)) hX dX0_horse_41 gl_c_m1 ?_
    obtain ⟨e_V, e_r⟩ := gz_in2 h
    exact gu_iret hX hZ hF e_V rfl e_r dX0_horse_42
  · have h := gz_ifn c1 h
    refine gz_iload_n (q := 2) hX dX0_horse_8 rfl rfl ?_
    refine gz_iconst (v := 0) hX dX0_horse_9 gl_c_0 ?_
    refine gz_sipush (v := 999) hX dX0_horse_10 gl_s_999 ?_
    refine gu_callS (As := [.int a2, .int 0, .int 999]) hX (c_x0_isIn rfl) (lw_x0_isIn_ q502) rfl rfl nn_x0_isIn ⟨Nat.le_of_ble_eq_true rfl, Nat.le_of_ble_eq_true rfl⟩ ⟨Nat.zero_le _, Nat.zero_le _⟩ rfl rfl (Nat.le_of_ble_eq_true rfl) dX0_horse_13 rfl ?_
    refine gz_if_eq (tgt := 41) hX dX0_horse_16 (by decide) (fun c2 => ?_) (fun c2 => ?_)
    · have h := gz_ifp c2 h
      refine gz_iconst (v := (-1)) hX dX0_horse_41 gl_c_m1 ?_
      obtain ⟨e_V, e_r⟩ := gz_in2 h
      exact gu_iret hX hZ hF e_V rfl e_r dX0_horse_42
    · have h := gz_ifn c2 h
      refine gz_iload_n (q := 3) hX dX0_horse_19 rfl rfl ?_
      refine gz_iconst (v := 0) hX dX0_horse_20 gl_c_0 ?_
      refine gz_bipush (v := 9) hX dX0_horse_21 gl_b_9 ?_
      refine gu_callS (As := [.int a3, .int 0, .int 9]) hX (c_x0_isIn rfl) (lw_x0_isIn_ q502) rfl rfl nn_x0_isIn ⟨Nat.le_of_ble_eq_true rfl, Nat.le_of_ble_eq_true rfl⟩ ⟨Nat.zero_le _, Nat.zero_le _⟩ rfl rfl (Nat.le_of_ble_eq_true rfl) dX0_horse_23 rfl ?_
      refine gz_if_eq (tgt := 41) hX dX0_horse_26 (by decide) (fun c3 => ?_) (fun c3 => ?_)
      · have h := gz_ifp c3 h
        refine gz_iconst (v := (-1)) hX dX0_horse_41 gl_c_m1 ?_
        obtain ⟨e_V, e_r⟩ := gz_in2 h
        exact gu_iret hX hZ hF e_V rfl e_r dX0_horse_42
      · have h := gz_ifn c3 h
        refine gz_aload_n (q := 0) hX dX0_horse_29 rfl rfl ?_
        refine xg_X0_20 (n2 := (20, 0, 0)) hX xs_main rfl dX0_horse_30 ?_
        refine xg_X0_140 hX (xs_M (by decide)) dX0_horse_33 ?_
        refine gz_bipush (v := 10) hX dX0_horse_36 gl_b_10 ?_
        refine gz_icmp_ne (tgt := 43) hX dX0_horse_38 (by decide) (fun c4 => ?_) (fun c4 => ?_)
        · have h := gz_ifn c4 h
          refine gz_aload_n (q := 0) hX dX0_horse_43 rfl rfl ?_
          refine xg_X0_20 (n2 := (20, 0, 0)) hX xs_main rfl dX0_horse_44 ?_
          refine xg_X0_164 (n2 := (22, 0, 0)) hX (xs_M (by decide)) rfl dX0_horse_47 ?_
          refine gz_aload_n (q := 0) hX dX0_horse_50 rfl rfl ?_
          refine xg_X0_20 (n2 := (20, 0, 0)) hX xs_main rfl dX0_horse_51 ?_
          refine xg_X0_140 hX (xs_M (by decide)) dX0_horse_54 ?_
          obtain ⟨b5, h⟩ := gz_gd_o h
          refine gz_aald (L := 10) (t := 111) (t0 := 4) (ty := (.object "ClaspedFair$Horse")) (n2 := (42, 0, (V (20, 0, 0) 14).toNatClampNeg)) hX (by decide) (by decide) (fun _ => rfl) rfl (xs_HA (by decide)) (gz_inb_o b5) (xr_HA (gz_inb_lt b5)) dX0_horse_57 ?_
          refine gz_iload_n (q := 1) hX dX0_horse_58 rfl rfl ?_
          refine gz_iload_n (q := 2) hX dX0_horse_59 rfl rfl ?_
          refine gz_iload_n (q := 3) hX dX0_horse_60 rfl rfl ?_
          obtain ⟨V6, e7, h⟩ := gz_bd_o h
          refine gu_callV (ci := 5) (n := (42, 0, (V (20, 0, 0) 14).toNatClampNeg)) (As := [.int a1, .int a2, .int a3]) hX (c_x5_begins (by decide) (gz_inb_lt b5) e7) (lw_x5_begins_ q1063) rfl rfl nn_x5_begins ⟨Nat.le_of_ble_eq_true rfl, Nat.le_of_ble_eq_true rfl⟩ ⟨Nat.zero_le _, Nat.zero_le _⟩ (by decide) rfl (xs_H (by decide) (gz_inb_lt b5)) rfl rfl (Nat.le_of_ble_eq_true rfl) dX0_horse_61 rfl ?_
          refine gz_aload_n (q := 0) hX dX0_horse_64 rfl rfl ?_
          refine xg_X0_20 (n2 := (20, 0, 0)) hX xs_main rfl dX0_horse_65 ?_
          refine gz_dupa hX dX0_horse_68 ?_
          refine xg_X0_140 hX (xs_M (by decide)) dX0_horse_69 ?_
          refine gz_iconst (v := 1) hX dX0_horse_72 gl_c_1 ?_
          refine gz_iadd hX dX0_horse_73 ?_
          obtain ⟨V8, e9, h⟩ := gz_let_o h
          refine xp_X0_140 hX (xs_M (by decide)) (gz_ne0 19 rfl) dX0_horse_74 e9 ?_
          refine gz_aload_n (q := 0) hX dX0_horse_77 rfl rfl ?_
          obtain ⟨V10, r11, e12, h⟩ := gz_b2_o h
          refine gu_callV (ci := 0) (n := (10, 0, 0)) (As := []) hX (c_x0_forgets e12) (lw_x0_forgets_ q949) rfl rfl nn_x0_forgets ⟨Nat.le_of_ble_eq_true rfl, Nat.le_of_ble_eq_true rfl⟩ ⟨Nat.zero_le _, Nat.zero_le _⟩ (by decide) rfl xs_main rfl rfl (Nat.le_of_ble_eq_true rfl) dX0_horse_78 rfl ?_
          refine gz_pop hX dX0_horse_81 rfl ?_
          refine gz_aload_n (q := 0) hX dX0_horse_82 rfl rfl ?_
          refine xg_X0_20 (n2 := (20, 0, 0)) hX xs_main rfl dX0_horse_83 ?_
          refine xg_X0_140 hX (xs_M (by decide)) dX0_horse_86 ?_
          refine gz_iconst (v := 1) hX dX0_horse_89 gl_c_1 ?_
          refine gz_isub hX dX0_horse_90 ?_
          obtain ⟨e_V, e_r⟩ := gz_in2 h
          exact gu_iret hX hZ hF e_V rfl e_r dX0_horse_91
        · have h := gz_ifp c4 h
          refine gz_iconst (v := (-1)) hX dX0_horse_41 gl_c_m1 ?_
          obtain ⟨e_V, e_r⟩ := gz_in2 h
          exact gu_iret hX hZ hF e_V rfl e_r dX0_horse_42
theorem lw_x0_horse_ {o : String} {i : Nat} (hl : Cond.methodLink o i yX0_horse ∈ lw_all) : GoodIn lw_all (wsV o i RX0 yX0_horse (ws_ yX0_horse cX0_horse 4 (some .int))) := lw_V hl q1056 q1057 q144 q1058
theorem nn_x0_horse : yX0_horse.cls = RX0 ∧ yX0_horse.cls ≠ "java/lang/invoke/MethodHandle" ∧ yX0_horse.cls ≠ "java/lang/invoke/VarHandle" ∧ (parseMethodDescriptor yX0_horse.desc).map (fun d => d.parameters.length) = some 3 := by decide +kernel
def rm_x0_horseOf : Room := { frames := 2, cells := 0, slots := 0, locals := 43 }
noncomputable def x0_horseOf (V : gz_V) (a1 : Int32) (a2 : Int32) : Option (Int32) := (if (x0_isHorse V a1) = 0 then some (-1) else gz_gd (gz_inb a1 10 = true) (gz_let (a1.toNatClampNeg) (fun w3 => (if a2 = 0 then some (V (42, 0, w3) 0) else if a2 = 1 then some (V (42, 0, w3) 1) else if a2 = 2 then some (V (42, 0, w3) 2) else if a2 = 3 then some (V (42, 0, w3) 3) else some (-1)))))
theorem c_x0_horseOf {l : Launch} {D : va_G} {aC : Nat → ClassId} {ad : gz_A0} {Ds : gz_S} {Df : gz_R} {V : gz_V} {a1 : Int32} {a2 : Int32} {r : Int32} (h : x0_horseOf V a1 a2 = some r) : gz_Met l yX0_horseOf cX0_horseOf 4 (some .int) rm_x0_horseOf D aC ad (xw_s Ds) V (xw_c Df) [.ref (ad (10, 0, 0)), .int a1, .int a2] (gz_F1 (xw_s Ds) (xw_c Df) ad V (some (.int r))) 0 0 := by
  refine gu_ofW (own := RX0) (mn := "horseOf") (lv := [(0, .ref (ad (10, 0, 0))), (1, .int a1), (2, .int a2)]) (by decide) rfl rfl (Nat.le_of_ble_eq_true rfl) rfl ?_
  intro X hX hZ hF
  rw [x0_horseOf] at h
  refine gz_aload_n (q := 0) hX dX0_horseOf_0 rfl rfl ?_
  refine gz_iload_n (q := 1) hX dX0_horseOf_1 rfl rfl ?_
  refine gu_callV (ci := 0) (n := (10, 0, 0)) (As := [.int a1]) hX (c_x0_isHorse rfl) (lw_x0_isHorse_ q1072) rfl rfl nn_x0_isHorse ⟨Nat.le_of_ble_eq_true rfl, Nat.le_of_ble_eq_true rfl⟩ ⟨Nat.zero_le _, Nat.zero_le _⟩ (by decide) rfl xs_main rfl rfl (Nat.le_of_ble_eq_true rfl) dX0_horseOf_2 rfl ?_
  refine gz_if_ne (tgt := 10) hX dX0_horseOf_5 (by decide) (fun c1 => ?_) (fun c1 => ?_)
  · have h := gz_ifn c1 h
    refine gz_aload_n (q := 0) hX dX0_horseOf_10 rfl rfl ?_
    refine xg_X0_20 (n2 := (20, 0, 0)) hX xs_main rfl dX0_horseOf_11 ?_
    refine xg_X0_164 (n2 := (22, 0, 0)) hX (xs_M (by decide)) rfl dX0_horseOf_14 ?_
    refine gz_iload_n (q := 1) hX dX0_horseOf_17 rfl rfl ?_
    obtain ⟨b2, h⟩ := gz_gd_o h
    refine gz_aald (L := 10) (t := 111) (t0 := 4) (ty := (.object "ClaspedFair$Horse")) (n2 := (42, 0, a1.toNatClampNeg)) hX (by decide) (by decide) (fun _ => rfl) rfl (xs_HA (by decide)) (gz_inb_o b2) (xr_HA (gz_inb_lt b2)) dX0_horseOf_18 ?_
    obtain ⟨w3, e4, h⟩ := gz_let_o h
    refine gz_nmr (congrArg (fun z_ => ((42, 0, z_) : gz_N)) e4) ?_
    refine gz_astore_n (lv2 := [(3, .ref (ad (42, 0, w3))), (0, .ref (ad (10, 0, 0))), (1, .int a1), (2, .int a2)]) hX dX0_horseOf_19 rfl (by decide) rfl ?_
    refine gz_iload_n (q := 3) hX dX0_horseOf_20 rfl rfl ?_
    by_cases c5 : a2 = 0
    · have h := gz_ifp c5 h
      refine gz_tableAt (v := 0) (tgt := 52) hX dX0_horseOf_21 c5 (by decide) (by decide) rfl (by decide) ?_
      refine gz_aload_n (q := 0) hX dX0_horseOf_52 rfl rfl ?_
      refine xg_X0_225 hX (xs_H (by decide) (e4 ▸ (gz_inb_lt b2))) dX0_horseOf_53 ?_
      exact gu_iret hX hZ hF rfl rfl (gz_in1 h) dX0_horseOf_56
    · have h := gz_ifn c5 h
      by_cases c6 : a2 = 1
      · have h := gz_ifp c6 h
        refine gz_tableAt (v := 1) (tgt := 57) hX dX0_horseOf_21 c6 (by decide) (by decide) rfl (by decide) ?_
        refine gz_aload_n (q := 0) hX dX0_horseOf_57 rfl rfl ?_
        refine xg_X0_182 hX (xs_H (by decide) (e4 ▸ (gz_inb_lt b2))) dX0_horseOf_58 ?_
        exact gu_iret hX hZ hF rfl rfl (gz_in1 h) dX0_horseOf_61
      · have h := gz_ifn c6 h
        by_cases c7 : a2 = 2
        · have h := gz_ifp c7 h
          refine gz_tableAt (v := 2) (tgt := 62) hX dX0_horseOf_21 c7 (by decide) (by decide) rfl (by decide) ?_
          refine gz_aload_n (q := 0) hX dX0_horseOf_62 rfl rfl ?_
          refine xg_X0_185 hX (xs_H (by decide) (e4 ▸ (gz_inb_lt b2))) dX0_horseOf_63 ?_
          exact gu_iret hX hZ hF rfl rfl (gz_in1 h) dX0_horseOf_66
        · have h := gz_ifn c7 h
          by_cases c8 : a2 = 3
          · have h := gz_ifp c8 h
            refine gz_tableAt (v := 3) (tgt := 67) hX dX0_horseOf_21 c8 (by decide) (by decide) rfl (by decide) ?_
            refine gz_aload_n (q := 0) hX dX0_horseOf_67 rfl rfl ?_
            refine xg_X0_228 hX (xs_H (by decide) (e4 ▸ (gz_inb_lt b2))) dX0_horseOf_68 ?_
            exact gu_iret hX hZ hF rfl rfl (gz_in1 h) dX0_horseOf_71
          · have h := gz_ifn c8 h
            refine gz_tableOut (tgt := 72) hX dX0_horseOf_21 (by have := lv_neT c5 (a := 0) rfl; have := lv_neT c6 (a := 1) rfl; have := lv_neT c7 (a := 2) rfl; have := lv_neT c8 (a := 3) rfl; omega) (by decide) ?_
            refine gz_iconst (v := (-1)) hX dX0_horseOf_72 gl_c_m1 ?_
            exact gu_iret hX hZ hF rfl rfl (gz_in1 h) dX0_horseOf_73
  · have h := gz_ifp c1 h
    refine gz_iconst (v := (-1)) hX dX0_horseOf_8 gl_c_m1 ?_
    exact gu_iret hX hZ hF rfl rfl (gz_in1 h) dX0_horseOf_9
theorem lw_x0_horseOf_ {o : String} {i : Nat} (hl : Cond.methodLink o i yX0_horseOf ∈ lw_all) : GoodIn lw_all (wsV o i RX0 yX0_horseOf (ws_ yX0_horseOf cX0_horseOf 4 (some .int))) := lw_V hl q1258 q1259 q144 q1260
theorem nn_x0_horseOf : yX0_horseOf.cls = RX0 ∧ yX0_horseOf.cls ≠ "java/lang/invoke/MethodHandle" ∧ yX0_horseOf.cls ≠ "java/lang/invoke/VarHandle" ∧ (parseMethodDescriptor yX0_horseOf.desc).map (fun d => d.parameters.length) = some 2 := by decide +kernel
def rm_x3_takes : Room := { frames := 0, cells := 0, slots := 0, locals := 0 }
noncomputable def x3_takes_L20 (N : Nat) (u1 : Nat) (u2 : Nat) (u3 : Nat) (u4 : Nat) (v2 : Int32) : Nat → gz_V → Int32 → Option (gz_V)
  | 0, _, _ => none
  | n + 1, V, v3 => (if 2 ≤ v3 then some V else gz_gd (gz_inb v2 (xw_rl u2) = true) (gz_gd (gz_inb v2 (xw_rl u4) = true) (gz_gd (gz_inb v3 2 = true) (gz_gd (gz_inb v3 2 = true) (gz_let (gz_up V (30 + u2, u1, v2.toNatClampNeg) v3.toNatClampNeg (V (30 + u4, u3, v2.toNatClampNeg) v3.toNatClampNeg)) (fun V9 => x3_takes_L20 N u1 u2 u3 u4 v2 n V9 (v3 + 1)))))))
theorem w_x3_takes_L20 {X : gz_X} {ad : gz_A0} {N : Nat} {Ds : gz_S} {Df : gz_R} {u1 : Nat} {u2 : Nat} {u3 : Nat} {u4 : Nat} {v2 : Int32} {W1 : gz_V} (hX : gz_ok X cX3_takes RX3 "takes" 4 rm_x3_takes none) (hZ : gz_Z X) (hu1 : u1 < 9) (hu2 : u2 < 5) (hu3 : u3 < 9) (hu4 : u4 < 5) (k : gW X 4 (xw_s Ds) (xw_c Df) ad W1 0 0 47 [(0, .ref (ad (27, u1, u2))), (1, .ref (ad (27, u3, u4))), (2, .int v2)] []) : ∀ (n : Nat) {V : gz_V} {v3 : Int32}, x3_takes_L20 N u1 u2 u3 u4 v2 n V v3 = some W1 → gW X 4 (xw_s Ds) (xw_c Df) ad V 0 0 20 [(0, .ref (ad (27, u1, u2))), (1, .ref (ad (27, u3, u4))), (2, .int v2), (3, .int v3)] [] := by
  intro n
  induction n with
  | zero => intro V v3 h; rw [x3_takes_L20] at h; cases h
  | succ n ih =>
    intro V v3 h
    rw [x3_takes_L20] at h
    refine gz_iload_n (q := 3) hX dX3_takes_20 rfl rfl ?_
    refine gz_iconst (v := 2) hX dX3_takes_21 gl_c_2 ?_
    refine gz_icmp_ge (tgt := 47) hX dX3_takes_22 (by decide) (fun c4 => ?_) (fun c4 => ?_)
    · have h := gz_ifp c4 h
      obtain rfl := gz_in1 h
      exact gz_lv [0, 1, 2] rfl k
    · have h := gz_ifn c4 h
      refine gz_aload_n (q := 0) hX dX3_takes_25 rfl rfl ?_
      refine xg_X3_11 (n2 := (28, u1, u2)) hX (xs_RO hu1 hu2) rfl dX3_takes_26 ?_
      refine gz_iload_n (q := 2) hX dX3_takes_29 rfl rfl ?_
      obtain ⟨b5, h⟩ := gz_gd_o h
      refine gz_aald (L := (xw_rl u2)) (t := 112) (t0 := 5) (ty := (.array .int)) (n2 := (30 + u2, u1, v2.toNatClampNeg)) hX (by decide) (by decide) (fun _ => rfl) rfl (xs_RA hu1 hu2) (gz_inb_o b5) (xr_RA (gz_inb_lt b5)) dX3_takes_30 ?_
      refine gz_iload_n (q := 3) hX dX3_takes_31 rfl rfl ?_
      refine gz_aload_n (q := 1) hX dX3_takes_32 rfl rfl ?_
      refine xg_X3_11 (n2 := (28, u3, u4)) hX (xs_RO hu3 hu4) rfl dX3_takes_33 ?_
      refine gz_iload_n (q := 2) hX dX3_takes_36 rfl rfl ?_
      obtain ⟨b6, h⟩ := gz_gd_o h
      refine gz_aald (L := (xw_rl u4)) (t := 112) (t0 := 5) (ty := (.array .int)) (n2 := (30 + u4, u3, v2.toNatClampNeg)) hX (by decide) (by decide) (fun _ => rfl) rfl (xs_RA hu3 hu4) (gz_inb_o b6) (xr_RA (gz_inb_lt b6)) dX3_takes_37 ?_
      refine gz_iload_n (q := 3) hX dX3_takes_38 rfl rfl ?_
      obtain ⟨b7, h⟩ := gz_gd_o h
      refine gz_iald (L := 2) hX (xs_RR hu3 hu4 (gz_inb_lt b6)) (gz_inb_o b7) dX3_takes_39 ?_
      obtain ⟨b8, h⟩ := gz_gd_o h
      obtain ⟨V9, e10, h⟩ := gz_let_o h
      refine gz_iast (L := 2) hX (xs_RR hu1 hu2 (gz_inb_lt b5)) (by show 30 + u2 ≠ 0; omega) (gz_inb_o b8) dX3_takes_40 e10 ?_
      refine gz_iinc (q := 3) (lv2 := [(3, .int (v3 + 1)), (0, .ref (ad (27, u1, u2))), (1, .ref (ad (27, u3, u4))), (2, .int v2)]) hX dX3_takes_41 rfl gl_c_1 (by decide) rfl ?_
      refine gz_goto (tgt := 20) hX dX3_takes_44 (by decide) ?_
      exact gz_lv [1, 2, 3, 0] rfl (ih h)
noncomputable def x3_takes_L10 (N : Nat) (u1 : Nat) (u2 : Nat) (u3 : Nat) (u4 : Nat) : Nat → gz_V → Int32 → Option (gz_V)
  | 0, _, _ => none
  | n + 1, V, v2 => (if (V (27, u1, u2) 1) ≤ v2 then some V else gz_bd (x3_takes_L20 N u1 u2 u3 u4 v2 N V 0) (fun V4 => x3_takes_L10 N u1 u2 u3 u4 n V4 (v2 + 1)))
theorem w_x3_takes_L10 {X : gz_X} {ad : gz_A0} {N : Nat} {Ds : gz_S} {Df : gz_R} {u1 : Nat} {u2 : Nat} {u3 : Nat} {u4 : Nat} {W1 : gz_V} (hX : gz_ok X cX3_takes RX3 "takes" 4 rm_x3_takes none) (hZ : gz_Z X) (hu1 : u1 < 9) (hu2 : u2 < 5) (hu3 : u3 < 9) (hu4 : u4 < 5) (k : gW X 4 (xw_s Ds) (xw_c Df) ad W1 0 0 53 [] []) : ∀ (n : Nat) {V : gz_V} {v2 : Int32}, x3_takes_L10 N u1 u2 u3 u4 n V v2 = some W1 → gW X 4 (xw_s Ds) (xw_c Df) ad V 0 0 10 [(0, .ref (ad (27, u1, u2))), (1, .ref (ad (27, u3, u4))), (2, .int v2)] [] := by
  intro n
  induction n with
  | zero => intro V v2 h; rw [x3_takes_L10] at h; cases h
  | succ n ih =>
    intro V v2 h
    rw [x3_takes_L10] at h
    refine gz_iload_n (q := 2) hX dX3_takes_10 rfl rfl ?_
    refine gz_aload_n (q := 0) hX dX3_takes_11 rfl rfl ?_
    refine xg_X3_16 hX (xs_RO hu1 hu2) dX3_takes_12 ?_
    refine gz_icmp_ge (tgt := 53) hX dX3_takes_15 (by decide) (fun c3 => ?_) (fun c3 => ?_)
    · have h := gz_ifp c3 h
      obtain rfl := gz_in1 h
      exact gz_lv [] rfl k
    · have h := gz_ifn c3 h
      refine gz_iconst (v := 0) hX dX3_takes_18 gl_c_0 ?_
      refine gz_istore_n (lv2 := [(3, .int 0), (0, .ref (ad (27, u1, u2))), (1, .ref (ad (27, u3, u4))), (2, .int v2)]) hX dX3_takes_19 rfl (by decide) rfl ?_
      obtain ⟨V4, e5, h⟩ := gz_bd_o h
      refine gz_lv [1, 2, 3, 0] rfl (w_x3_takes_L20 hX hZ hu1 hu2 hu3 hu4 ?_ N e5)
      refine gz_iinc (q := 2) (lv2 := [(2, .int (v2 + 1)), (0, .ref (ad (27, u1, u2))), (1, .ref (ad (27, u3, u4)))]) hX dX3_takes_47 rfl gl_c_1 (by decide) rfl ?_
      refine gz_goto (tgt := 10) hX dX3_takes_50 (by decide) ?_
      exact gz_lv [1, 2, 0] rfl (ih h)
noncomputable def x3_takes (N : Nat) (V : gz_V) (u1 : Nat) (u2 : Nat) (u3 : Nat) (u4 : Nat) : Option (gz_V) := gz_let (gz_up V (27, u1, u2) 1 (V (27, u3, u4) 1)) (fun V1 => gz_bd (x3_takes_L10 N u1 u2 u3 u4 N V1 0) (fun V3 => some V3))
theorem c_x3_takes {l : Launch} {D : va_G} {aC : Nat → ClassId} {ad : gz_A0} {N : Nat} {Ds : gz_S} {Df : gz_R} {V : gz_V} {u1 : Nat} {u2 : Nat} {u3 : Nat} {u4 : Nat} {W1 : gz_V} (hu1 : u1 < 9) (hu2 : u2 < 5) (hu3 : u3 < 9) (hu4 : u4 < 5) (h : x3_takes N V u1 u2 u3 u4 = some W1) : gz_Met l yX3_takes cX3_takes 4 none rm_x3_takes D aC ad (xw_s Ds) V (xw_c Df) [.ref (ad (27, u1, u2)), .ref (ad (27, u3, u4))] (gz_F1 (xw_s Ds) (xw_c Df) ad W1 none) 0 0 := by
  refine gu_ofW (own := RX3) (mn := "takes") (lv := [(0, .ref (ad (27, u1, u2))), (1, .ref (ad (27, u3, u4)))]) (by decide) rfl rfl (Nat.le_of_ble_eq_true rfl) rfl ?_
  intro X hX hZ hF
  rw [x3_takes] at h
  refine gz_aload_n (q := 0) hX dX3_takes_0 rfl rfl ?_
  refine gz_aload_n (q := 1) hX dX3_takes_1 rfl rfl ?_
  refine xg_X3_16 hX (xs_RO hu3 hu4) dX3_takes_2 ?_
  obtain ⟨V1, e2, h⟩ := gz_let_o h
  refine xp_X3_16 hX (xs_RO hu1 hu2) (gz_ne0 26 rfl) dX3_takes_5 e2 ?_
  refine gz_iconst (v := 0) hX dX3_takes_8 gl_c_0 ?_
  refine gz_istore_n (lv2 := [(2, .int 0), (0, .ref (ad (27, u1, u2))), (1, .ref (ad (27, u3, u4)))]) hX dX3_takes_9 rfl (by decide) rfl ?_
  obtain ⟨V3, e4, h⟩ := gz_bd_o h
  refine gz_lv [1, 2, 0] rfl (w_x3_takes_L10 hX hZ hu1 hu2 hu3 hu4 ?_ N e4)
  exact gu_vret hX hZ hF (gz_in1 h) rfl dX3_takes_53
theorem lw_x3_takes_ {o : String} {i : Nat} (hl : Cond.methodLink o i yX3_takes ∈ lw_all) : GoodIn lw_all (wsV o i RX3 yX3_takes (ws_ yX3_takes cX3_takes 4 none)) := lw_V hl q1459 q1460 q147 q1461
theorem nn_x3_takes : yX3_takes.cls = RX3 ∧ yX3_takes.cls ≠ "java/lang/invoke/MethodHandle" ∧ yX3_takes.cls ≠ "java/lang/invoke/VarHandle" ∧ (parseMethodDescriptor yX3_takes.desc).map (fun d => d.parameters.length) = some 1 := by decide +kernel
def rm_x1_takes : Room := { frames := 4, cells := 0, slots := 0, locals := 87 }
noncomputable def x1_takes_L17 (N : Nat) (Ds : gz_S) (Df : gz_R) (u1 : Nat) (u2 : Nat) (v2 : Int32) : Nat → gz_V → Int32 → Option (gz_V)
  | 0, _, _ => none
  | n + 1, V, v3 => (if 4 ≤ v3 then some V else gz_gd (gz_inb v2 150 = true) (gz_gd (gz_inb v2 150 = true) (gz_gd (gz_inb v3 4 = true) (gz_gd (gz_inb v3 4 = true) (gz_let (gz_up V (26, u1, v2.toNatClampNeg) v3.toNatClampNeg (V (26, u2, v2.toNatClampNeg) v3.toNatClampNeg)) (fun V10 => x1_takes_L17 N Ds Df u1 u2 v2 n V10 (v3 + 1)))))))
theorem w_x1_takes_L17 {X : gz_X} {ad : gz_A0} {N : Nat} {Ds : gz_S} {Df : gz_R} {u1 : Nat} {u2 : Nat} {v2 : Int32} {W1 : gz_V} (hX : gz_ok X cX1_takes RX1 "takes" 4 rm_x1_takes none) (hZ : gz_Z X) (hu1 : u1 < 9) (hu2 : u2 < 9) (k : gW X 4 (xw_s Ds) (xw_c Df) ad W1 0 0 44 [(0, .ref (ad (20, u1, 0))), (1, .ref (ad (20, u2, 0))), (2, .int v2)] []) : ∀ (n : Nat) {V : gz_V} {v3 : Int32}, x1_takes_L17 N Ds Df u1 u2 v2 n V v3 = some W1 → gW X 4 (xw_s Ds) (xw_c Df) ad V 0 0 17 [(0, .ref (ad (20, u1, 0))), (1, .ref (ad (20, u2, 0))), (2, .int v2), (3, .int v3)] [] := by
  intro n
  induction n with
  | zero => intro V v3 h; rw [x1_takes_L17] at h; cases h
  | succ n ih =>
    intro V v3 h
    rw [x1_takes_L17] at h
    refine gz_iload_n (q := 3) hX dX1_takes_17 rfl rfl ?_
    refine gz_iconst (v := 4) hX dX1_takes_18 gl_c_4 ?_
    refine gz_icmp_ge (tgt := 44) hX dX1_takes_19 (by decide) (fun c5 => ?_) (fun c5 => ?_)
    · have h := gz_ifp c5 h
      obtain rfl := gz_in1 h
      exact gz_lv [0, 1, 2] rfl k
    · have h := gz_ifn c5 h
      refine gz_aload_n (q := 0) hX dX1_takes_22 rfl rfl ?_
      refine xg_X1_32 (n2 := (25, u1, 0)) hX (xs_M hu1) rfl dX1_takes_23 ?_
      refine gz_iload_n (q := 2) hX dX1_takes_26 rfl rfl ?_
      obtain ⟨b6, h⟩ := gz_gd_o h
      refine gz_aald (L := 150) (t := 112) (t0 := 5) (ty := (.array .int)) (n2 := (26, u1, v2.toNatClampNeg)) hX (by decide) (by decide) (fun _ => rfl) rfl (xs_BA hu1) (gz_inb_o b6) (xr_BA (gz_inb_lt b6)) dX1_takes_27 ?_
      refine gz_iload_n (q := 3) hX dX1_takes_28 rfl rfl ?_
      refine gz_aload_n (q := 1) hX dX1_takes_29 rfl rfl ?_
      refine xg_X1_32 (n2 := (25, u2, 0)) hX (xs_M hu2) rfl dX1_takes_30 ?_
      refine gz_iload_n (q := 2) hX dX1_takes_33 rfl rfl ?_
      obtain ⟨b7, h⟩ := gz_gd_o h
      refine gz_aald (L := 150) (t := 112) (t0 := 5) (ty := (.array .int)) (n2 := (26, u2, v2.toNatClampNeg)) hX (by decide) (by decide) (fun _ => rfl) rfl (xs_BA hu2) (gz_inb_o b7) (xr_BA (gz_inb_lt b7)) dX1_takes_34 ?_
      refine gz_iload_n (q := 3) hX dX1_takes_35 rfl rfl ?_
      obtain ⟨b8, h⟩ := gz_gd_o h
      refine gz_iald (L := 4) hX (xs_BR hu2 (gz_inb_lt b7)) (gz_inb_o b8) dX1_takes_36 ?_
      obtain ⟨b9, h⟩ := gz_gd_o h
      obtain ⟨V10, e11, h⟩ := gz_let_o h
      refine gz_iast (L := 4) hX (xs_BR hu1 (gz_inb_lt b6)) (gz_ne0 25 rfl) (gz_inb_o b9) dX1_takes_37 e11 ?_
      refine gz_iinc (q := 3) (lv2 := [(3, .int (v3 + 1)), (0, .ref (ad (20, u1, 0))), (1, .ref (ad (20, u2, 0))), (2, .int v2)]) hX dX1_takes_38 rfl gl_c_1 (by decide) rfl ?_
      refine gz_goto (tgt := 17) hX dX1_takes_41 (by decide) ?_
      exact gz_lv [1, 2, 3, 0] rfl (ih h)
noncomputable def x1_takes_L7 (N : Nat) (Ds : gz_S) (Df : gz_R) (u1 : Nat) (u2 : Nat) : Nat → gz_V → Int32 → Option (gz_V)
  | 0, _, _ => none
  | n + 1, V, v2 => (if (V (20, u1, 0) 19) ≤ v2 then some V else gz_bd (x1_takes_L17 N Ds Df u1 u2 v2 N V 0) (fun V5 => x1_takes_L7 N Ds Df u1 u2 n V5 (v2 + 1)))
theorem w_x1_takes_L7 {X : gz_X} {ad : gz_A0} {N : Nat} {Ds : gz_S} {Df : gz_R} {u1 : Nat} {u2 : Nat} {W1 : gz_V} (hX : gz_ok X cX1_takes RX1 "takes" 4 rm_x1_takes none) (hZ : gz_Z X) (hu1 : u1 < 9) (hu2 : u2 < 9) (k : gW X 4 (xw_s Ds) (xw_c Df) ad W1 0 0 50 [(0, .ref (ad (20, u1, 0))), (1, .ref (ad (20, u2, 0)))] []) : ∀ (n : Nat) {V : gz_V} {v2 : Int32}, x1_takes_L7 N Ds Df u1 u2 n V v2 = some W1 → gW X 4 (xw_s Ds) (xw_c Df) ad V 0 0 7 [(0, .ref (ad (20, u1, 0))), (1, .ref (ad (20, u2, 0))), (2, .int v2)] [] := by
  intro n
  induction n with
  | zero => intro V v2 h; rw [x1_takes_L7] at h; cases h
  | succ n ih =>
    intro V v2 h
    rw [x1_takes_L7] at h
    refine gz_iload_n (q := 2) hX dX1_takes_7 rfl rfl ?_
    refine gz_aload_n (q := 0) hX dX1_takes_8 rfl rfl ?_
    refine xg_X1_95 hX (xs_M hu1) dX1_takes_9 ?_
    refine gz_icmp_ge (tgt := 50) hX dX1_takes_12 (by decide) (fun c4 => ?_) (fun c4 => ?_)
    · have h := gz_ifp c4 h
      obtain rfl := gz_in1 h
      exact gz_lv [0, 1] rfl k
    · have h := gz_ifn c4 h
      refine gz_iconst (v := 0) hX dX1_takes_15 gl_c_0 ?_
      refine gz_istore_n (lv2 := [(3, .int 0), (0, .ref (ad (20, u1, 0))), (1, .ref (ad (20, u2, 0))), (2, .int v2)]) hX dX1_takes_16 rfl (by decide) rfl ?_
      obtain ⟨V5, e6, h⟩ := gz_bd_o h
      refine gz_lv [1, 2, 3, 0] rfl (w_x1_takes_L17 hX hZ hu1 hu2 ?_ N e6)
      refine gz_iinc (q := 2) (lv2 := [(2, .int (v2 + 1)), (0, .ref (ad (20, u1, 0))), (1, .ref (ad (20, u2, 0)))]) hX dX1_takes_44 rfl gl_c_1 (by decide) rfl ?_
      refine gz_goto (tgt := 7) hX dX1_takes_47 (by decide) ?_
      exact gz_lv [1, 2, 0] rfl (ih h)
noncomputable def x1_takes (N : Nat) (Ds : gz_S) (Df : gz_R) (V : gz_V) (u1 : Nat) (u2 : Nat) : Option (gz_V × gz_R) := gz_b2 (x1_thinks N Ds Df V u1 u2) (fun V1 D2 => gz_bd (x1_takes_L7 N Ds D2 u1 u2 N V1 0) (fun V4 => gz_bd (x3_takes N V4 u1 0 u2 0) (fun V6 => gz_bd (x3_takes N V6 u1 1 u2 1) (fun V8 => gz_bd (x3_takes N V8 u1 2 u2 2) (fun V10 => gz_bd (x3_takes N V10 u1 3 u2 3) (fun V12 => gz_bd (x3_takes N V12 u1 4 u2 4) (fun V14 => some (V14, D2))))))))
theorem c_x1_takes {l : Launch} {D : va_G} {aC : Nat → ClassId} {ad : gz_A0} {N : Nat} {Ds : gz_S} {Df : gz_R} {V : gz_V} {u1 : Nat} {u2 : Nat} {W1 : gz_V} {E1 : gz_R} (hu1 : u1 < 9) (hu2 : u2 < 9) (h : x1_takes N Ds Df V u1 u2 = some (W1, E1)) : gz_Met l yX1_takes cX1_takes 4 none rm_x1_takes D aC ad (xw_s Ds) V (xw_c Df) [.ref (ad (20, u1, 0)), .ref (ad (20, u2, 0))] (gz_F1 (xw_s Ds) (xw_c E1) ad W1 none) 0 0 := by
  refine gu_ofW (own := RX1) (mn := "takes") (lv := [(0, .ref (ad (20, u1, 0))), (1, .ref (ad (20, u2, 0)))]) (by decide) rfl rfl (Nat.le_of_ble_eq_true rfl) rfl ?_
  intro X hX hZ hF
  rw [x1_takes] at h
  refine gz_aload_n (q := 0) hX dX1_takes_0 rfl rfl ?_
  refine gz_aload_n (q := 1) hX dX1_takes_1 rfl rfl ?_
  obtain ⟨V1, D2, e3, h⟩ := gz_b2_o h
  refine gu_callV (ci := 1) (n := (20, u1, 0)) (As := [.ref (ad (20, u2, 0))]) hX (c_x1_thinks hu1 hu2 e3) (lw_x1_thinks_ q1457) rfl rfl nn_x1_thinks ⟨Nat.le_of_ble_eq_true rfl, Nat.le_of_ble_eq_true rfl⟩ ⟨Nat.zero_le _, Nat.zero_le _⟩ (by decide) rfl (xs_M hu1) rfl rfl (Nat.le_of_ble_eq_true rfl) dX1_takes_2 rfl ?_
  refine gz_iconst (v := 0) hX dX1_takes_5 gl_c_0 ?_
  refine gz_istore_n (lv2 := [(2, .int 0), (0, .ref (ad (20, u1, 0))), (1, .ref (ad (20, u2, 0)))]) hX dX1_takes_6 rfl (by decide) rfl ?_
  obtain ⟨V4, e5, h⟩ := gz_bd_o h
  refine gz_lv [1, 2, 0] rfl (w_x1_takes_L7 hX hZ hu1 hu2 ?_ N e5)
  refine gz_aload_n (q := 0) hX dX1_takes_50 rfl rfl ?_
  refine xg_X1_40 (n2 := (27, u1, 0)) hX (xs_M hu1) rfl dX1_takes_51 ?_
  refine gz_aload_n (q := 1) hX dX1_takes_54 rfl rfl ?_
  refine xg_X1_40 (n2 := (27, u2, 0)) hX (xs_M hu2) rfl dX1_takes_55 ?_
  obtain ⟨V6, e7, h⟩ := gz_bd_o h
  refine gu_callV (ci := 3) (n := (27, u1, 0)) (As := [.ref (ad (27, u2, 0))]) hX (c_x3_takes hu1 (by decide) hu2 (by decide) e7) (lw_x3_takes_ q1458) rfl rfl nn_x3_takes ⟨Nat.le_of_ble_eq_true rfl, Nat.le_of_ble_eq_true rfl⟩ ⟨Nat.zero_le _, Nat.zero_le _⟩ (by decide) rfl (xs_RO hu1 (by decide)) rfl rfl (Nat.le_of_ble_eq_true rfl) dX1_takes_58 rfl ?_
  refine gz_aload_n (q := 0) hX dX1_takes_61 rfl rfl ?_
  refine xg_X1_44 (n2 := (27, u1, 1)) hX (xs_M hu1) rfl dX1_takes_62 ?_
  refine gz_aload_n (q := 1) hX dX1_takes_65 rfl rfl ?_
  refine xg_X1_44 (n2 := (27, u2, 1)) hX (xs_M hu2) rfl dX1_takes_66 ?_
  obtain ⟨V8, e9, h⟩ := gz_bd_o h
  refine gu_callV (ci := 3) (n := (27, u1, 1)) (As := [.ref (ad (27, u2, 1))]) hX (c_x3_takes hu1 (by decide) hu2 (by decide) e9) (lw_x3_takes_ q1458) rfl rfl nn_x3_takes ⟨Nat.le_of_ble_eq_true rfl, Nat.le_of_ble_eq_true rfl⟩ ⟨Nat.zero_le _, Nat.zero_le _⟩ (by decide) rfl (xs_RO hu1 (by decide)) rfl rfl (Nat.le_of_ble_eq_true rfl) dX1_takes_69 rfl ?_
  refine gz_aload_n (q := 0) hX dX1_takes_72 rfl rfl ?_
  refine xg_X1_47 (n2 := (27, u1, 2)) hX (xs_M hu1) rfl dX1_takes_73 ?_
  refine gz_aload_n (q := 1) hX dX1_takes_76 rfl rfl ?_
  refine xg_X1_47 (n2 := (27, u2, 2)) hX (xs_M hu2) rfl dX1_takes_77 ?_
  obtain ⟨V10, e11, h⟩ := gz_bd_o h
  refine gu_callV (ci := 3) (n := (27, u1, 2)) (As := [.ref (ad (27, u2, 2))]) hX (c_x3_takes hu1 (by decide) hu2 (by decide) e11) (lw_x3_takes_ q1458) rfl rfl nn_x3_takes ⟨Nat.le_of_ble_eq_true rfl, Nat.le_of_ble_eq_true rfl⟩ ⟨Nat.zero_le _, Nat.zero_le _⟩ (by decide) rfl (xs_RO hu1 (by decide)) rfl rfl (Nat.le_of_ble_eq_true rfl) dX1_takes_80 rfl ?_
  refine gz_aload_n (q := 0) hX dX1_takes_83 rfl rfl ?_
  refine xg_X1_50 (n2 := (27, u1, 3)) hX (xs_M hu1) rfl dX1_takes_84 ?_
  refine gz_aload_n (q := 1) hX dX1_takes_87 rfl rfl ?_
  refine xg_X1_50 (n2 := (27, u2, 3)) hX (xs_M hu2) rfl dX1_takes_88 ?_
  obtain ⟨V12, e13, h⟩ := gz_bd_o h
  refine gu_callV (ci := 3) (n := (27, u1, 3)) (As := [.ref (ad (27, u2, 3))]) hX (c_x3_takes hu1 (by decide) hu2 (by decide) e13) (lw_x3_takes_ q1458) rfl rfl nn_x3_takes ⟨Nat.le_of_ble_eq_true rfl, Nat.le_of_ble_eq_true rfl⟩ ⟨Nat.zero_le _, Nat.zero_le _⟩ (by decide) rfl (xs_RO hu1 (by decide)) rfl rfl (Nat.le_of_ble_eq_true rfl) dX1_takes_91 rfl ?_
  refine gz_aload_n (q := 0) hX dX1_takes_94 rfl rfl ?_
  refine xg_X1_53 (n2 := (27, u1, 4)) hX (xs_M hu1) rfl dX1_takes_95 ?_
  refine gz_aload_n (q := 1) hX dX1_takes_98 rfl rfl ?_
  refine xg_X1_53 (n2 := (27, u2, 4)) hX (xs_M hu2) rfl dX1_takes_99 ?_
  obtain ⟨V14, e15, h⟩ := gz_bd_o h
  refine gu_callV (ci := 3) (n := (27, u1, 4)) (As := [.ref (ad (27, u2, 4))]) hX (c_x3_takes hu1 (by decide) hu2 (by decide) e15) (lw_x3_takes_ q1458) rfl rfl nn_x3_takes ⟨Nat.le_of_ble_eq_true rfl, Nat.le_of_ble_eq_true rfl⟩ ⟨Nat.zero_le _, Nat.zero_le _⟩ (by decide) rfl (xs_RO hu1 (by decide)) rfl rfl (Nat.le_of_ble_eq_true rfl) dX1_takes_102 rfl ?_
  obtain ⟨e_V, e_D⟩ := gz_in2 h
  exact gu_vret hX hZ hF e_V (congrArg xw_c e_D) dX1_takes_105
theorem lw_x1_takes_ {o : String} {i : Nat} (hl : Cond.methodLink o i yX1_takes ∈ lw_all) : GoodIn lw_all (wsV o i RX1 yX1_takes (ws_ yX1_takes cX1_takes 4 none)) := lw_V hl q1454 q1455 q145 q1456
theorem nn_x1_takes : yX1_takes.cls = RX1 ∧ yX1_takes.cls ≠ "java/lang/invoke/MethodHandle" ∧ yX1_takes.cls ≠ "java/lang/invoke/VarHandle" ∧ (parseMethodDescriptor yX1_takes.desc).map (fun d => d.parameters.length) = some 1 := by decide +kernel
def rm_x0_image : Room := { frames := 5, cells := 0, slots := 0, locals := 110 }
noncomputable def x0_image (N : Nat) (Ds : gz_S) (Df : gz_R) (V : gz_V) (a1 : Int32) : Option (gz_V × gz_R × Int32) := (if a1 = 0 then (if (V (10, 0, 0) 9) = 0 then some (V, Df, 0) else gz_b2 (if a1 = 0 then gz_b2 (x1_takes N Ds Df V 0 1) (fun V28 D29 => some (V28, D29)) else gz_b2 (x1_takes N Ds Df V 1 0) (fun V31 D32 => some (V31, D32))) (fun V23 D24 => gz_bd (if a1 = 0 then gz_b2 (x0_forgets V23) (fun V38 r39 => some V38) else some V23) (fun V34 => gz_let (gz_up V34 (10, 0, 0) 9 1) (fun V41 => some (V41, D24, 1))))) else gz_b2 (if a1 = 0 then gz_b2 (x1_takes N Ds Df V 0 1) (fun V7 D8 => some (V7, D8)) else gz_b2 (x1_takes N Ds Df V 1 0) (fun V10 D11 => some (V10, D11))) (fun V2 D3 => gz_bd (if a1 = 0 then gz_b2 (x0_forgets V2) (fun V17 r18 => some V17) else some V2) (fun V13 => gz_let (gz_up V13 (10, 0, 0) 9 1) (fun V20 => some (V20, D3, 1)))))
theorem c_x0_image {l : Launch} {D : va_G} {aC : Nat → ClassId} {ad : gz_A0} {N : Nat} {Ds : gz_S} {Df : gz_R} {V : gz_V} {a1 : Int32} {W1 : gz_V} {E1 : gz_R} {r : Int32} (h : x0_image N Ds Df V a1 = some (W1, E1, r)) : gz_Met l yX0_image cX0_image 2 (some .boolean) rm_x0_image D aC ad (xw_s Ds) V (xw_c Df) [.ref (ad (10, 0, 0)), .int a1] (gz_F1 (xw_s Ds) (xw_c E1) ad W1 (some (.int r))) 0 0 := by
  refine gu_ofW (own := RX0) (mn := "image") (lv := [(0, .ref (ad (10, 0, 0))), (1, .int a1)]) (by decide) rfl rfl (Nat.le_of_ble_eq_true rfl) rfl ?_
  intro X hX hZ hF
  rw [x0_image] at h
  refine gz_iload_n (q := 1) hX dX0_image_0 rfl rfl ?_
  refine gz_if_ne (tgt := 13) hX dX0_image_1 (by decide) (fun c1 => ?_) (fun c1 => ?_)
  · have h := gz_ifn c1 h
    refine gz_iload_n (q := 1) hX dX0_image_13 rfl rfl ?_
    obtain ⟨V2, D3, g4, h⟩ := gz_b2_o h
    have J5 : gW X 2 (xw_s Ds) (xw_c D3) ad V2 0 0 42 [(0, .ref (ad (10, 0, 0))), (1, .int a1)] [] := by
      refine gz_iload_n (q := 1) hX dX0_image_42 rfl rfl ?_
      obtain ⟨V13, g14, h⟩ := gz_bd_o h
      have J15 : gW X 2 (xw_s Ds) (xw_c D3) ad V13 0 0 51 [(0, .ref (ad (10, 0, 0)))] [] := by
        refine gz_aload_n (q := 0) hX dX0_image_51 rfl rfl ?_
        refine gz_iconst (v := 1) hX dX0_image_52 gl_c_1 ?_
        obtain ⟨V20, e21, h⟩ := gz_let_o h
        refine xp_X0_360 hX xs_main (gz_ne0 9 rfl) (by decide) dX0_image_53 e21 ?_
        refine gz_iconst (v := 1) hX dX0_image_56 gl_c_1 ?_
        obtain ⟨e_V, e_D, e_r⟩ := gz_in3 h
        exact gu_zret hX hZ rfl hF e_V (congrArg xw_c e_D) e_r dX0_image_57
      refine gz_if_ne (tgt := 51) hX dX0_image_43 (by decide) (fun c16 => ?_) (fun c16 => ?_)
      · have g14 := gz_ifn c16 g14
        obtain rfl := gz_in1 g14
        exact gz_lv [0] rfl J15
      · have g14 := gz_ifp c16 g14
        refine gz_aload_n (q := 0) hX dX0_image_46 rfl rfl ?_
        obtain ⟨V17, r18, e19, g14⟩ := gz_b2_o g14
        refine gu_callV (ci := 0) (n := (10, 0, 0)) (As := []) hX (c_x0_forgets e19) (lw_x0_forgets_ q949) rfl rfl nn_x0_forgets ⟨Nat.le_of_ble_eq_true rfl, Nat.le_of_ble_eq_true rfl⟩ ⟨Nat.zero_le _, Nat.zero_le _⟩ (by decide) rfl xs_main rfl rfl (Nat.le_of_ble_eq_true rfl) dX0_image_47 rfl ?_
        refine gz_pop hX dX0_image_50 rfl ?_
        obtain rfl := gz_in1 g14
        exact gz_lv [0] rfl J15
    refine gz_if_eq (tgt := 31) hX dX0_image_14 (by decide) (fun c6 => ?_) (fun c6 => ?_)
    · have g4 := gz_ifp c6 g4
      refine gz_aload_n (q := 0) hX dX0_image_31 rfl rfl ?_
      refine xg_X0_20 (n2 := (20, 0, 0)) hX xs_main rfl dX0_image_32 ?_
      refine gz_aload_n (q := 0) hX dX0_image_35 rfl rfl ?_
      refine xg_X0_24 (n2 := (20, 1, 0)) hX xs_main rfl dX0_image_36 ?_
      obtain ⟨V7, D8, e9, g4⟩ := gz_b2_o g4
      refine gu_callV (ci := 1) (n := (20, 0, 0)) (As := [.ref (ad (20, 1, 0))]) hX (c_x1_takes (by decide) (by decide) e9) (lw_x1_takes_ q1453) rfl rfl nn_x1_takes ⟨Nat.le_of_ble_eq_true rfl, Nat.le_of_ble_eq_true rfl⟩ ⟨Nat.zero_le _, Nat.zero_le _⟩ (by decide) rfl (xs_M (by decide)) rfl rfl (Nat.le_of_ble_eq_true rfl) dX0_image_39 rfl ?_
      obtain ⟨rfl, rfl⟩ := gz_in2 g4
      exact gz_lv [0, 1] rfl J5
    · have g4 := gz_ifn c6 g4
      refine gz_aload_n (q := 0) hX dX0_image_17 rfl rfl ?_
      refine xg_X0_24 (n2 := (20, 1, 0)) hX xs_main rfl dX0_image_18 ?_
      refine gz_aload_n (q := 0) hX dX0_image_21 rfl rfl ?_
      refine xg_X0_20 (n2 := (20, 0, 0)) hX xs_main rfl dX0_image_22 ?_
      obtain ⟨V10, D11, e12, g4⟩ := gz_b2_o g4
      refine gu_callV (ci := 1) (n := (20, 1, 0)) (As := [.ref (ad (20, 0, 0))]) hX (c_x1_takes (by decide) (by decide) e12) (lw_x1_takes_ q1453) rfl rfl nn_x1_takes ⟨Nat.le_of_ble_eq_true rfl, Nat.le_of_ble_eq_true rfl⟩ ⟨Nat.zero_le _, Nat.zero_le _⟩ (by decide) rfl (xs_M (by decide)) rfl rfl (Nat.le_of_ble_eq_true rfl) dX0_image_25 rfl ?_
      refine gz_goto (tgt := 42) hX dX0_image_28 (by decide) ?_
      obtain ⟨rfl, rfl⟩ := gz_in2 g4
      exact gz_lv [0, 1] rfl J5
  · have h := gz_ifp c1 h
    refine gz_aload_n (q := 0) hX dX0_image_4 rfl rfl ?_
    refine xg_X0_360 hX xs_main dX0_image_5 ?_
    refine gz_if_ne (tgt := 13) hX dX0_image_8 (by decide) (fun c22 => ?_) (fun c22 => ?_)
    · have h := gz_ifn c22 h
      refine gz_iload_n (q := 1) hX dX0_image_13 rfl rfl ?_
      obtain ⟨V23, D24, g25, h⟩ := gz_b2_o h
      have J26 : gW X 2 (xw_s Ds) (xw_c D24) ad V23 0 0 42 [(0, .ref (ad (10, 0, 0))), (1, .int a1)] [] := by
        refine gz_iload_n (q := 1) hX dX0_image_42 rfl rfl ?_
        obtain ⟨V34, g35, h⟩ := gz_bd_o h
        have J36 : gW X 2 (xw_s Ds) (xw_c D24) ad V34 0 0 51 [(0, .ref (ad (10, 0, 0)))] [] := by
          refine gz_aload_n (q := 0) hX dX0_image_51 rfl rfl ?_
          refine gz_iconst (v := 1) hX dX0_image_52 gl_c_1 ?_
          obtain ⟨V41, e42, h⟩ := gz_let_o h
          refine xp_X0_360 hX xs_main (gz_ne0 9 rfl) (by decide) dX0_image_53 e42 ?_
          refine gz_iconst (v := 1) hX dX0_image_56 gl_c_1 ?_
          obtain ⟨e_V, e_D, e_r⟩ := gz_in3 h
          exact gu_zret hX hZ rfl hF e_V (congrArg xw_c e_D) e_r dX0_image_57
        refine gz_if_ne (tgt := 51) hX dX0_image_43 (by decide) (fun c37 => ?_) (fun c37 => ?_)
        · have g35 := gz_ifn c37 g35
          obtain rfl := gz_in1 g35
          exact gz_lv [0] rfl J36
        · have g35 := gz_ifp c37 g35
          refine gz_aload_n (q := 0) hX dX0_image_46 rfl rfl ?_
          obtain ⟨V38, r39, e40, g35⟩ := gz_b2_o g35
          refine gu_callV (ci := 0) (n := (10, 0, 0)) (As := []) hX (c_x0_forgets e40) (lw_x0_forgets_ q949) rfl rfl nn_x0_forgets ⟨Nat.le_of_ble_eq_true rfl, Nat.le_of_ble_eq_true rfl⟩ ⟨Nat.zero_le _, Nat.zero_le _⟩ (by decide) rfl xs_main rfl rfl (Nat.le_of_ble_eq_true rfl) dX0_image_47 rfl ?_
          refine gz_pop hX dX0_image_50 rfl ?_
          obtain rfl := gz_in1 g35
          exact gz_lv [0] rfl J36
      refine gz_if_eq (tgt := 31) hX dX0_image_14 (by decide) (fun c27 => ?_) (fun c27 => ?_)
      · have g25 := gz_ifp c27 g25
        refine gz_aload_n (q := 0) hX dX0_image_31 rfl rfl ?_
        refine xg_X0_20 (n2 := (20, 0, 0)) hX xs_main rfl dX0_image_32 ?_
        refine gz_aload_n (q := 0) hX dX0_image_35 rfl rfl ?_
        refine xg_X0_24 (n2 := (20, 1, 0)) hX xs_main rfl dX0_image_36 ?_
        obtain ⟨V28, D29, e30, g25⟩ := gz_b2_o g25
        refine gu_callV (ci := 1) (n := (20, 0, 0)) (As := [.ref (ad (20, 1, 0))]) hX (c_x1_takes (by decide) (by decide) e30) (lw_x1_takes_ q1453) rfl rfl nn_x1_takes ⟨Nat.le_of_ble_eq_true rfl, Nat.le_of_ble_eq_true rfl⟩ ⟨Nat.zero_le _, Nat.zero_le _⟩ (by decide) rfl (xs_M (by decide)) rfl rfl (Nat.le_of_ble_eq_true rfl) dX0_image_39 rfl ?_
        obtain ⟨rfl, rfl⟩ := gz_in2 g25
        exact gz_lv [0, 1] rfl J26
      · have g25 := gz_ifn c27 g25
        refine gz_aload_n (q := 0) hX dX0_image_17 rfl rfl ?_
        refine xg_X0_24 (n2 := (20, 1, 0)) hX xs_main rfl dX0_image_18 ?_
        refine gz_aload_n (q := 0) hX dX0_image_21 rfl rfl ?_
        refine xg_X0_20 (n2 := (20, 0, 0)) hX xs_main rfl dX0_image_22 ?_
        obtain ⟨V31, D32, e33, g25⟩ := gz_b2_o g25
        refine gu_callV (ci := 1) (n := (20, 1, 0)) (As := [.ref (ad (20, 0, 0))]) hX (c_x1_takes (by decide) (by decide) e33) (lw_x1_takes_ q1453) rfl rfl nn_x1_takes ⟨Nat.le_of_ble_eq_true rfl, Nat.le_of_ble_eq_true rfl⟩ ⟨Nat.zero_le _, Nat.zero_le _⟩ (by decide) rfl (xs_M (by decide)) rfl rfl (Nat.le_of_ble_eq_true rfl) dX0_image_25 rfl ?_
        refine gz_goto (tgt := 42) hX dX0_image_28 (by decide) ?_
        obtain ⟨rfl, rfl⟩ := gz_in2 g25
        exact gz_lv [0, 1] rfl J26
    · have h := gz_ifp c22 h
      refine gz_iconst (v := 0) hX dX0_image_11 gl_c_0 ?_
      obtain ⟨e_V, e_D, e_r⟩ := gz_in3 h
      exact gu_zret hX hZ rfl hF e_V (congrArg xw_c e_D) e_r dX0_image_12
theorem lw_x0_image_ {o : String} {i : Nat} (hl : Cond.methodLink o i yX0_image ∈ lw_all) : GoodIn lw_all (wsV o i RX0 yX0_image (ws_ yX0_image cX0_image 2 (some .boolean))) := lw_V hl q1450 q1451 q144 q1452
theorem nn_x0_image : yX0_image.cls = RX0 ∧ yX0_image.cls ≠ "java/lang/invoke/MethodHandle" ∧ yX0_image.cls ≠ "java/lang/invoke/VarHandle" ∧ (parseMethodDescriptor yX0_image.desc).map (fun d => d.parameters.length) = some 1 := by decide +kernel
def rm_x4_most : Room := { frames := 0, cells := 0, slots := 0, locals := 0 }
noncomputable def x4_most_L4 (N : Nat) (V : gz_V) (u1 : Nat) (u2 : Nat) : Nat → Int32 → Int32 → Option (Int32)
  | 0, _, _ => none
  | n + 1, v1, v2 => (if 5 ≤ v2 then some v1 else gz_gd (gz_inb v2 5 = true) (gz_gd (gz_inb v1 5 = true) (gz_let (if (V (41, u1, u2) v2.toNatClampNeg) ≤ (V (41, u1, u2) v1.toNatClampNeg) then v1 else v2) (fun y4 => x4_most_L4 N V u1 u2 n y4 (v2 + 1)))))
theorem w_x4_most_L4 {X : gz_X} {ad : gz_A0} {N : Nat} {Ds : gz_S} {Df : gz_R} {V : gz_V} {u1 : Nat} {u2 : Nat} {o1 : Int32} (hX : gz_ok X cX4_most RX4 "most" 3 rm_x4_most (some .int)) (hZ : gz_Z X) (hu1 : u1 < 9) (hu2 : u2 < 12) (k : gW X 3 (xw_s Ds) (xw_c Df) ad V 0 0 36 [(1, .int o1)] []) : ∀ (n : Nat) {v1 : Int32} {v2 : Int32}, x4_most_L4 N V u1 u2 n v1 v2 = some o1 → gW X 3 (xw_s Ds) (xw_c Df) ad V 0 0 4 [(0, .ref (ad (40, u1, u2))), (1, .int v1), (2, .int v2)] [] := by
  intro n
  induction n with
  | zero => intro v1 v2 h; rw [x4_most_L4] at h; cases h
  | succ n ih =>
    intro v1 v2 h
    rw [x4_most_L4] at h
    refine gz_iload_n (q := 2) hX dX4_most_4 rfl rfl ?_
    refine gz_iconst (v := 5) hX dX4_most_5 gl_c_5 ?_
    refine gz_icmp_ge (tgt := 36) hX dX4_most_6 (by decide) (fun c1 => ?_) (fun c1 => ?_)
    · have h := gz_ifp c1 h
      obtain rfl := gz_in1 h
      exact gz_lv [1] rfl k
    · have h := gz_ifn c1 h
      refine gz_aload_n (q := 0) hX dX4_most_9 rfl rfl ?_
      refine xg_X4_9 (n2 := (41, u1, u2)) hX (xs_P hu1 hu2) rfl dX4_most_10 ?_
      refine gz_iload_n (q := 2) hX dX4_most_13 rfl rfl ?_
      obtain ⟨b2, h⟩ := gz_gd_o h
      refine gz_iald (L := 5) hX (xs_T hu1 hu2) (gz_inb_o b2) dX4_most_14 ?_
      refine gz_aload_n (q := 0) hX dX4_most_15 rfl rfl ?_
      refine xg_X4_9 (n2 := (41, u1, u2)) hX (xs_P hu1 hu2) rfl dX4_most_16 ?_
      refine gz_iload_n (q := 1) hX dX4_most_19 rfl rfl ?_
      obtain ⟨b3, h⟩ := gz_gd_o h
      refine gz_iald (L := 5) hX (xs_T hu1 hu2) (gz_inb_o b3) dX4_most_20 ?_
      obtain ⟨y4, g5, h⟩ := gz_let_o h
      have J6 : gW X 3 (xw_s Ds) (xw_c Df) ad V 0 0 29 [(0, .ref (ad (40, u1, u2))), (2, .int v2)] [.int y4] := by
        refine gz_istore_n (lv2 := [(1, .int y4), (0, .ref (ad (40, u1, u2))), (2, .int v2)]) hX dX4_most_29 rfl (by decide) rfl ?_
        refine gz_iinc (q := 2) (lv2 := [(2, .int (v2 + 1)), (1, .int y4), (0, .ref (ad (40, u1, u2)))]) hX dX4_most_30 rfl gl_c_1 (by decide) rfl ?_
        refine gz_goto (tgt := 4) hX dX4_most_33 (by decide) ?_
        exact gz_lv [2, 1, 0] rfl (ih h)
      refine gz_icmp_le (tgt := 28) hX dX4_most_21 (by decide) (fun c7 => ?_) (fun c7 => ?_)
      · have g5 := gz_ifp c7 g5
        refine gz_iload_n (q := 1) hX dX4_most_28 rfl rfl ?_
        obtain rfl := g5
        exact gz_lv [0, 2] rfl J6
      · have g5 := gz_ifn c7 g5
        refine gz_iload_n (q := 2) hX dX4_most_24 rfl rfl ?_
        refine gz_goto (tgt := 29) hX dX4_most_25 (by decide) ?_
        obtain rfl := g5
        exact gz_lv [0, 2] rfl J6
noncomputable def x4_most (N : Nat) (V : gz_V) (u1 : Nat) (u2 : Nat) : Option (Int32) := gz_bd (x4_most_L4 N V u1 u2 N 0 1) (fun x1 => some x1)
theorem c_x4_most {l : Launch} {D : va_G} {aC : Nat → ClassId} {ad : gz_A0} {N : Nat} {Ds : gz_S} {Df : gz_R} {V : gz_V} {u1 : Nat} {u2 : Nat} {r : Int32} (hu1 : u1 < 9) (hu2 : u2 < 12) (h : x4_most N V u1 u2 = some r) : gz_Met l yX4_most cX4_most 3 (some .int) rm_x4_most D aC ad (xw_s Ds) V (xw_c Df) [.ref (ad (40, u1, u2))] (gz_F1 (xw_s Ds) (xw_c Df) ad V (some (.int r))) 0 0 := by
  refine gu_ofW (own := RX4) (mn := "most") (lv := [(0, .ref (ad (40, u1, u2)))]) (by decide) rfl rfl (Nat.le_of_ble_eq_true rfl) rfl ?_
  intro X hX hZ hF
  rw [x4_most] at h
  refine gz_iconst (v := 0) hX dX4_most_0 gl_c_0 ?_
  refine gz_istore_n (lv2 := [(1, .int 0), (0, .ref (ad (40, u1, u2)))]) hX dX4_most_1 rfl (by decide) rfl ?_
  refine gz_iconst (v := 1) hX dX4_most_2 gl_c_1 ?_
  refine gz_istore_n (lv2 := [(2, .int 1), (1, .int 0), (0, .ref (ad (40, u1, u2)))]) hX dX4_most_3 rfl (by decide) rfl ?_
  obtain ⟨x1, e2, h⟩ := gz_bd_o h
  refine gz_lv [2, 1, 0] rfl (w_x4_most_L4 hX hZ hu1 hu2 ?_ N e2)
  refine gz_iload_n (q := 0) hX dX4_most_36 rfl rfl ?_
  exact gu_iret hX hZ hF rfl rfl (gz_in1 h) dX4_most_37
theorem lw_x4_most_ {o : String} {i : Nat} (hl : Cond.methodLink o i yX4_most ∈ lw_all) : GoodIn lw_all (wsV o i RX4 yX4_most (ws_ yX4_most cX4_most 3 (some .int))) := lw_V hl q1413 q1414 q151 q1415
theorem nn_x4_most : yX4_most.cls = RX4 ∧ yX4_most.cls ≠ "java/lang/invoke/MethodHandle" ∧ yX4_most.cls ≠ "java/lang/invoke/VarHandle" ∧ (parseMethodDescriptor yX4_most.desc).map (fun d => d.parameters.length) = some 0 := by decide +kernel
def rm_x0_left : Room := { frames := 2, cells := 0, slots := 0, locals := 44 }
noncomputable def x0_left_L37 (N : Nat) (V : gz_V) (v1 : Int32) : Nat → Int32 → Int32 → Option (Int32)
  | 0, _, _ => none
  | n + 1, v3, v4 => (if 5 ≤ v4 then some v3 else gz_bd (x0_hasMost N V v1 v4) (fun r5 => gz_let (if r5 = 0 then (0 : Int32) else (1 : Int32)) (fun y7 => gz_let ((v3 + y7)) (fun x11 => x0_left_L37 N V v1 n x11 (v4 + 1)))))
theorem w_x0_left_L37 {X : gz_X} {ad : gz_A0} {N : Nat} {Ds : gz_S} {Df : gz_R} {V : gz_V} {v1 : Int32} {o3 : Int32} (hX : gz_ok X cX0_left RX0 "left" 5 rm_x0_left (some .int)) (hZ : gz_Z X) (k : gW X 5 (xw_s Ds) (xw_c Df) ad V 0 0 67 [(3, .int o3)] []) : ∀ (n : Nat) {v3 : Int32} {v4 : Int32}, x0_left_L37 N V v1 n v3 v4 = some o3 → gW X 5 (xw_s Ds) (xw_c Df) ad V 0 0 37 [(0, .ref (ad (10, 0, 0))), (1, .int v1), (3, .int v3), (4, .int v4)] [] := by
  intro n
  induction n with
  | zero => intro v3 v4 h; rw [x0_left_L37] at h; cases h
  | succ n ih =>
    intro v3 v4 h
    rw [x0_left_L37] at h
    refine gz_iload (q := 3) hX dX0_left_37 rfl ?_
    refine gz_iconst (v := 5) hX dX0_left_39 gl_c_5 ?_
    refine gz_icmp_ge (tgt := 67) hX dX0_left_40 (by decide) (fun c4 => ?_) (fun c4 => ?_)
    · have h := gz_ifp c4 h
      obtain rfl := gz_in1 h
      exact gz_lv [2] rfl k
    · have h := gz_ifn c4 h
      refine gz_iload_n (q := 2) hX dX0_left_43 rfl rfl ?_
      refine gz_aload_n (q := 0) hX dX0_left_44 rfl rfl ?_
      refine gz_iload_n (q := 1) hX dX0_left_45 rfl rfl ?_
      refine gz_iload (q := 3) hX dX0_left_46 rfl ?_
      obtain ⟨r5, e6, h⟩ := gz_bd_o h
      refine gu_callV (ci := 0) (n := (10, 0, 0)) (As := [.int v1, .int v4]) hX (c_x0_hasMost e6) (lw_x0_hasMost_ q1416) rfl rfl nn_x0_hasMost ⟨Nat.le_of_ble_eq_true rfl, Nat.le_of_ble_eq_true rfl⟩ ⟨Nat.zero_le _, Nat.zero_le _⟩ (by decide) rfl xs_main rfl rfl (Nat.le_of_ble_eq_true rfl) dX0_left_48 rfl ?_
      obtain ⟨y7, g8, h⟩ := gz_let_o h
      have J9 : gW X 5 (xw_s Ds) (xw_c Df) ad V 0 0 59 [(0, .ref (ad (10, 0, 0))), (1, .int v1), (4, .int v4)] [.int y7, .int v3] := by
        refine gz_iadd hX dX0_left_59 ?_
        obtain ⟨x11, e12, h⟩ := gz_let_o h
        refine gz_nm e12 ?_
        refine gz_istore_n (lv2 := [(3, .int x11), (0, .ref (ad (10, 0, 0))), (1, .int v1), (4, .int v4)]) hX dX0_left_60 rfl (by decide) rfl ?_
        refine gz_iinc (q := 3) (lv2 := [(4, .int (v4 + 1)), (3, .int x11), (0, .ref (ad (10, 0, 0))), (1, .int v1)]) hX dX0_left_61 rfl gl_c_1 (by decide) rfl ?_
        refine gz_goto (tgt := 37) hX dX0_left_64 (by decide) ?_
        exact gz_lv [2, 3, 1, 0] rfl (ih h)
      refine gz_if_eq (tgt := 58) hX dX0_left_51 (by decide) (fun c10 => ?_) (fun c10 => ?_)
      · have g8 := gz_ifp c10 g8
        refine gz_iconst (v := 0) hX dX0_left_58 gl_c_0 ?_
        obtain rfl := g8
        exact gz_lv [0, 1, 3] rfl J9
      · have g8 := gz_ifn c10 g8
        refine gz_iconst (v := 1) hX dX0_left_54 gl_c_1 ?_
        refine gz_goto (tgt := 59) hX dX0_left_55 (by decide) ?_
        obtain rfl := g8
        exact gz_lv [0, 1, 3] rfl J9
noncomputable def x0_left (N : Nat) (V : gz_V) (a1 : Int32) (a2 : Int32) : Option (Int32) := (if (x0_isPerson V a1) = 0 then some (-1) else (if (x0_isIn a2 0 1) = 0 then some (-1) else (if a2 = 0 then gz_bd (x0_at a1) (fun w6 => gz_bd (x4_most N V 0 w6) (fun r8 => some r8)) else gz_bd (x0_left_L37 N V a1 N 0 0) (fun x4 => some x4))))
theorem c_x0_left {l : Launch} {D : va_G} {aC : Nat → ClassId} {ad : gz_A0} {N : Nat} {Ds : gz_S} {Df : gz_R} {V : gz_V} {a1 : Int32} {a2 : Int32} {r : Int32} (h : x0_left N V a1 a2 = some r) : gz_Met l yX0_left cX0_left 5 (some .int) rm_x0_left D aC ad (xw_s Ds) V (xw_c Df) [.ref (ad (10, 0, 0)), .int a1, .int a2] (gz_F1 (xw_s Ds) (xw_c Df) ad V (some (.int r))) 0 0 := by
  refine gu_ofW (own := RX0) (mn := "left") (lv := [(0, .ref (ad (10, 0, 0))), (1, .int a1), (2, .int a2)]) (by decide) rfl rfl (Nat.le_of_ble_eq_true rfl) rfl ?_
  intro X hX hZ hF
  rw [x0_left] at h
  refine gz_aload_n (q := 0) hX dX0_left_0 rfl rfl ?_
  refine gz_iload_n (q := 1) hX dX0_left_1 rfl rfl ?_
  refine gu_callV (ci := 0) (n := (10, 0, 0)) (As := [.int a1]) hX (c_x0_isPerson rfl) (lw_x0_isPerson_ q1059) rfl rfl nn_x0_isPerson ⟨Nat.le_of_ble_eq_true rfl, Nat.le_of_ble_eq_true rfl⟩ ⟨Nat.zero_le _, Nat.zero_le _⟩ (by decide) rfl xs_main rfl rfl (Nat.le_of_ble_eq_true rfl) dX0_left_2 rfl ?_
  refine gz_if_eq (tgt := 17) hX dX0_left_5 (by decide) (fun c1 => ?_) (fun c1 => ?_)
  · have h := gz_ifp c1 h
    refine gz_iconst (v := (-1)) hX dX0_left_17 gl_c_m1 ?_
    exact gu_iret hX hZ hF rfl rfl (gz_in1 h) dX0_left_18
  · have h := gz_ifn c1 h
    refine gz_iload_n (q := 2) hX dX0_left_8 rfl rfl ?_
    refine gz_iconst (v := 0) hX dX0_left_9 gl_c_0 ?_
    refine gz_iconst (v := 1) hX dX0_left_10 gl_c_1 ?_
    refine gu_callS (As := [.int a2, .int 0, .int 1]) hX (c_x0_isIn rfl) (lw_x0_isIn_ q502) rfl rfl nn_x0_isIn ⟨Nat.le_of_ble_eq_true rfl, Nat.le_of_ble_eq_true rfl⟩ ⟨Nat.zero_le _, Nat.zero_le _⟩ rfl rfl (Nat.le_of_ble_eq_true rfl) dX0_left_11 rfl ?_
    refine gz_if_ne (tgt := 19) hX dX0_left_14 (by decide) (fun c2 => ?_) (fun c2 => ?_)
    · have h := gz_ifn c2 h
      refine gz_iload_n (q := 2) hX dX0_left_19 rfl rfl ?_
      refine gz_if_ne (tgt := 32) hX dX0_left_20 (by decide) (fun c3 => ?_) (fun c3 => ?_)
      · have h := gz_ifn c3 h
        refine gz_iconst (v := 0) hX dX0_left_32 gl_c_0 ?_
        refine gz_istore_n (lv2 := [(3, .int 0), (0, .ref (ad (10, 0, 0))), (1, .int a1), (2, .int a2)]) hX dX0_left_33 rfl (by decide) rfl ?_
        refine gz_iconst (v := 0) hX dX0_left_34 gl_c_0 ?_
        refine gz_istore (lv2 := [(4, .int 0), (3, .int 0), (0, .ref (ad (10, 0, 0))), (1, .int a1), (2, .int a2)]) hX dX0_left_35 (by decide) rfl ?_
        obtain ⟨x4, e5, h⟩ := gz_bd_o h
        refine gz_lv [2, 3, 1, 0] rfl (w_x0_left_L37 hX hZ ?_ N e5)
        refine gz_iload_n (q := 0) hX dX0_left_67 rfl rfl ?_
        exact gu_iret hX hZ hF rfl rfl (gz_in1 h) dX0_left_68
      · have h := gz_ifp c3 h
        refine gz_aload_n (q := 0) hX dX0_left_23 rfl rfl ?_
        refine gz_iload_n (q := 1) hX dX0_left_24 rfl rfl ?_
        obtain ⟨w6, e7, h⟩ := gz_bd_o h
        refine gu_callV (ci := 0) (n := (10, 0, 0)) (As := [.int a1]) hX (c_x0_at e7) (lw_x0_at_ q1047) rfl rfl nn_x0_at ⟨Nat.le_of_ble_eq_true rfl, Nat.le_of_ble_eq_true rfl⟩ ⟨Nat.zero_le _, Nat.zero_le _⟩ (by decide) rfl xs_main rfl rfl (Nat.le_of_ble_eq_true rfl) dX0_left_25 rfl ?_
        obtain ⟨r8, e9, h⟩ := gz_bd_o h
        refine gu_callV (ci := 4) (n := (40, 0, w6)) (As := []) hX (c_x4_most (by decide) (b_x0_at e7) e9) (lw_x4_most_ q1412) rfl rfl nn_x4_most ⟨Nat.le_of_ble_eq_true rfl, Nat.le_of_ble_eq_true rfl⟩ ⟨Nat.zero_le _, Nat.zero_le _⟩ (by decide) rfl (xs_P (by decide) (b_x0_at e7)) rfl rfl (Nat.le_of_ble_eq_true rfl) dX0_left_28 rfl ?_
        exact gu_iret hX hZ hF rfl rfl (gz_in1 h) dX0_left_31
    · have h := gz_ifp c2 h
      refine gz_iconst (v := (-1)) hX dX0_left_17 gl_c_m1 ?_
      exact gu_iret hX hZ hF rfl rfl (gz_in1 h) dX0_left_18
theorem lw_x0_left_ {o : String} {i : Nat} (hl : Cond.methodLink o i yX0_left ∈ lw_all) : GoodIn lw_all (wsV o i RX0 yX0_left (ws_ yX0_left cX0_left 5 (some .int))) := lw_V hl q1409 q1410 q144 q1411
theorem nn_x0_left : yX0_left.cls = RX0 ∧ yX0_left.cls ≠ "java/lang/invoke/MethodHandle" ∧ yX0_left.cls ≠ "java/lang/invoke/VarHandle" ∧ (parseMethodDescriptor yX0_left.desc).map (fun d => d.parameters.length) = some 2 := by decide +kernel
def rm_x0_look : Room := { frames := 1, cells := 0, slots := 0, locals := 20 }
noncomputable def x0_look (Ds : gz_S) (Df : gz_R) (V : gz_V) (a1 : Int32) : Option (Int32) := (if a1 = 0 then some (V (20, 0, 0) 13) else if a1 = 1 then some (V (20, 0, 0) 14) else if a1 = 2 then some (V (20, 0, 0) 15) else if a1 = 3 then some (V (20, 0, 0) 16) else if a1 = 4 then some (V (20, 0, 0) 17) else if a1 = 5 then some (V (20, 0, 0) 19) else if a1 = 6 then some (V (20, 0, 0) 18) else if a1 = 7 then gz_bd (Df (20, 0, 0) 9) (fun n9 => gz_gd (90 ≤ n9.1 ∧ Ds n9 = some (18, 3)) (some (j2_size V n9))) else if a1 = 8 then gz_bd (Df (20, 0, 0) 10) (fun n13 => gz_gd (90 ≤ n13.1 ∧ Ds n13 = some (18, 3)) (some (j2_size V n13))) else if a1 = 9 then gz_bd (Df (20, 0, 0) 11) (fun n17 => gz_gd (90 ≤ n17.1 ∧ Ds n17 = some (18, 3)) (some (j2_size V n17))) else if a1 = 10 then some (V (20, 0, 0) 20) else if a1 = 11 then some (V (10, 0, 0) 8) else some (-1))
theorem c_x0_look {l : Launch} {D : va_G} {aC : Nat → ClassId} {ad : gz_A0} {Ds : gz_S} {Df : gz_R} {V : gz_V} {a1 : Int32} {r : Int32} (h : x0_look Ds Df V a1 = some r) : gz_Met l yX0_look cX0_look 2 (some .int) rm_x0_look D aC ad (xw_s Ds) V (xw_c Df) [.ref (ad (10, 0, 0)), .int a1] (gz_F1 (xw_s Ds) (xw_c Df) ad V (some (.int r))) 0 0 := by
  refine gu_ofW (own := RX0) (mn := "look") (lv := [(0, .ref (ad (10, 0, 0))), (1, .int a1)]) (by decide) rfl rfl (Nat.le_of_ble_eq_true rfl) rfl ?_
  intro X hX hZ hF
  rw [x0_look] at h
  refine gz_iload_n (q := 1) hX dX0_look_0 rfl rfl ?_
  by_cases c1 : a1 = 0
  · have h := gz_ifp c1 h
    refine gz_tableAt (v := 0) (tgt := 64) hX dX0_look_1 c1 (by decide) (by decide) rfl (by decide) ?_
    refine gz_aload_n (q := 0) hX dX0_look_64 rfl rfl ?_
    refine xg_X0_20 (n2 := (20, 0, 0)) hX xs_main rfl dX0_look_65 ?_
    refine xg_X0_137 hX (xs_M (by decide)) dX0_look_68 ?_
    exact gu_iret hX hZ hF rfl rfl (gz_in1 h) dX0_look_71
  · have h := gz_ifn c1 h
    by_cases c2 : a1 = 1
    · have h := gz_ifp c2 h
      refine gz_tableAt (v := 1) (tgt := 72) hX dX0_look_1 c2 (by decide) (by decide) rfl (by decide) ?_
      refine gz_aload_n (q := 0) hX dX0_look_72 rfl rfl ?_
      refine xg_X0_20 (n2 := (20, 0, 0)) hX xs_main rfl dX0_look_73 ?_
      refine xg_X0_140 hX (xs_M (by decide)) dX0_look_76 ?_
      exact gu_iret hX hZ hF rfl rfl (gz_in1 h) dX0_look_79
    · have h := gz_ifn c2 h
      by_cases c3 : a1 = 2
      · have h := gz_ifp c3 h
        refine gz_tableAt (v := 2) (tgt := 80) hX dX0_look_1 c3 (by decide) (by decide) rfl (by decide) ?_
        refine gz_aload_n (q := 0) hX dX0_look_80 rfl rfl ?_
        refine xg_X0_20 (n2 := (20, 0, 0)) hX xs_main rfl dX0_look_81 ?_
        refine xg_X0_262 hX (xs_M (by decide)) dX0_look_84 ?_
        exact gu_iret hX hZ hF rfl rfl (gz_in1 h) dX0_look_87
      · have h := gz_ifn c3 h
        by_cases c4 : a1 = 3
        · have h := gz_ifp c4 h
          refine gz_tableAt (v := 3) (tgt := 88) hX dX0_look_1 c4 (by decide) (by decide) rfl (by decide) ?_
          refine gz_aload_n (q := 0) hX dX0_look_88 rfl rfl ?_
          refine xg_X0_20 (n2 := (20, 0, 0)) hX xs_main rfl dX0_look_89 ?_
          refine xg_X0_265 hX (xs_M (by decide)) dX0_look_92 ?_
          exact gu_iret hX hZ hF rfl rfl (gz_in1 h) dX0_look_95
        · have h := gz_ifn c4 h
          by_cases c5 : a1 = 4
          · have h := gz_ifp c5 h
            refine gz_tableAt (v := 4) (tgt := 96) hX dX0_look_1 c5 (by decide) (by decide) rfl (by decide) ?_
            refine gz_aload_n (q := 0) hX dX0_look_96 rfl rfl ?_
            refine xg_X0_20 (n2 := (20, 0, 0)) hX xs_main rfl dX0_look_97 ?_
            refine xg_X0_216 hX (xs_M (by decide)) dX0_look_100 ?_
            exact gu_iret hX hZ hF rfl rfl (gz_in1 h) dX0_look_103
          · have h := gz_ifn c5 h
            by_cases c6 : a1 = 5
            · have h := gz_ifp c6 h
              refine gz_tableAt (v := 5) (tgt := 104) hX dX0_look_1 c6 (by decide) (by decide) rfl (by decide) ?_
              refine gz_aload_n (q := 0) hX dX0_look_104 rfl rfl ?_
              refine xg_X0_20 (n2 := (20, 0, 0)) hX xs_main rfl dX0_look_105 ?_
              refine xg_X0_252 hX (xs_M (by decide)) dX0_look_108 ?_
              exact gu_iret hX hZ hF rfl rfl (gz_in1 h) dX0_look_111
            · have h := gz_ifn c6 h
              by_cases c7 : a1 = 6
              · have h := gz_ifp c7 h
                refine gz_tableAt (v := 6) (tgt := 112) hX dX0_look_1 c7 (by decide) (by decide) rfl (by decide) ?_
                refine gz_aload_n (q := 0) hX dX0_look_112 rfl rfl ?_
                refine xg_X0_20 (n2 := (20, 0, 0)) hX xs_main rfl dX0_look_113 ?_
                refine xg_X0_147 hX (xs_M (by decide)) dX0_look_116 ?_
                exact gu_iret hX hZ hF rfl rfl (gz_in1 h) dX0_look_119
              · have h := gz_ifn c7 h
                by_cases c8 : a1 = 7
                · have h := gz_ifp c8 h
                  refine gz_tableAt (v := 7) (tgt := 120) hX dX0_look_1 c8 (by decide) (by decide) rfl (by decide) ?_
                  refine gz_aload_n (q := 0) hX dX0_look_120 rfl rfl ?_
                  refine xg_X0_20 (n2 := (20, 0, 0)) hX xs_main rfl dX0_look_121 ?_
                  obtain ⟨n9, e10, h⟩ := gz_bd_o h
                  refine xg_X0_80 (n2 := n9) hX (xs_M (by decide)) e10 dX0_look_124 ?_
                  obtain ⟨b11, h⟩ := gz_gd_o h
                  refine gu_callV (ci := 18) (n := n9) (As := []) hX (c_j2_size b11 rfl) (lw_j2_size_ q913) rfl rfl nn_j2_size ⟨Nat.le_of_ble_eq_true rfl, Nat.le_of_ble_eq_true rfl⟩ ⟨Nat.zero_le _, Nat.zero_le _⟩ (by decide) rfl (xs_dyn b11) rfl rfl (Nat.le_of_ble_eq_true rfl) dX0_look_127 rfl ?_
                  exact gu_iret hX hZ hF rfl rfl (gz_in1 h) dX0_look_130
                · have h := gz_ifn c8 h
                  by_cases c12 : a1 = 8
                  · have h := gz_ifp c12 h
                    refine gz_tableAt (v := 8) (tgt := 131) hX dX0_look_1 c12 (by decide) (by decide) rfl (by decide) ?_
                    refine gz_aload_n (q := 0) hX dX0_look_131 rfl rfl ?_
                    refine xg_X0_20 (n2 := (20, 0, 0)) hX xs_main rfl dX0_look_132 ?_
                    obtain ⟨n13, e14, h⟩ := gz_bd_o h
                    refine xg_X0_92 (n2 := n13) hX (xs_M (by decide)) e14 dX0_look_135 ?_
                    obtain ⟨b15, h⟩ := gz_gd_o h
                    refine gu_callV (ci := 18) (n := n13) (As := []) hX (c_j2_size b15 rfl) (lw_j2_size_ q913) rfl rfl nn_j2_size ⟨Nat.le_of_ble_eq_true rfl, Nat.le_of_ble_eq_true rfl⟩ ⟨Nat.zero_le _, Nat.zero_le _⟩ (by decide) rfl (xs_dyn b15) rfl rfl (Nat.le_of_ble_eq_true rfl) dX0_look_138 rfl ?_
                    exact gu_iret hX hZ hF rfl rfl (gz_in1 h) dX0_look_141
                  · have h := gz_ifn c12 h
                    by_cases c16 : a1 = 9
                    · have h := gz_ifp c16 h
                      refine gz_tableAt (v := 9) (tgt := 142) hX dX0_look_1 c16 (by decide) (by decide) rfl (by decide) ?_
                      refine gz_aload_n (q := 0) hX dX0_look_142 rfl rfl ?_
                      refine xg_X0_20 (n2 := (20, 0, 0)) hX xs_main rfl dX0_look_143 ?_
                      obtain ⟨n17, e18, h⟩ := gz_bd_o h
                      refine xg_X0_101 (n2 := n17) hX (xs_M (by decide)) e18 dX0_look_146 ?_
                      obtain ⟨b19, h⟩ := gz_gd_o h
                      refine gu_callV (ci := 18) (n := n17) (As := []) hX (c_j2_size b19 rfl) (lw_j2_size_ q913) rfl rfl nn_j2_size ⟨Nat.le_of_ble_eq_true rfl, Nat.le_of_ble_eq_true rfl⟩ ⟨Nat.zero_le _, Nat.zero_le _⟩ (by decide) rfl (xs_dyn b19) rfl rfl (Nat.le_of_ble_eq_true rfl) dX0_look_149 rfl ?_
                      exact gu_iret hX hZ hF rfl rfl (gz_in1 h) dX0_look_152
                    · have h := gz_ifn c16 h
                      by_cases c20 : a1 = 10
                      · have h := gz_ifp c20 h
                        refine gz_tableAt (v := 10) (tgt := 153) hX dX0_look_1 c20 (by decide) (by decide) rfl (by decide) ?_
                        refine gz_aload_n (q := 0) hX dX0_look_153 rfl rfl ?_
                        refine xg_X0_20 (n2 := (20, 0, 0)) hX xs_main rfl dX0_look_154 ?_
                        refine xg_X0_112 hX (xs_M (by decide)) dX0_look_157 ?_
                        exact gu_iret hX hZ hF rfl rfl (gz_in1 h) dX0_look_160
                      · have h := gz_ifn c20 h
                        by_cases c21 : a1 = 11
                        · have h := gz_ifp c21 h
                          refine gz_tableAt (v := 11) (tgt := 161) hX dX0_look_1 c21 (by decide) (by decide) rfl (by decide) ?_
                          refine gz_aload_n (q := 0) hX dX0_look_161 rfl rfl ?_
                          refine xg_X0_130 hX xs_main dX0_look_162 ?_
                          exact gu_iret hX hZ hF rfl rfl (gz_in1 h) dX0_look_165
                        · have h := gz_ifn c21 h
                          refine gz_tableOut (tgt := 166) hX dX0_look_1 (by have := lv_neT c1 (a := 0) rfl; have := lv_neT c2 (a := 1) rfl; have := lv_neT c3 (a := 2) rfl; have := lv_neT c4 (a := 3) rfl; have := lv_neT c5 (a := 4) rfl; have := lv_neT c6 (a := 5) rfl; have := lv_neT c7 (a := 6) rfl; have := lv_neT c8 (a := 7) rfl; have := lv_neT c12 (a := 8) rfl; have := lv_neT c16 (a := 9) rfl; have := lv_neT c20 (a := 10) rfl; have := lv_neT c21 (a := 11) rfl; omega) (by decide) ?_
                          refine gz_iconst (v := (-1)) hX dX0_look_166 gl_c_m1 ?_
                          exact gu_iret hX hZ hF rfl rfl (gz_in1 h) dX0_look_167
theorem lw_x0_look_ {o : String} {i : Nat} (hl : Cond.methodLink o i yX0_look ∈ lw_all) : GoodIn lw_all (wsV o i RX0 yX0_look (ws_ yX0_look cX0_look 2 (some .int))) := lw_V hl q1463 q1464 q144 q1465
theorem nn_x0_look : yX0_look.cls = RX0 ∧ yX0_look.cls ≠ "java/lang/invoke/MethodHandle" ∧ yX0_look.cls ≠ "java/lang/invoke/VarHandle" ∧ (parseMethodDescriptor yX0_look.desc).map (fun d => d.parameters.length) = some 1 := by decide +kernel
def rm_x0_mostPairs : Room := { frames := 1, cells := 0, slots := 0, locals := 21 }
noncomputable def x0_mostPairs_L49 (N : Nat) (Ds : gz_S) (Df : gz_R) (v1 : Int32) (v2 : Int32) (v3 : Int32) : Nat → gz_V → Int32 → Option (gz_V)
  | 0, _, _ => none
  | n + 1, V, v4 => (if (V (20, 0, 0) 13) ≤ v4 then some V else gz_bd (if ((v2 >>> (v4 &&& 31)) &&& 1) = 1 then gz_bd (Df (20, 0, 0) 12) (fun n19 => gz_gd (90 ≤ n19.1 ∧ Ds n19 = some (100, 12)) (gz_gd (gz_inb v3 12 = true) ((if (((V n19 v3.toNatClampNeg) >>> (v4 &&& 31)) &&& 1) = 0 then gz_gd (gz_inb v2 4096 = true) (gz_gd (gz_inb (v2 &&& ((((1 : Int32) <<< (v3 &&& 31)) ||| ((1 : Int32) <<< (v4 &&& 31))) ^^^ (-1))) 4096 = true) (gz_gd (gz_inb v2 4096 = true) (gz_let (gz_up V (11, 11, 0) v2.toNatClampNeg (gz_max (V (11, 11, 0) v2.toNatClampNeg) (1 + (V (11, 11, 0) (v2 &&& ((((1 : Int32) <<< (v3 &&& 31)) ||| ((1 : Int32) <<< (v4 &&& 31))) ^^^ (-1))).toNatClampNeg)))) (fun V27 => some V27)))) else some V)))) else some V) (fun V15 => x0_mostPairs_L49 N Ds Df v1 v2 v3 n V15 (v4 + 1)))
theorem w_x0_mostPairs_L49 {X : gz_X} {ad : gz_A0} {N : Nat} {Ds : gz_S} {Df : gz_R} {v1 : Int32} {v2 : Int32} {v3 : Int32} {W1 : gz_V} (hX : gz_ok X cX0_mostPairs RX0 "mostPairs" 5 rm_x0_mostPairs (some .int)) (hZ : gz_Z X) (k : gW X 5 (xw_s Ds) (xw_c Df) ad W1 0 0 128 [(0, .ref (ad (10, 0, 0))), (1, .int v1), (2, .int v2)] []) : ∀ (n : Nat) {V : gz_V} {v4 : Int32}, x0_mostPairs_L49 N Ds Df v1 v2 v3 n V v4 = some W1 → gW X 5 (xw_s Ds) (xw_c Df) ad V 0 0 49 [(0, .ref (ad (10, 0, 0))), (1, .int v1), (2, .int v2), (3, .int v3), (4, .int v4)] [] := by
  intro n
  induction n with
  | zero => intro V v4 h; rw [x0_mostPairs_L49] at h; cases h
  | succ n ih =>
    intro V v4 h
    rw [x0_mostPairs_L49] at h
    refine gz_iload (q := 4) hX dX0_mostPairs_49 rfl ?_
    refine gz_aload_n (q := 0) hX dX0_mostPairs_51 rfl rfl ?_
    refine xg_X0_20 (n2 := (20, 0, 0)) hX xs_main rfl dX0_mostPairs_52 ?_
    refine xg_X0_137 hX (xs_M (by decide)) dX0_mostPairs_55 ?_
    refine gz_icmp_ge (tgt := 128) hX dX0_mostPairs_58 (by decide) (fun c14 => ?_) (fun c14 => ?_)
    · have h := gz_ifp c14 h
      obtain rfl := gz_in1 h
      exact gz_lv [0, 1, 2] rfl k
    · have h := gz_ifn c14 h
      refine gz_iload_n (q := 2) hX dX0_mostPairs_61 rfl rfl ?_
      refine gz_iload (q := 4) hX dX0_mostPairs_62 rfl ?_
      refine gz_ishr hX dX0_mostPairs_64 ?_
      refine gz_iconst (v := 1) hX dX0_mostPairs_65 gl_c_1 ?_
      refine gz_iand hX dX0_mostPairs_66 ?_
      refine gz_iconst (v := 1) hX dX0_mostPairs_67 gl_c_1 ?_
      obtain ⟨V15, g16, h⟩ := gz_bd_o h
      have J17 : gW X 5 (xw_s Ds) (xw_c Df) ad V15 0 0 122 [(0, .ref (ad (10, 0, 0))), (1, .int v1), (2, .int v2), (3, .int v3), (4, .int v4)] [] := by
        refine gz_iinc (q := 4) (lv2 := [(4, .int (v4 + 1)), (0, .ref (ad (10, 0, 0))), (1, .int v1), (2, .int v2), (3, .int v3)]) hX dX0_mostPairs_122 rfl gl_c_1 (by decide) rfl ?_
        refine gz_goto (tgt := 49) hX dX0_mostPairs_125 (by decide) ?_
        exact gz_lv [1, 2, 3, 4, 0] rfl (ih h)
      refine gz_icmp_ne (tgt := 122) hX dX0_mostPairs_68 (by decide) (fun c18 => ?_) (fun c18 => ?_)
      · have g16 := gz_ifn c18 g16
        obtain rfl := gz_in1 g16
        exact gz_lv [0, 1, 2, 3, 4] rfl J17
      · have g16 := gz_ifp c18 g16
        refine gz_aload_n (q := 0) hX dX0_mostPairs_71 rfl rfl ?_
        refine xg_X0_20 (n2 := (20, 0, 0)) hX xs_main rfl dX0_mostPairs_72 ?_
        obtain ⟨n19, e20, g16⟩ := gz_bd_o g16
        obtain ⟨b21, g16⟩ := gz_gd_o g16
        refine xg_X0_107 (n2 := n19) hX (xs_M (by decide)) e20 dX0_mostPairs_75 ?_
        refine gz_iload_n (q := 3) hX dX0_mostPairs_78 rfl rfl ?_
        obtain ⟨b22, g16⟩ := gz_gd_o g16
        refine gz_iald (L := 12) hX (xs_dyn b21) (gz_inb_o b22) dX0_mostPairs_79 ?_
        refine gz_iload (q := 4) hX dX0_mostPairs_80 rfl ?_
        refine gz_ishr hX dX0_mostPairs_82 ?_
        refine gz_iconst (v := 1) hX dX0_mostPairs_83 gl_c_1 ?_
        refine gz_iand hX dX0_mostPairs_84 ?_
        refine gz_if_ne (tgt := 122) hX dX0_mostPairs_85 (by decide) (fun c23 => ?_) (fun c23 => ?_)
        · have g16 := gz_ifn c23 g16
          obtain rfl := gz_in1 g16
          exact gz_lv [0, 1, 2, 3, 4] rfl J17
        · have g16 := gz_ifp c23 g16
          refine gz_aload_n (q := 0) hX dX0_mostPairs_88 rfl rfl ?_
          refine xg_X0_42 (n2 := (11, 11, 0)) hX xs_main rfl dX0_mostPairs_89 ?_
          refine gz_iload_n (q := 2) hX dX0_mostPairs_92 rfl rfl ?_
          refine gz_aload_n (q := 0) hX dX0_mostPairs_93 rfl rfl ?_
          refine xg_X0_42 (n2 := (11, 11, 0)) hX xs_main rfl dX0_mostPairs_94 ?_
          refine gz_iload_n (q := 2) hX dX0_mostPairs_97 rfl rfl ?_
          obtain ⟨b24, g16⟩ := gz_gd_o g16
          refine gz_iald (L := 4096) hX xs_pairs (gz_inb_o b24) dX0_mostPairs_98 ?_
          refine gz_iconst (v := 1) hX dX0_mostPairs_99 gl_c_1 ?_
          refine gz_aload_n (q := 0) hX dX0_mostPairs_100 rfl rfl ?_
          refine xg_X0_42 (n2 := (11, 11, 0)) hX xs_main rfl dX0_mostPairs_101 ?_
          refine gz_iload_n (q := 2) hX dX0_mostPairs_104 rfl rfl ?_
          refine gz_iconst (v := 1) hX dX0_mostPairs_105 gl_c_1 ?_
          refine gz_iload_n (q := 3) hX dX0_mostPairs_106 rfl rfl ?_
          refine gz_ishl hX dX0_mostPairs_107 ?_
          refine gz_iconst (v := 1) hX dX0_mostPairs_108 gl_c_1 ?_
          refine gz_iload (q := 4) hX dX0_mostPairs_109 rfl ?_
          refine gz_ishl hX dX0_mostPairs_111 ?_
          refine gz_ior hX dX0_mostPairs_112 ?_
          refine gz_iconst (v := (-1)) hX dX0_mostPairs_113 gl_c_m1 ?_
          refine gz_ixor hX dX0_mostPairs_114 ?_
          refine gz_iand hX dX0_mostPairs_115 ?_
          obtain ⟨b25, g16⟩ := gz_gd_o g16
          refine gz_iald (L := 4096) hX xs_pairs (gz_inb_o b25) dX0_mostPairs_116 ?_
          refine gz_iadd hX dX0_mostPairs_117 ?_
          refine gz_mmax hX q1153 q867 q156 q868 ⟨Nat.le_of_ble_eq_true rfl, Nat.le_of_ble_eq_true rfl, Nat.zero_le _, Nat.zero_le _⟩ (Nat.le_of_ble_eq_true rfl) dX0_mostPairs_118 ?_
          obtain ⟨b26, g16⟩ := gz_gd_o g16
          obtain ⟨V27, e28, g16⟩ := gz_let_o g16
          refine gz_iast (L := 4096) hX xs_pairs (gz_ne0 10 rfl) (gz_inb_o b26) dX0_mostPairs_121 e28 ?_
          obtain rfl := gz_in1 g16
          exact gz_lv [0, 1, 2, 3, 4] rfl J17
noncomputable def x0_mostPairs_L2 (N : Nat) (Ds : gz_S) (Df : gz_R) (v1 : Int32) : Nat → gz_V → Int32 → Option (gz_V)
  | 0, _, _ => none
  | n + 1, V, v2 => (if v1 < v2 then some V else gz_gd (gz_inb v2 4096 = true) (gz_let (gz_up V (11, 11, 0) v2.toNatClampNeg 0) (fun V3 => gz_bd (if v2 = 0 then some V3 else gz_let ((j13_numberOfTrailingZeros v2)) (fun x9 => gz_gd (gz_inb (v2 &&& (((1 : Int32) <<< (x9 &&& 31)) ^^^ (-1))) 4096 = true) (gz_gd (gz_inb v2 4096 = true) (gz_let (gz_up V3 (11, 11, 0) v2.toNatClampNeg (V3 (11, 11, 0) (v2 &&& (((1 : Int32) <<< (x9 &&& 31)) ^^^ (-1))).toNatClampNeg)) (fun V13 => gz_let ((x9 + 1)) (fun x15 => gz_bd (x0_mostPairs_L49 N Ds Df v1 v2 x9 N V13 x15) (fun V17 => some V17))))))) (fun V5 => x0_mostPairs_L2 N Ds Df v1 n V5 (v2 + 1)))))
theorem w_x0_mostPairs_L2 {X : gz_X} {ad : gz_A0} {N : Nat} {Ds : gz_S} {Df : gz_R} {v1 : Int32} {W1 : gz_V} (hX : gz_ok X cX0_mostPairs RX0 "mostPairs" 5 rm_x0_mostPairs (some .int)) (hZ : gz_Z X) (k : gW X 5 (xw_s Ds) (xw_c Df) ad W1 0 0 134 [(0, .ref (ad (10, 0, 0))), (1, .int v1)] []) : ∀ (n : Nat) {V : gz_V} {v2 : Int32}, x0_mostPairs_L2 N Ds Df v1 n V v2 = some W1 → gW X 5 (xw_s Ds) (xw_c Df) ad V 0 0 2 [(0, .ref (ad (10, 0, 0))), (1, .int v1), (2, .int v2)] [] := by
  intro n
  induction n with
  | zero => intro V v2 h; rw [x0_mostPairs_L2] at h; cases h
  | succ n ih =>
    intro V v2 h
    rw [x0_mostPairs_L2] at h
    refine gz_iload_n (q := 2) hX dX0_mostPairs_2 rfl rfl ?_
    refine gz_iload_n (q := 1) hX dX0_mostPairs_3 rfl rfl ?_
    refine gz_icmp_gt (tgt := 134) hX dX0_mostPairs_4 (by decide) (fun c1 => ?_) (fun c1 => ?_)
    · have h := gz_ifp c1 h
      obtain rfl := gz_in1 h
      exact gz_lv [0, 1] rfl k
    · have h := gz_ifn c1 h
      refine gz_aload_n (q := 0) hX dX0_mostPairs_7 rfl rfl ?_
      refine xg_X0_42 (n2 := (11, 11, 0)) hX xs_main rfl dX0_mostPairs_8 ?_
      refine gz_iload_n (q := 2) hX dX0_mostPairs_11 rfl rfl ?_
      refine gz_iconst (v := 0) hX dX0_mostPairs_12 gl_c_0 ?_
      obtain ⟨b2, h⟩ := gz_gd_o h
      obtain ⟨V3, e4, h⟩ := gz_let_o h
      refine gz_iast (L := 4096) hX xs_pairs (gz_ne0 10 rfl) (gz_inb_o b2) dX0_mostPairs_13 e4 ?_
      refine gz_iload_n (q := 2) hX dX0_mostPairs_14 rfl rfl ?_
      obtain ⟨V5, g6, h⟩ := gz_bd_o h
      have J7 : gW X 5 (xw_s Ds) (xw_c Df) ad V5 0 0 128 [(0, .ref (ad (10, 0, 0))), (1, .int v1), (2, .int v2)] [] := by
        refine gz_iinc (q := 2) (lv2 := [(2, .int (v2 + 1)), (0, .ref (ad (10, 0, 0))), (1, .int v1)]) hX dX0_mostPairs_128 rfl gl_c_1 (by decide) rfl ?_
        refine gz_goto (tgt := 2) hX dX0_mostPairs_131 (by decide) ?_
        exact gz_lv [1, 2, 0] rfl (ih h)
      refine gz_if_ne (tgt := 21) hX dX0_mostPairs_15 (by decide) (fun c8 => ?_) (fun c8 => ?_)
      · have g6 := gz_ifn c8 g6
        refine gz_iload_n (q := 2) hX dX0_mostPairs_21 rfl rfl ?_
        refine gu_callS (As := [.int v2]) hX (c_j13_numberOfTrailingZeros rfl) (lw_j13_numberOfTrailingZeros_ q1344) rfl rfl nn_j13_numberOfTrailingZeros ⟨Nat.le_of_ble_eq_true rfl, Nat.le_of_ble_eq_true rfl⟩ ⟨Nat.zero_le _, Nat.zero_le _⟩ rfl rfl (Nat.le_of_ble_eq_true rfl) dX0_mostPairs_22 rfl ?_
        obtain ⟨x9, e10, g6⟩ := gz_let_o g6
        refine gz_nm e10 ?_
        refine gz_istore_n (lv2 := [(3, .int x9), (0, .ref (ad (10, 0, 0))), (1, .int v1), (2, .int v2)]) hX dX0_mostPairs_25 rfl (by decide) rfl ?_
        refine gz_aload_n (q := 1) hX dX0_mostPairs_26 rfl rfl ?_
        refine xg_X0_42 (n2 := (11, 11, 0)) hX xs_main rfl dX0_mostPairs_27 ?_
        refine gz_iload_n (q := 3) hX dX0_mostPairs_30 rfl rfl ?_
        refine gz_aload_n (q := 1) hX dX0_mostPairs_31 rfl rfl ?_
        refine xg_X0_42 (n2 := (11, 11, 0)) hX xs_main rfl dX0_mostPairs_32 ?_
        refine gz_iload_n (q := 3) hX dX0_mostPairs_35 rfl rfl ?_
        refine gz_iconst (v := 1) hX dX0_mostPairs_36 gl_c_1 ?_
        refine gz_iload_n (q := 0) hX dX0_mostPairs_37 rfl rfl ?_
        refine gz_ishl hX dX0_mostPairs_38 ?_
        refine gz_iconst (v := (-1)) hX dX0_mostPairs_39 gl_c_m1 ?_
        refine gz_ixor hX dX0_mostPairs_40 ?_
        refine gz_iand hX dX0_mostPairs_41 ?_
        obtain ⟨b11, g6⟩ := gz_gd_o g6
        refine gz_iald (L := 4096) hX xs_pairs (gz_inb_o b11) dX0_mostPairs_42 ?_
        obtain ⟨b12, g6⟩ := gz_gd_o g6
        obtain ⟨V13, e14, g6⟩ := gz_let_o g6
        refine gz_iast (L := 4096) hX xs_pairs (gz_ne0 10 rfl) (gz_inb_o b12) dX0_mostPairs_43 e14 ?_
        refine gz_iload_n (q := 0) hX dX0_mostPairs_44 rfl rfl ?_
        refine gz_iconst (v := 1) hX dX0_mostPairs_45 gl_c_1 ?_
        refine gz_iadd hX dX0_mostPairs_46 ?_
        obtain ⟨x15, e16, g6⟩ := gz_let_o g6
        refine gz_nm e16 ?_
        refine gz_istore (lv2 := [(4, .int x15), (3, .int x9), (0, .ref (ad (10, 0, 0))), (1, .int v1), (2, .int v2)]) hX dX0_mostPairs_47 (by decide) rfl ?_
        obtain ⟨V17, e18, g6⟩ := gz_bd_o g6
        refine gz_lv [2, 3, 4, 1, 0] rfl (w_x0_mostPairs_L49 hX hZ ?_ N e18)
        obtain rfl := gz_in1 g6
        exact gz_lv [0, 1, 2] rfl J7
      · have g6 := gz_ifp c8 g6
        refine gz_goto (tgt := 128) hX dX0_mostPairs_18 (by decide) ?_
        obtain rfl := gz_in1 g6
        exact gz_lv [0, 1, 2] rfl J7
noncomputable def x0_mostPairs (N : Nat) (Ds : gz_S) (Df : gz_R) (V : gz_V) (a1 : Int32) : Option (gz_V × Int32) := gz_bd (x0_mostPairs_L2 N Ds Df a1 N V 0) (fun V1 => gz_gd (gz_inb a1 4096 = true) (some (V1, (V1 (11, 11, 0) a1.toNatClampNeg))))
theorem c_x0_mostPairs {l : Launch} {D : va_G} {aC : Nat → ClassId} {ad : gz_A0} {N : Nat} {Ds : gz_S} {Df : gz_R} {V : gz_V} {a1 : Int32} {W1 : gz_V} {r : Int32} (h : x0_mostPairs N Ds Df V a1 = some (W1, r)) : gz_Met l yX0_mostPairs cX0_mostPairs 5 (some .int) rm_x0_mostPairs D aC ad (xw_s Ds) V (xw_c Df) [.ref (ad (10, 0, 0)), .int a1] (gz_F1 (xw_s Ds) (xw_c Df) ad W1 (some (.int r))) 0 0 := by
  refine gu_ofW (own := RX0) (mn := "mostPairs") (lv := [(0, .ref (ad (10, 0, 0))), (1, .int a1)]) (by decide) rfl rfl (Nat.le_of_ble_eq_true rfl) rfl ?_
  intro X hX hZ hF
  rw [x0_mostPairs] at h
  refine gz_iconst (v := 0) hX dX0_mostPairs_0 gl_c_0 ?_
  refine gz_istore_n (lv2 := [(2, .int 0), (0, .ref (ad (10, 0, 0))), (1, .int a1)]) hX dX0_mostPairs_1 rfl (by decide) rfl ?_
  obtain ⟨V1, e2, h⟩ := gz_bd_o h
  refine gz_lv [1, 2, 0] rfl (w_x0_mostPairs_L2 hX hZ ?_ N e2)
  refine gz_aload_n (q := 0) hX dX0_mostPairs_134 rfl rfl ?_
  refine xg_X0_42 (n2 := (11, 11, 0)) hX xs_main rfl dX0_mostPairs_135 ?_
  refine gz_iload_n (q := 1) hX dX0_mostPairs_138 rfl rfl ?_
  obtain ⟨b3, h⟩ := gz_gd_o h
  refine gz_iald (L := 4096) hX xs_pairs (gz_inb_o b3) dX0_mostPairs_139 ?_
  obtain ⟨e_V, e_r⟩ := gz_in2 h
  exact gu_iret hX hZ hF e_V rfl e_r dX0_mostPairs_140
theorem lw_x0_mostPairs_ {o : String} {i : Nat} (hl : Cond.methodLink o i yX0_mostPairs ∈ lw_all) : GoodIn lw_all (wsV o i RX0 yX0_mostPairs (ws_ yX0_mostPairs cX0_mostPairs 5 (some .int))) := lw_V hl q1342 qs44 q144 q1343
theorem nn_x0_mostPairs : yX0_mostPairs.cls = RX0 ∧ yX0_mostPairs.cls ≠ "java/lang/invoke/MethodHandle" ∧ yX0_mostPairs.cls ≠ "java/lang/invoke/VarHandle" ∧ (parseMethodDescriptor yX0_mostPairs.desc).map (fun d => d.parameters.length) = some 1 := by decide +kernel
