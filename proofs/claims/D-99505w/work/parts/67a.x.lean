/-! READER, its lexer. Printed by wip/D-99505w/gen/mkx7.py -/
set_option maxRecDepth 100000
theorem gl_s_255 : (Int16.ofInt 255).toInt32 = 255 := by decide
def rm_x7_see : Room := { frames := 0, cells := 0, slots := 0, locals := 0 }
noncomputable def x7_see (Ds : gz_S) (Df : gz_R) (V : gz_V) (u1 : gz_N) : Option (Int32) := gz_gd (Df u1 8 = some (10, 0, 0)) ((if (V (10, 0, 0) 1) ≤ (V u1 2) then some (-1) else gz_gd (Df u1 8 = some (10, 0, 0)) (gz_gd (gz_inb (V u1 2) 400 = true) (some ((V (11, 0, 0) (V u1 2).toNatClampNeg) &&& 255)))))
theorem c_x7_see {l : Launch} {D : va_G} {aC : Nat → ClassId} {ad : gz_A0} {Ds : gz_S} {Df : gz_R} {V : gz_V} {u1 : gz_N} {r : Int32} (hu1 : 90 ≤ u1.1 ∧ Ds u1 = some (7, 9)) (h : x7_see Ds Df V u1 = some r) : gz_Met l yX7_see cX7_see 1 (some .int) rm_x7_see D aC ad (xw_s Ds) V (xw_c Df) [.ref (ad u1)] (gz_F1 (xw_s Ds) (xw_c Df) ad V (some (.int r))) 0 0 := by
  refine gu_ofW (own := RX7) (mn := "see") (lv := [(0, .ref (ad u1))]) (by decide) rfl rfl (Nat.le_of_ble_eq_true rfl) rfl ?_
  intro X hX hZ hF
  rw [x7_see] at h
  refine gz_aload_n (q := 0) hX dX7_see_0 rfl rfl ?_
  refine xg_X7_23 hX (xs_dyn hu1) dX7_see_1 ?_
  refine gz_aload_n (q := 0) hX dX7_see_4 rfl rfl ?_
  obtain ⟨b1, h⟩ := gz_gd_o h
  refine xg_X7_3 (n2 := (10, 0, 0)) hX (xs_dyn hu1) ((xr_dyn (hu1).1).trans b1) dX7_see_5 ?_
  refine xg_X7_26 hX xs_main dX7_see_8 ?_
  refine gz_icmp_ge (tgt := 33) hX dX7_see_11 (by decide) (fun c2 => ?_) (fun c2 => ?_)
  · have h := gz_ifp c2 h
    refine gz_iconst (v := (-1)) hX dX7_see_33 gl_c_m1 ?_
    exact gu_iret hX hZ hF rfl rfl (gz_in1 h) dX7_see_34
  · have h := gz_ifn c2 h
    refine gz_aload_n (q := 0) hX dX7_see_14 rfl rfl ?_
    obtain ⟨b3, h⟩ := gz_gd_o h
    refine xg_X7_3 (n2 := (10, 0, 0)) hX (xs_dyn hu1) ((xr_dyn (hu1).1).trans b3) dX7_see_15 ?_
    refine xg_X7_29 (n2 := (11, 0, 0)) hX xs_main rfl dX7_see_18 ?_
    refine gz_aload_n (q := 0) hX dX7_see_21 rfl rfl ?_
    refine xg_X7_23 hX (xs_dyn hu1) dX7_see_22 ?_
    obtain ⟨b4, h⟩ := gz_gd_o h
    refine gz_bald (L := 400) hX xs_tape (gz_inb_o b4) dX7_see_25 ?_
    refine gz_sipush (v := 255) hX dX7_see_26 gl_s_255 ?_
    refine gz_iand hX dX7_see_29 ?_
    refine gz_goto (tgt := 34) hX dX7_see_30 (by decide) ?_
    exact gu_iret hX hZ hF rfl rfl (gz_in1 h) dX7_see_34
theorem lw_x7_see_ {o : String} {i : Nat} (hl : Cond.methodLink o i yX7_see ∈ lw_all) : GoodIn lw_all (wsV o i RX7 yX7_see (ws_ yX7_see cX7_see 1 (some .int))) := lw_V hl q561 qs3 q157 q562
theorem nn_x7_see : yX7_see.cls = RX7 ∧ yX7_see.cls ≠ "java/lang/invoke/MethodHandle" ∧ yX7_see.cls ≠ "java/lang/invoke/VarHandle" ∧ (parseMethodDescriptor yX7_see.desc).map (fun d => d.parameters.length) = some 0 := by decide +kernel
theorem gl_b_48 : (Int8.ofInt 48).toInt32 = 48 := by decide
theorem gl_b_57 : (Int8.ofInt 57).toInt32 = 57 := by decide
def rm_x7_isDigit : Room := { frames := 1, cells := 0, slots := 0, locals := 22 }
noncomputable def x7_isDigit (Ds : gz_S) (Df : gz_R) (V : gz_V) (u1 : gz_N) : Option (Int32) := gz_bd (x7_see Ds Df V u1) (fun r1 => some (x0_isIn r1 48 57))
theorem c_x7_isDigit {l : Launch} {D : va_G} {aC : Nat → ClassId} {ad : gz_A0} {Ds : gz_S} {Df : gz_R} {V : gz_V} {u1 : gz_N} {r : Int32} (hu1 : 90 ≤ u1.1 ∧ Ds u1 = some (7, 9)) (h : x7_isDigit Ds Df V u1 = some r) : gz_Met l yX7_isDigit cX7_isDigit 1 (some .boolean) rm_x7_isDigit D aC ad (xw_s Ds) V (xw_c Df) [.ref (ad u1)] (gz_F1 (xw_s Ds) (xw_c Df) ad V (some (.int r))) 0 0 := by
  refine gu_ofW (own := RX7) (mn := "isDigit") (lv := [(0, .ref (ad u1))]) (by decide) rfl rfl (Nat.le_of_ble_eq_true rfl) rfl ?_
  intro X hX hZ hF
  rw [x7_isDigit] at h
  refine gz_aload_n (q := 0) hX dX7_isDigit_0 rfl rfl ?_
  obtain ⟨r1, e2, h⟩ := gz_bd_o h
  refine gu_callV (ci := 7) (n := u1) (As := []) hX (c_x7_see hu1 e2) (lw_x7_see_ q559) rfl rfl nn_x7_see ⟨Nat.le_of_ble_eq_true rfl, Nat.le_of_ble_eq_true rfl⟩ ⟨Nat.zero_le _, Nat.zero_le _⟩ (by decide) rfl (xs_dyn hu1) rfl rfl (Nat.le_of_ble_eq_true rfl) dX7_isDigit_1 rfl ?_
  refine gz_bipush (v := 48) hX dX7_isDigit_4 gl_b_48 ?_
  refine gz_bipush (v := 57) hX dX7_isDigit_6 gl_b_57 ?_
  refine gu_callSN (As := [.int r1, .int 48, .int 57]) hX (c_x0_isIn rfl) q567 (lw_meth q504) q144 q503 rfl rfl nn_x0_isIn ⟨Nat.le_of_ble_eq_true rfl, Nat.le_of_ble_eq_true rfl⟩ ⟨Nat.zero_le _, Nat.zero_le _⟩ rfl rfl (Nat.le_of_ble_eq_true rfl) dX7_isDigit_8 rfl ?_
  exact gu_zret hX hZ (gz_nb b_x0_isIn) hF rfl rfl (gz_in1 h) dX7_isDigit_11
theorem lw_x7_isDigit_ {o : String} {i : Nat} (hl : Cond.methodLink o i yX7_isDigit ∈ lw_all) : GoodIn lw_all (wsV o i RX7 yX7_isDigit (ws_ yX7_isDigit cX7_isDigit 1 (some .boolean))) := lw_V hl q669 qs11 q157 q670
theorem nn_x7_isDigit : yX7_isDigit.cls = RX7 ∧ yX7_isDigit.cls ≠ "java/lang/invoke/MethodHandle" ∧ yX7_isDigit.cls ≠ "java/lang/invoke/VarHandle" ∧ (parseMethodDescriptor yX7_isDigit.desc).map (fun d => d.parameters.length) = some 0 := by decide +kernel
theorem gl_b_65 : (Int8.ofInt 65).toInt32 = 65 := by decide
theorem gl_b_90 : (Int8.ofInt 90).toInt32 = 90 := by decide
theorem gl_b_97 : (Int8.ofInt 97).toInt32 = 97 := by decide
theorem gl_b_122 : (Int8.ofInt 122).toInt32 = 122 := by decide
def rm_x7_isLetter : Room := { frames := 1, cells := 0, slots := 0, locals := 22 }
noncomputable def x7_isLetter (Ds : gz_S) (Df : gz_R) (V : gz_V) (u1 : gz_N) : Option (Int32) := gz_bd (x7_see Ds Df V u1) (fun r1 => (if (x0_isIn r1 97 122) = 0 then gz_bd (x7_see Ds Df V u1) (fun r4 => (if (x0_isIn r4 65 90) = 0 then some 0 else some 1)) else some 1))
theorem c_x7_isLetter {l : Launch} {D : va_G} {aC : Nat → ClassId} {ad : gz_A0} {Ds : gz_S} {Df : gz_R} {V : gz_V} {u1 : gz_N} {r : Int32} (hu1 : 90 ≤ u1.1 ∧ Ds u1 = some (7, 9)) (h : x7_isLetter Ds Df V u1 = some r) : gz_Met l yX7_isLetter cX7_isLetter 1 (some .boolean) rm_x7_isLetter D aC ad (xw_s Ds) V (xw_c Df) [.ref (ad u1)] (gz_F1 (xw_s Ds) (xw_c Df) ad V (some (.int r))) 0 0 := by
  refine gu_ofW (own := RX7) (mn := "isLetter") (lv := [(0, .ref (ad u1))]) (by decide) rfl rfl (Nat.le_of_ble_eq_true rfl) rfl ?_
  intro X hX hZ hF
  rw [x7_isLetter] at h
  refine gz_aload_n (q := 0) hX dX7_isLetter_0 rfl rfl ?_
  obtain ⟨r1, e2, h⟩ := gz_bd_o h
  refine gu_callV (ci := 7) (n := u1) (As := []) hX (c_x7_see hu1 e2) (lw_x7_see_ q559) rfl rfl nn_x7_see ⟨Nat.le_of_ble_eq_true rfl, Nat.le_of_ble_eq_true rfl⟩ ⟨Nat.zero_le _, Nat.zero_le _⟩ (by decide) rfl (xs_dyn hu1) rfl rfl (Nat.le_of_ble_eq_true rfl) dX7_isLetter_1 rfl ?_
  refine gz_bipush (v := 97) hX dX7_isLetter_4 gl_b_97 ?_
  refine gz_bipush (v := 122) hX dX7_isLetter_6 gl_b_122 ?_
  refine gu_callSN (As := [.int r1, .int 97, .int 122]) hX (c_x0_isIn rfl) q567 (lw_meth q504) q144 q503 rfl rfl nn_x0_isIn ⟨Nat.le_of_ble_eq_true rfl, Nat.le_of_ble_eq_true rfl⟩ ⟨Nat.zero_le _, Nat.zero_le _⟩ rfl rfl (Nat.le_of_ble_eq_true rfl) dX7_isLetter_8 rfl ?_
  refine gz_if_ne (tgt := 28) hX dX7_isLetter_11 (by decide) (fun c3 => ?_) (fun c3 => ?_)
  · have h := gz_ifn c3 h
    refine gz_iconst (v := 1) hX dX7_isLetter_28 gl_c_1 ?_
    refine gz_goto (tgt := 33) hX dX7_isLetter_29 (by decide) ?_
    exact gu_zret hX hZ rfl hF rfl rfl (gz_in1 h) dX7_isLetter_33
  · have h := gz_ifp c3 h
    refine gz_aload_n (q := 0) hX dX7_isLetter_14 rfl rfl ?_
    obtain ⟨r4, e5, h⟩ := gz_bd_o h
    refine gu_callV (ci := 7) (n := u1) (As := []) hX (c_x7_see hu1 e5) (lw_x7_see_ q559) rfl rfl nn_x7_see ⟨Nat.le_of_ble_eq_true rfl, Nat.le_of_ble_eq_true rfl⟩ ⟨Nat.zero_le _, Nat.zero_le _⟩ (by decide) rfl (xs_dyn hu1) rfl rfl (Nat.le_of_ble_eq_true rfl) dX7_isLetter_15 rfl ?_
    refine gz_bipush (v := 65) hX dX7_isLetter_18 gl_b_65 ?_
    refine gz_bipush (v := 90) hX dX7_isLetter_20 gl_b_90 ?_
    refine gu_callSN (As := [.int r4, .int 65, .int 90]) hX (c_x0_isIn rfl) q567 (lw_meth q504) q144 q503 rfl rfl nn_x0_isIn ⟨Nat.le_of_ble_eq_true rfl, Nat.le_of_ble_eq_true rfl⟩ ⟨Nat.zero_le _, Nat.zero_le _⟩ rfl rfl (Nat.le_of_ble_eq_true rfl) dX7_isLetter_22 rfl ?_
    refine gz_if_eq (tgt := 32) hX dX7_isLetter_25 (by decide) (fun c6 => ?_) (fun c6 => ?_)
    · have h := gz_ifp c6 h
      refine gz_iconst (v := 0) hX dX7_isLetter_32 gl_c_0 ?_
      exact gu_zret hX hZ rfl hF rfl rfl (gz_in1 h) dX7_isLetter_33
    · have h := gz_ifn c6 h
      refine gz_iconst (v := 1) hX dX7_isLetter_28 gl_c_1 ?_
      refine gz_goto (tgt := 33) hX dX7_isLetter_29 (by decide) ?_
      exact gu_zret hX hZ rfl hF rfl rfl (gz_in1 h) dX7_isLetter_33
theorem lw_x7_isLetter_ {o : String} {i : Nat} (hl : Cond.methodLink o i yX7_isLetter ∈ lw_all) : GoodIn lw_all (wsV o i RX7 yX7_isLetter (ws_ yX7_isLetter cX7_isLetter 1 (some .boolean))) := lw_V hl q565 qs4 q157 q566
theorem nn_x7_isLetter : yX7_isLetter.cls = RX7 ∧ yX7_isLetter.cls ≠ "java/lang/invoke/MethodHandle" ∧ yX7_isLetter.cls ≠ "java/lang/invoke/VarHandle" ∧ (parseMethodDescriptor yX7_isLetter.desc).map (fun d => d.parameters.length) = some 0 := by decide +kernel
theorem gl_b_40 : (Int8.ofInt 40).toInt32 = 40 := by decide
theorem gl_b_41 : (Int8.ofInt 41).toInt32 = 41 := by decide
theorem gl_b_42 : (Int8.ofInt 42).toInt32 = 42 := by decide
theorem gl_b_43 : (Int8.ofInt 43).toInt32 = 43 := by decide
theorem gl_b_45 : (Int8.ofInt 45).toInt32 = 45 := by decide
theorem gl_b_47 : (Int8.ofInt 47).toInt32 = 47 := by decide
theorem gl_b_59 : (Int8.ofInt 59).toInt32 = 59 := by decide
theorem gl_b_61 : (Int8.ofInt 61).toInt32 = 61 := by decide
theorem gl_b_62 : (Int8.ofInt 62).toInt32 = 62 := by decide
def rm_x7_isMark : Room := { frames := 0, cells := 0, slots := 0, locals := 0 }
noncomputable def x7_isMark (u1 : gz_N) (a1 : Int32) : Int32 := (if a1 = 59 then 1 else (if a1 = 43 then 1 else (if a1 = 45 then 1 else (if a1 = 42 then 1 else (if a1 = 47 then 1 else (if a1 = 40 then 1 else (if a1 = 41 then 1 else (if a1 = 60 then 1 else (if a1 = 61 then 1 else (if a1 = 62 then 1 else 0))))))))))
theorem c_x7_isMark {l : Launch} {D : va_G} {aC : Nat → ClassId} {ad : gz_A0} {Ds : gz_S} {Df : gz_R} {V : gz_V} {u1 : gz_N} {a1 : Int32} {r : Int32} (hu1 : 90 ≤ u1.1 ∧ Ds u1 = some (7, 9)) (h : x7_isMark u1 a1 = r) : gz_Met l yX7_isMark cX7_isMark 2 (some .boolean) rm_x7_isMark D aC ad (xw_s Ds) V (xw_c Df) [.ref (ad u1), .int a1] (gz_F1 (xw_s Ds) (xw_c Df) ad V (some (.int r))) 0 0 := by
  refine gu_ofW (own := RX7) (mn := "isMark") (lv := [(0, .ref (ad u1)), (1, .int a1)]) (by decide) rfl rfl (Nat.le_of_ble_eq_true rfl) rfl ?_
  intro X hX hZ hF
  rw [x7_isMark] at h
  refine gz_iload_n (q := 1) hX dX7_isMark_0 rfl rfl ?_
  refine gz_bipush (v := 59) hX dX7_isMark_1 gl_b_59 ?_
  refine gz_icmp_eq (tgt := 60) hX dX7_isMark_3 (by decide) (fun c1 => ?_) (fun c1 => ?_)
  · have h := gz_ifp c1 h
    refine gz_iconst (v := 1) hX dX7_isMark_60 gl_c_1 ?_
    refine gz_goto (tgt := 65) hX dX7_isMark_61 (by decide) ?_
    exact gu_zret hX hZ rfl hF rfl rfl h dX7_isMark_65
  · have h := gz_ifn c1 h
    refine gz_iload_n (q := 1) hX dX7_isMark_6 rfl rfl ?_
    refine gz_bipush (v := 43) hX dX7_isMark_7 gl_b_43 ?_
    refine gz_icmp_eq (tgt := 60) hX dX7_isMark_9 (by decide) (fun c2 => ?_) (fun c2 => ?_)
    · have h := gz_ifp c2 h
      refine gz_iconst (v := 1) hX dX7_isMark_60 gl_c_1 ?_
      refine gz_goto (tgt := 65) hX dX7_isMark_61 (by decide) ?_
      exact gu_zret hX hZ rfl hF rfl rfl h dX7_isMark_65
    · have h := gz_ifn c2 h
      refine gz_iload_n (q := 1) hX dX7_isMark_12 rfl rfl ?_
      refine gz_bipush (v := 45) hX dX7_isMark_13 gl_b_45 ?_
      refine gz_icmp_eq (tgt := 60) hX dX7_isMark_15 (by decide) (fun c3 => ?_) (fun c3 => ?_)
      · have h := gz_ifp c3 h
        refine gz_iconst (v := 1) hX dX7_isMark_60 gl_c_1 ?_
        refine gz_goto (tgt := 65) hX dX7_isMark_61 (by decide) ?_
        exact gu_zret hX hZ rfl hF rfl rfl h dX7_isMark_65
      · have h := gz_ifn c3 h
        refine gz_iload_n (q := 1) hX dX7_isMark_18 rfl rfl ?_
        refine gz_bipush (v := 42) hX dX7_isMark_19 gl_b_42 ?_
        refine gz_icmp_eq (tgt := 60) hX dX7_isMark_21 (by decide) (fun c4 => ?_) (fun c4 => ?_)
        · have h := gz_ifp c4 h
          refine gz_iconst (v := 1) hX dX7_isMark_60 gl_c_1 ?_
          refine gz_goto (tgt := 65) hX dX7_isMark_61 (by decide) ?_
          exact gu_zret hX hZ rfl hF rfl rfl h dX7_isMark_65
        · have h := gz_ifn c4 h
          refine gz_iload_n (q := 1) hX dX7_isMark_24 rfl rfl ?_
          refine gz_bipush (v := 47) hX dX7_isMark_25 gl_b_47 ?_
          refine gz_icmp_eq (tgt := 60) hX dX7_isMark_27 (by decide) (fun c5 => ?_) (fun c5 => ?_)
          · have h := gz_ifp c5 h
            refine gz_iconst (v := 1) hX dX7_isMark_60 gl_c_1 ?_
            refine gz_goto (tgt := 65) hX dX7_isMark_61 (by decide) ?_
            exact gu_zret hX hZ rfl hF rfl rfl h dX7_isMark_65
          · have h := gz_ifn c5 h
            refine gz_iload_n (q := 1) hX dX7_isMark_30 rfl rfl ?_
            refine gz_bipush (v := 40) hX dX7_isMark_31 gl_b_40 ?_
            refine gz_icmp_eq (tgt := 60) hX dX7_isMark_33 (by decide) (fun c6 => ?_) (fun c6 => ?_)
            · have h := gz_ifp c6 h
              refine gz_iconst (v := 1) hX dX7_isMark_60 gl_c_1 ?_
              refine gz_goto (tgt := 65) hX dX7_isMark_61 (by decide) ?_
              exact gu_zret hX hZ rfl hF rfl rfl h dX7_isMark_65
            · have h := gz_ifn c6 h
              refine gz_iload_n (q := 1) hX dX7_isMark_36 rfl rfl ?_
              refine gz_bipush (v := 41) hX dX7_isMark_37 gl_b_41 ?_
              refine gz_icmp_eq (tgt := 60) hX dX7_isMark_39 (by decide) (fun c7 => ?_) (fun c7 => ?_)
              · have h := gz_ifp c7 h
                refine gz_iconst (v := 1) hX dX7_isMark_60 gl_c_1 ?_
                refine gz_goto (tgt := 65) hX dX7_isMark_61 (by decide) ?_
                exact gu_zret hX hZ rfl hF rfl rfl h dX7_isMark_65
              · have h := gz_ifn c7 h
                refine gz_iload_n (q := 1) hX dX7_isMark_42 rfl rfl ?_
                refine gz_bipush (v := 60) hX dX7_isMark_43 gl_b_60 ?_
                refine gz_icmp_eq (tgt := 60) hX dX7_isMark_45 (by decide) (fun c8 => ?_) (fun c8 => ?_)
                · have h := gz_ifp c8 h
                  refine gz_iconst (v := 1) hX dX7_isMark_60 gl_c_1 ?_
                  refine gz_goto (tgt := 65) hX dX7_isMark_61 (by decide) ?_
                  exact gu_zret hX hZ rfl hF rfl rfl h dX7_isMark_65
                · have h := gz_ifn c8 h
                  refine gz_iload_n (q := 1) hX dX7_isMark_48 rfl rfl ?_
                  refine gz_bipush (v := 61) hX dX7_isMark_49 gl_b_61 ?_
                  refine gz_icmp_eq (tgt := 60) hX dX7_isMark_51 (by decide) (fun c9 => ?_) (fun c9 => ?_)
                  · have h := gz_ifp c9 h
                    refine gz_iconst (v := 1) hX dX7_isMark_60 gl_c_1 ?_
                    refine gz_goto (tgt := 65) hX dX7_isMark_61 (by decide) ?_
                    exact gu_zret hX hZ rfl hF rfl rfl h dX7_isMark_65
                  · have h := gz_ifn c9 h
                    refine gz_iload_n (q := 1) hX dX7_isMark_54 rfl rfl ?_
                    refine gz_bipush (v := 62) hX dX7_isMark_55 gl_b_62 ?_
                    refine gz_icmp_ne (tgt := 64) hX dX7_isMark_57 (by decide) (fun c10 => ?_) (fun c10 => ?_)
                    · have h := gz_ifn c10 h
                      refine gz_iconst (v := 0) hX dX7_isMark_64 gl_c_0 ?_
                      exact gu_zret hX hZ rfl hF rfl rfl h dX7_isMark_65
                    · have h := gz_ifp c10 h
                      refine gz_iconst (v := 1) hX dX7_isMark_60 gl_c_1 ?_
                      refine gz_goto (tgt := 65) hX dX7_isMark_61 (by decide) ?_
                      exact gu_zret hX hZ rfl hF rfl rfl h dX7_isMark_65
theorem lw_x7_isMark_ {o : String} {i : Nat} (hl : Cond.methodLink o i yX7_isMark ∈ lw_all) : GoodIn lw_all (wsV o i RX7 yX7_isMark (ws_ yX7_isMark cX7_isMark 2 (some .boolean))) := lw_V hl q673 qs12 q157 q674
theorem nn_x7_isMark : yX7_isMark.cls = RX7 ∧ yX7_isMark.cls ≠ "java/lang/invoke/MethodHandle" ∧ yX7_isMark.cls ≠ "java/lang/invoke/VarHandle" ∧ (parseMethodDescriptor yX7_isMark.desc).map (fun d => d.parameters.length) = some 1 := by decide +kernel
theorem b_x7_isMark {u1 : gz_N} {a1 : Int32} : x7_isMark u1 a1 = 0 ∨ x7_isMark u1 a1 = 1 := by
  unfold x7_isMark
  try simp only [gz_let]
  repeat' split
  all_goals first | exact Or.inl rfl | exact Or.inr rfl
