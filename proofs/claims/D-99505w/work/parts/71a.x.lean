/-! READER, its lexer. Printed by wip/D-99505w/gen/mkx7.py -/
set_option maxRecDepth 100000
theorem gl_s_180 : (Int16.ofInt 180).toInt32 = 180 := by decide
theorem gl_s_181 : (Int16.ofInt 181).toInt32 = 181 := by decide
theorem gl_s_182 : (Int16.ofInt 182).toInt32 = 182 := by decide
theorem gl_s_183 : (Int16.ofInt 183).toInt32 = 183 := by decide
theorem gl_s_184 : (Int16.ofInt 184).toInt32 = 184 := by decide
theorem gl_s_185 : (Int16.ofInt 185).toInt32 = 185 := by decide
theorem gl_s_186 : (Int16.ofInt 186).toInt32 = 186 := by decide
theorem gl_s_187 : (Int16.ofInt 187).toInt32 = 187 := by decide
theorem gl_s_188 : (Int16.ofInt 188).toInt32 = 188 := by decide
theorem gl_s_189 : (Int16.ofInt 189).toInt32 = 189 := by decide
theorem gl_s_190 : (Int16.ofInt 190).toInt32 = 190 := by decide
def rm_x7_asked : Room := { frames := 5, cells := 0, slots := 0, locals := 108 }
noncomputable def x7_asked (Ds : gz_S) (Df : gz_R) (V : gz_V) (u1 : gz_N) : Option (Int32) := gz_bd (x7_is Ds Df V u1 7) (fun r1 => (if r1 = 0 then gz_bd (x7_is Ds Df V u1 8) (fun r4 => (if r4 = 0 then gz_bd (x7_is Ds Df V u1 9) (fun r7 => (if r7 = 0 then gz_bd (x7_is Ds Df V u1 10) (fun r10 => (if r10 = 0 then gz_bd (x7_is Ds Df V u1 11) (fun r13 => (if r13 = 0 then gz_bd (x7_is Ds Df V u1 12) (fun r16 => (if r16 = 0 then gz_bd (x7_is Ds Df V u1 13) (fun r19 => (if r19 = 0 then gz_bd (x7_is Ds Df V u1 14) (fun r22 => (if r22 = 0 then gz_bd (x7_is Ds Df V u1 15) (fun r25 => (if r25 = 0 then gz_bd (x7_is Ds Df V u1 16) (fun r28 => (if r28 = 0 then gz_bd (x7_is Ds Df V u1 17) (fun r31 => (if r31 = 0 then some 1 else some 190)) else some 189)) else some 188)) else some 187)) else some 186)) else some 185)) else some 184)) else some 183)) else some 182)) else some 181)) else some 180))
theorem c_x7_asked {l : Launch} {D : va_G} {aC : Nat → ClassId} {ad : gz_A0} {Ds : gz_S} {Df : gz_R} {V : gz_V} {u1 : gz_N} {r : Int32} (hu1 : 90 ≤ u1.1 ∧ Ds u1 = some (7, 9)) (h : x7_asked Ds Df V u1 = some r) : gz_Met l yX7_asked cX7_asked 1 (some .int) rm_x7_asked D aC ad (xw_s Ds) V (xw_c Df) [.ref (ad u1)] (gz_F1 (xw_s Ds) (xw_c Df) ad V (some (.int r))) 0 0 := by
  refine gu_ofW (own := RX7) (mn := "asked") (lv := [(0, .ref (ad u1))]) (by decide) rfl rfl (Nat.le_of_ble_eq_true rfl) rfl ?_
  intro X hX hZ hF
  rw [x7_asked] at h
  refine gz_aload_n (q := 0) hX dX7_asked_0 rfl rfl ?_
  refine gs_ldc (i := 7) hX (by decide) rfl dX7_asked_1 ?_
  obtain ⟨r1, e2, h⟩ := gz_bd_o h
  refine gu_callV (ci := 7) (n := u1) (As := [.ref (gx_C X (2000 + 7))]) hX (c_x7_is hu1 (by decide) e2) (lw_x7_is_ q577) rfl rfl nn_x7_is ⟨Nat.le_of_ble_eq_true rfl, Nat.le_of_ble_eq_true rfl⟩ ⟨Nat.zero_le _, Nat.zero_le _⟩ (by decide) rfl (xs_dyn hu1) rfl rfl (Nat.le_of_ble_eq_true rfl) dX7_asked_3 rfl ?_
  refine gz_if_eq (tgt := 13) hX dX7_asked_6 (by decide) (fun c3 => ?_) (fun c3 => ?_)
  · have h := gz_ifp c3 h
    refine gz_aload_n (q := 0) hX dX7_asked_13 rfl rfl ?_
    refine gs_ldc (i := 8) hX (by decide) rfl dX7_asked_14 ?_
    obtain ⟨r4, e5, h⟩ := gz_bd_o h
    refine gu_callV (ci := 7) (n := u1) (As := [.ref (gx_C X (2000 + 8))]) hX (c_x7_is hu1 (by decide) e5) (lw_x7_is_ q577) rfl rfl nn_x7_is ⟨Nat.le_of_ble_eq_true rfl, Nat.le_of_ble_eq_true rfl⟩ ⟨Nat.zero_le _, Nat.zero_le _⟩ (by decide) rfl (xs_dyn hu1) rfl rfl (Nat.le_of_ble_eq_true rfl) dX7_asked_16 rfl ?_
    refine gz_if_eq (tgt := 26) hX dX7_asked_19 (by decide) (fun c6 => ?_) (fun c6 => ?_)
    · have h := gz_ifp c6 h
      refine gz_aload_n (q := 0) hX dX7_asked_26 rfl rfl ?_
      refine gs_ldc (i := 9) hX (by decide) rfl dX7_asked_27 ?_
      obtain ⟨r7, e8, h⟩ := gz_bd_o h
      refine gu_callV (ci := 7) (n := u1) (As := [.ref (gx_C X (2000 + 9))]) hX (c_x7_is hu1 (by decide) e8) (lw_x7_is_ q577) rfl rfl nn_x7_is ⟨Nat.le_of_ble_eq_true rfl, Nat.le_of_ble_eq_true rfl⟩ ⟨Nat.zero_le _, Nat.zero_le _⟩ (by decide) rfl (xs_dyn hu1) rfl rfl (Nat.le_of_ble_eq_true rfl) dX7_asked_29 rfl ?_
      refine gz_if_eq (tgt := 39) hX dX7_asked_32 (by decide) (fun c9 => ?_) (fun c9 => ?_)
      · have h := gz_ifp c9 h
        refine gz_aload_n (q := 0) hX dX7_asked_39 rfl rfl ?_
        refine gs_ldc (i := 10) hX (by decide) rfl dX7_asked_40 ?_
        obtain ⟨r10, e11, h⟩ := gz_bd_o h
        refine gu_callV (ci := 7) (n := u1) (As := [.ref (gx_C X (2000 + 10))]) hX (c_x7_is hu1 (by decide) e11) (lw_x7_is_ q577) rfl rfl nn_x7_is ⟨Nat.le_of_ble_eq_true rfl, Nat.le_of_ble_eq_true rfl⟩ ⟨Nat.zero_le _, Nat.zero_le _⟩ (by decide) rfl (xs_dyn hu1) rfl rfl (Nat.le_of_ble_eq_true rfl) dX7_asked_42 rfl ?_
        refine gz_if_eq (tgt := 52) hX dX7_asked_45 (by decide) (fun c12 => ?_) (fun c12 => ?_)
        · have h := gz_ifp c12 h
          refine gz_aload_n (q := 0) hX dX7_asked_52 rfl rfl ?_
          refine gs_ldc (i := 11) hX (by decide) rfl dX7_asked_53 ?_
          obtain ⟨r13, e14, h⟩ := gz_bd_o h
          refine gu_callV (ci := 7) (n := u1) (As := [.ref (gx_C X (2000 + 11))]) hX (c_x7_is hu1 (by decide) e14) (lw_x7_is_ q577) rfl rfl nn_x7_is ⟨Nat.le_of_ble_eq_true rfl, Nat.le_of_ble_eq_true rfl⟩ ⟨Nat.zero_le _, Nat.zero_le _⟩ (by decide) rfl (xs_dyn hu1) rfl rfl (Nat.le_of_ble_eq_true rfl) dX7_asked_55 rfl ?_
          refine gz_if_eq (tgt := 65) hX dX7_asked_58 (by decide) (fun c15 => ?_) (fun c15 => ?_)
          · have h := gz_ifp c15 h
            refine gz_aload_n (q := 0) hX dX7_asked_65 rfl rfl ?_
            refine gs_ldc (i := 12) hX (by decide) rfl dX7_asked_66 ?_
            obtain ⟨r16, e17, h⟩ := gz_bd_o h
            refine gu_callV (ci := 7) (n := u1) (As := [.ref (gx_C X (2000 + 12))]) hX (c_x7_is hu1 (by decide) e17) (lw_x7_is_ q577) rfl rfl nn_x7_is ⟨Nat.le_of_ble_eq_true rfl, Nat.le_of_ble_eq_true rfl⟩ ⟨Nat.zero_le _, Nat.zero_le _⟩ (by decide) rfl (xs_dyn hu1) rfl rfl (Nat.le_of_ble_eq_true rfl) dX7_asked_68 rfl ?_
            refine gz_if_eq (tgt := 78) hX dX7_asked_71 (by decide) (fun c18 => ?_) (fun c18 => ?_)
            · have h := gz_ifp c18 h
              refine gz_aload_n (q := 0) hX dX7_asked_78 rfl rfl ?_
              refine gs_ldc (i := 13) hX (by decide) rfl dX7_asked_79 ?_
              obtain ⟨r19, e20, h⟩ := gz_bd_o h
              refine gu_callV (ci := 7) (n := u1) (As := [.ref (gx_C X (2000 + 13))]) hX (c_x7_is hu1 (by decide) e20) (lw_x7_is_ q577) rfl rfl nn_x7_is ⟨Nat.le_of_ble_eq_true rfl, Nat.le_of_ble_eq_true rfl⟩ ⟨Nat.zero_le _, Nat.zero_le _⟩ (by decide) rfl (xs_dyn hu1) rfl rfl (Nat.le_of_ble_eq_true rfl) dX7_asked_81 rfl ?_
              refine gz_if_eq (tgt := 91) hX dX7_asked_84 (by decide) (fun c21 => ?_) (fun c21 => ?_)
              · have h := gz_ifp c21 h
                refine gz_aload_n (q := 0) hX dX7_asked_91 rfl rfl ?_
                refine gs_ldc (i := 14) hX (by decide) rfl dX7_asked_92 ?_
                obtain ⟨r22, e23, h⟩ := gz_bd_o h
                refine gu_callV (ci := 7) (n := u1) (As := [.ref (gx_C X (2000 + 14))]) hX (c_x7_is hu1 (by decide) e23) (lw_x7_is_ q577) rfl rfl nn_x7_is ⟨Nat.le_of_ble_eq_true rfl, Nat.le_of_ble_eq_true rfl⟩ ⟨Nat.zero_le _, Nat.zero_le _⟩ (by decide) rfl (xs_dyn hu1) rfl rfl (Nat.le_of_ble_eq_true rfl) dX7_asked_94 rfl ?_
                refine gz_if_eq (tgt := 104) hX dX7_asked_97 (by decide) (fun c24 => ?_) (fun c24 => ?_)
                · have h := gz_ifp c24 h
                  refine gz_aload_n (q := 0) hX dX7_asked_104 rfl rfl ?_
                  refine gs_ldc (i := 15) hX (by decide) rfl dX7_asked_105 ?_
                  obtain ⟨r25, e26, h⟩ := gz_bd_o h
                  refine gu_callV (ci := 7) (n := u1) (As := [.ref (gx_C X (2000 + 15))]) hX (c_x7_is hu1 (by decide) e26) (lw_x7_is_ q577) rfl rfl nn_x7_is ⟨Nat.le_of_ble_eq_true rfl, Nat.le_of_ble_eq_true rfl⟩ ⟨Nat.zero_le _, Nat.zero_le _⟩ (by decide) rfl (xs_dyn hu1) rfl rfl (Nat.le_of_ble_eq_true rfl) dX7_asked_107 rfl ?_
                  refine gz_if_eq (tgt := 117) hX dX7_asked_110 (by decide) (fun c27 => ?_) (fun c27 => ?_)
                  · have h := gz_ifp c27 h
                    refine gz_aload_n (q := 0) hX dX7_asked_117 rfl rfl ?_
                    refine gs_ldc (i := 16) hX (by decide) rfl dX7_asked_118 ?_
                    obtain ⟨r28, e29, h⟩ := gz_bd_o h
                    refine gu_callV (ci := 7) (n := u1) (As := [.ref (gx_C X (2000 + 16))]) hX (c_x7_is hu1 (by decide) e29) (lw_x7_is_ q577) rfl rfl nn_x7_is ⟨Nat.le_of_ble_eq_true rfl, Nat.le_of_ble_eq_true rfl⟩ ⟨Nat.zero_le _, Nat.zero_le _⟩ (by decide) rfl (xs_dyn hu1) rfl rfl (Nat.le_of_ble_eq_true rfl) dX7_asked_120 rfl ?_
                    refine gz_if_eq (tgt := 130) hX dX7_asked_123 (by decide) (fun c30 => ?_) (fun c30 => ?_)
                    · have h := gz_ifp c30 h
                      refine gz_aload_n (q := 0) hX dX7_asked_130 rfl rfl ?_
                      refine gs_ldc (i := 17) hX (by decide) rfl dX7_asked_131 ?_
                      obtain ⟨r31, e32, h⟩ := gz_bd_o h
                      refine gu_callV (ci := 7) (n := u1) (As := [.ref (gx_C X (2000 + 17))]) hX (c_x7_is hu1 (by decide) e32) (lw_x7_is_ q577) rfl rfl nn_x7_is ⟨Nat.le_of_ble_eq_true rfl, Nat.le_of_ble_eq_true rfl⟩ ⟨Nat.zero_le _, Nat.zero_le _⟩ (by decide) rfl (xs_dyn hu1) rfl rfl (Nat.le_of_ble_eq_true rfl) dX7_asked_133 rfl ?_
                      refine gz_if_eq (tgt := 145) hX dX7_asked_136 (by decide) (fun c33 => ?_) (fun c33 => ?_)
                      · have h := gz_ifp c33 h
                        refine gz_iconst (v := 1) hX dX7_asked_145 gl_c_1 ?_
                        exact gu_iret hX hZ hF rfl rfl (gz_in1 h) dX7_asked_146
                      · have h := gz_ifn c33 h
                        refine gz_sipush (v := 190) hX dX7_asked_139 gl_s_190 ?_
                        refine gz_goto (tgt := 146) hX dX7_asked_142 (by decide) ?_
                        exact gu_iret hX hZ hF rfl rfl (gz_in1 h) dX7_asked_146
                    · have h := gz_ifn c30 h
                      refine gz_sipush (v := 189) hX dX7_asked_126 gl_s_189 ?_
                      exact gu_iret hX hZ hF rfl rfl (gz_in1 h) dX7_asked_129
                  · have h := gz_ifn c27 h
                    refine gz_sipush (v := 188) hX dX7_asked_113 gl_s_188 ?_
                    exact gu_iret hX hZ hF rfl rfl (gz_in1 h) dX7_asked_116
                · have h := gz_ifn c24 h
                  refine gz_sipush (v := 187) hX dX7_asked_100 gl_s_187 ?_
                  exact gu_iret hX hZ hF rfl rfl (gz_in1 h) dX7_asked_103
              · have h := gz_ifn c21 h
                refine gz_sipush (v := 186) hX dX7_asked_87 gl_s_186 ?_
                exact gu_iret hX hZ hF rfl rfl (gz_in1 h) dX7_asked_90
            · have h := gz_ifn c18 h
              refine gz_sipush (v := 185) hX dX7_asked_74 gl_s_185 ?_
              exact gu_iret hX hZ hF rfl rfl (gz_in1 h) dX7_asked_77
          · have h := gz_ifn c15 h
            refine gz_sipush (v := 184) hX dX7_asked_61 gl_s_184 ?_
            exact gu_iret hX hZ hF rfl rfl (gz_in1 h) dX7_asked_64
        · have h := gz_ifn c12 h
          refine gz_sipush (v := 183) hX dX7_asked_48 gl_s_183 ?_
          exact gu_iret hX hZ hF rfl rfl (gz_in1 h) dX7_asked_51
      · have h := gz_ifn c9 h
        refine gz_sipush (v := 182) hX dX7_asked_35 gl_s_182 ?_
        exact gu_iret hX hZ hF rfl rfl (gz_in1 h) dX7_asked_38
    · have h := gz_ifn c6 h
      refine gz_sipush (v := 181) hX dX7_asked_22 gl_s_181 ?_
      exact gu_iret hX hZ hF rfl rfl (gz_in1 h) dX7_asked_25
  · have h := gz_ifn c3 h
    refine gz_sipush (v := 180) hX dX7_asked_9 gl_s_180 ?_
    exact gu_iret hX hZ hF rfl rfl (gz_in1 h) dX7_asked_12
theorem lw_x7_asked_ {o : String} {i : Nat} (hl : Cond.methodLink o i yX7_asked ∈ lw_all) : GoodIn lw_all (wsV o i RX7 yX7_asked (ws_ yX7_asked cX7_asked 1 (some .int))) := lw_V hl q637 qs8 q157 q638
theorem nn_x7_asked : yX7_asked.cls = RX7 ∧ yX7_asked.cls ≠ "java/lang/invoke/MethodHandle" ∧ yX7_asked.cls ≠ "java/lang/invoke/VarHandle" ∧ (parseMethodDescriptor yX7_asked.desc).map (fun d => d.parameters.length) = some 0 := by decide +kernel
theorem gl_b_13 : (Int8.ofInt 13).toInt32 = 13 := by decide
theorem gl_b_14 : (Int8.ofInt 14).toInt32 = 14 := by decide
def rm_x7_fairWord : Room := { frames := 5, cells := 0, slots := 0, locals := 108 }
noncomputable def x7_fairWord (Ds : gz_S) (Df : gz_R) (V : gz_V) (u1 : gz_N) : Option (Int32) := gz_bd (x7_is Ds Df V u1 18) (fun r1 => (if r1 = 0 then gz_bd (x7_is Ds Df V u1 19) (fun r4 => (if r4 = 0 then gz_bd (x7_is Ds Df V u1 20) (fun r7 => (if r7 = 0 then gz_bd (x7_is Ds Df V u1 21) (fun r10 => (if r10 = 0 then gz_bd (x7_is Ds Df V u1 10) (fun r13 => (if r13 = 0 then some 1 else some 14)) else some 13)) else some 12)) else some 11)) else some 10))
theorem c_x7_fairWord {l : Launch} {D : va_G} {aC : Nat → ClassId} {ad : gz_A0} {Ds : gz_S} {Df : gz_R} {V : gz_V} {u1 : gz_N} {r : Int32} (hu1 : 90 ≤ u1.1 ∧ Ds u1 = some (7, 9)) (h : x7_fairWord Ds Df V u1 = some r) : gz_Met l yX7_fairWord cX7_fairWord 1 (some .int) rm_x7_fairWord D aC ad (xw_s Ds) V (xw_c Df) [.ref (ad u1)] (gz_F1 (xw_s Ds) (xw_c Df) ad V (some (.int r))) 0 0 := by
  refine gu_ofW (own := RX7) (mn := "fairWord") (lv := [(0, .ref (ad u1))]) (by decide) rfl rfl (Nat.le_of_ble_eq_true rfl) rfl ?_
  intro X hX hZ hF
  rw [x7_fairWord] at h
  refine gz_aload_n (q := 0) hX dX7_fairWord_0 rfl rfl ?_
  refine gs_ldc (i := 18) hX (by decide) rfl dX7_fairWord_1 ?_
  obtain ⟨r1, e2, h⟩ := gz_bd_o h
  refine gu_callV (ci := 7) (n := u1) (As := [.ref (gx_C X (2000 + 18))]) hX (c_x7_is hu1 (by decide) e2) (lw_x7_is_ q577) rfl rfl nn_x7_is ⟨Nat.le_of_ble_eq_true rfl, Nat.le_of_ble_eq_true rfl⟩ ⟨Nat.zero_le _, Nat.zero_le _⟩ (by decide) rfl (xs_dyn hu1) rfl rfl (Nat.le_of_ble_eq_true rfl) dX7_fairWord_3 rfl ?_
  refine gz_if_eq (tgt := 12) hX dX7_fairWord_6 (by decide) (fun c3 => ?_) (fun c3 => ?_)
  · have h := gz_ifp c3 h
    refine gz_aload_n (q := 0) hX dX7_fairWord_12 rfl rfl ?_
    refine gs_ldc (i := 19) hX (by decide) rfl dX7_fairWord_13 ?_
    obtain ⟨r4, e5, h⟩ := gz_bd_o h
    refine gu_callV (ci := 7) (n := u1) (As := [.ref (gx_C X (2000 + 19))]) hX (c_x7_is hu1 (by decide) e5) (lw_x7_is_ q577) rfl rfl nn_x7_is ⟨Nat.le_of_ble_eq_true rfl, Nat.le_of_ble_eq_true rfl⟩ ⟨Nat.zero_le _, Nat.zero_le _⟩ (by decide) rfl (xs_dyn hu1) rfl rfl (Nat.le_of_ble_eq_true rfl) dX7_fairWord_15 rfl ?_
    refine gz_if_eq (tgt := 24) hX dX7_fairWord_18 (by decide) (fun c6 => ?_) (fun c6 => ?_)
    · have h := gz_ifp c6 h
      refine gz_aload_n (q := 0) hX dX7_fairWord_24 rfl rfl ?_
      refine gs_ldc (i := 20) hX (by decide) rfl dX7_fairWord_25 ?_
      obtain ⟨r7, e8, h⟩ := gz_bd_o h
      refine gu_callV (ci := 7) (n := u1) (As := [.ref (gx_C X (2000 + 20))]) hX (c_x7_is hu1 (by decide) e8) (lw_x7_is_ q577) rfl rfl nn_x7_is ⟨Nat.le_of_ble_eq_true rfl, Nat.le_of_ble_eq_true rfl⟩ ⟨Nat.zero_le _, Nat.zero_le _⟩ (by decide) rfl (xs_dyn hu1) rfl rfl (Nat.le_of_ble_eq_true rfl) dX7_fairWord_27 rfl ?_
      refine gz_if_eq (tgt := 36) hX dX7_fairWord_30 (by decide) (fun c9 => ?_) (fun c9 => ?_)
      · have h := gz_ifp c9 h
        refine gz_aload_n (q := 0) hX dX7_fairWord_36 rfl rfl ?_
        refine gs_ldc (i := 21) hX (by decide) rfl dX7_fairWord_37 ?_
        obtain ⟨r10, e11, h⟩ := gz_bd_o h
        refine gu_callV (ci := 7) (n := u1) (As := [.ref (gx_C X (2000 + 21))]) hX (c_x7_is hu1 (by decide) e11) (lw_x7_is_ q577) rfl rfl nn_x7_is ⟨Nat.le_of_ble_eq_true rfl, Nat.le_of_ble_eq_true rfl⟩ ⟨Nat.zero_le _, Nat.zero_le _⟩ (by decide) rfl (xs_dyn hu1) rfl rfl (Nat.le_of_ble_eq_true rfl) dX7_fairWord_39 rfl ?_
        refine gz_if_eq (tgt := 48) hX dX7_fairWord_42 (by decide) (fun c12 => ?_) (fun c12 => ?_)
        · have h := gz_ifp c12 h
          refine gz_aload_n (q := 0) hX dX7_fairWord_48 rfl rfl ?_
          refine gs_ldc (i := 10) hX (by decide) rfl dX7_fairWord_49 ?_
          obtain ⟨r13, e14, h⟩ := gz_bd_o h
          refine gu_callV (ci := 7) (n := u1) (As := [.ref (gx_C X (2000 + 10))]) hX (c_x7_is hu1 (by decide) e14) (lw_x7_is_ q577) rfl rfl nn_x7_is ⟨Nat.le_of_ble_eq_true rfl, Nat.le_of_ble_eq_true rfl⟩ ⟨Nat.zero_le _, Nat.zero_le _⟩ (by decide) rfl (xs_dyn hu1) rfl rfl (Nat.le_of_ble_eq_true rfl) dX7_fairWord_51 rfl ?_
          refine gz_if_eq (tgt := 62) hX dX7_fairWord_54 (by decide) (fun c15 => ?_) (fun c15 => ?_)
          · have h := gz_ifp c15 h
            refine gz_iconst (v := 1) hX dX7_fairWord_62 gl_c_1 ?_
            exact gu_iret hX hZ hF rfl rfl (gz_in1 h) dX7_fairWord_63
          · have h := gz_ifn c15 h
            refine gz_bipush (v := 14) hX dX7_fairWord_57 gl_b_14 ?_
            refine gz_goto (tgt := 63) hX dX7_fairWord_59 (by decide) ?_
            exact gu_iret hX hZ hF rfl rfl (gz_in1 h) dX7_fairWord_63
        · have h := gz_ifn c12 h
          refine gz_bipush (v := 13) hX dX7_fairWord_45 gl_b_13 ?_
          exact gu_iret hX hZ hF rfl rfl (gz_in1 h) dX7_fairWord_47
      · have h := gz_ifn c9 h
        refine gz_bipush (v := 12) hX dX7_fairWord_33 gl_b_12 ?_
        exact gu_iret hX hZ hF rfl rfl (gz_in1 h) dX7_fairWord_35
    · have h := gz_ifn c6 h
      refine gz_bipush (v := 11) hX dX7_fairWord_21 gl_b_11 ?_
      exact gu_iret hX hZ hF rfl rfl (gz_in1 h) dX7_fairWord_23
  · have h := gz_ifn c3 h
    refine gz_bipush (v := 10) hX dX7_fairWord_9 gl_b_10 ?_
    exact gu_iret hX hZ hF rfl rfl (gz_in1 h) dX7_fairWord_11
theorem lw_x7_fairWord_ {o : String} {i : Nat} (hl : Cond.methodLink o i yX7_fairWord ∈ lw_all) : GoodIn lw_all (wsV o i RX7 yX7_fairWord (ws_ yX7_fairWord cX7_fairWord 1 (some .int))) := lw_V hl q652 qs9 q157 q653
theorem nn_x7_fairWord : yX7_fairWord.cls = RX7 ∧ yX7_fairWord.cls ≠ "java/lang/invoke/MethodHandle" ∧ yX7_fairWord.cls ≠ "java/lang/invoke/VarHandle" ∧ (parseMethodDescriptor yX7_fairWord.desc).map (fun d => d.parameters.length) = some 0 := by decide +kernel
theorem gl_b_15 : (Int8.ofInt 15).toInt32 = 15 := by decide
theorem gl_b_17 : (Int8.ofInt 17).toInt32 = 17 := by decide
theorem gl_b_18 : (Int8.ofInt 18).toInt32 = 18 := by decide
theorem gl_b_19 : (Int8.ofInt 19).toInt32 = 19 := by decide
def rm_x7_habitWord : Room := { frames := 5, cells := 0, slots := 0, locals := 108 }
noncomputable def x7_habitWord (Ds : gz_S) (Df : gz_R) (V : gz_V) (u1 : gz_N) : Option (Int32) := gz_bd (x7_is Ds Df V u1 18) (fun r1 => (if r1 = 0 then gz_bd (x7_is Ds Df V u1 22) (fun r4 => (if r4 = 0 then gz_bd (x7_is Ds Df V u1 23) (fun r7 => (if r7 = 0 then gz_bd (x7_is Ds Df V u1 24) (fun r10 => (if r10 = 0 then gz_bd (x7_is Ds Df V u1 25) (fun r13 => (if r13 = 0 then gz_bd (x7_is Ds Df V u1 26) (fun r16 => (if r16 = 0 then some 1 else some 19)) else some 18)) else some 17)) else some 16)) else some 15)) else some 10))
theorem c_x7_habitWord {l : Launch} {D : va_G} {aC : Nat → ClassId} {ad : gz_A0} {Ds : gz_S} {Df : gz_R} {V : gz_V} {u1 : gz_N} {r : Int32} (hu1 : 90 ≤ u1.1 ∧ Ds u1 = some (7, 9)) (h : x7_habitWord Ds Df V u1 = some r) : gz_Met l yX7_habitWord cX7_habitWord 1 (some .int) rm_x7_habitWord D aC ad (xw_s Ds) V (xw_c Df) [.ref (ad u1)] (gz_F1 (xw_s Ds) (xw_c Df) ad V (some (.int r))) 0 0 := by
  refine gu_ofW (own := RX7) (mn := "habitWord") (lv := [(0, .ref (ad u1))]) (by decide) rfl rfl (Nat.le_of_ble_eq_true rfl) rfl ?_
  intro X hX hZ hF
  rw [x7_habitWord] at h
  refine gz_aload_n (q := 0) hX dX7_habitWord_0 rfl rfl ?_
  refine gs_ldc (i := 18) hX (by decide) rfl dX7_habitWord_1 ?_
  obtain ⟨r1, e2, h⟩ := gz_bd_o h
  refine gu_callV (ci := 7) (n := u1) (As := [.ref (gx_C X (2000 + 18))]) hX (c_x7_is hu1 (by decide) e2) (lw_x7_is_ q577) rfl rfl nn_x7_is ⟨Nat.le_of_ble_eq_true rfl, Nat.le_of_ble_eq_true rfl⟩ ⟨Nat.zero_le _, Nat.zero_le _⟩ (by decide) rfl (xs_dyn hu1) rfl rfl (Nat.le_of_ble_eq_true rfl) dX7_habitWord_3 rfl ?_
  refine gz_if_eq (tgt := 12) hX dX7_habitWord_6 (by decide) (fun c3 => ?_) (fun c3 => ?_)
  · have h := gz_ifp c3 h
    refine gz_aload_n (q := 0) hX dX7_habitWord_12 rfl rfl ?_
    refine gs_ldc (i := 22) hX (by decide) rfl dX7_habitWord_13 ?_
    obtain ⟨r4, e5, h⟩ := gz_bd_o h
    refine gu_callV (ci := 7) (n := u1) (As := [.ref (gx_C X (2000 + 22))]) hX (c_x7_is hu1 (by decide) e5) (lw_x7_is_ q577) rfl rfl nn_x7_is ⟨Nat.le_of_ble_eq_true rfl, Nat.le_of_ble_eq_true rfl⟩ ⟨Nat.zero_le _, Nat.zero_le _⟩ (by decide) rfl (xs_dyn hu1) rfl rfl (Nat.le_of_ble_eq_true rfl) dX7_habitWord_15 rfl ?_
    refine gz_if_eq (tgt := 24) hX dX7_habitWord_18 (by decide) (fun c6 => ?_) (fun c6 => ?_)
    · have h := gz_ifp c6 h
      refine gz_aload_n (q := 0) hX dX7_habitWord_24 rfl rfl ?_
      refine gs_ldc (i := 23) hX (by decide) rfl dX7_habitWord_25 ?_
      obtain ⟨r7, e8, h⟩ := gz_bd_o h
      refine gu_callV (ci := 7) (n := u1) (As := [.ref (gx_C X (2000 + 23))]) hX (c_x7_is hu1 (by decide) e8) (lw_x7_is_ q577) rfl rfl nn_x7_is ⟨Nat.le_of_ble_eq_true rfl, Nat.le_of_ble_eq_true rfl⟩ ⟨Nat.zero_le _, Nat.zero_le _⟩ (by decide) rfl (xs_dyn hu1) rfl rfl (Nat.le_of_ble_eq_true rfl) dX7_habitWord_27 rfl ?_
      refine gz_if_eq (tgt := 36) hX dX7_habitWord_30 (by decide) (fun c9 => ?_) (fun c9 => ?_)
      · have h := gz_ifp c9 h
        refine gz_aload_n (q := 0) hX dX7_habitWord_36 rfl rfl ?_
        refine gs_ldc (i := 24) hX (by decide) rfl dX7_habitWord_37 ?_
        obtain ⟨r10, e11, h⟩ := gz_bd_o h
        refine gu_callV (ci := 7) (n := u1) (As := [.ref (gx_C X (2000 + 24))]) hX (c_x7_is hu1 (by decide) e11) (lw_x7_is_ q577) rfl rfl nn_x7_is ⟨Nat.le_of_ble_eq_true rfl, Nat.le_of_ble_eq_true rfl⟩ ⟨Nat.zero_le _, Nat.zero_le _⟩ (by decide) rfl (xs_dyn hu1) rfl rfl (Nat.le_of_ble_eq_true rfl) dX7_habitWord_39 rfl ?_
        refine gz_if_eq (tgt := 48) hX dX7_habitWord_42 (by decide) (fun c12 => ?_) (fun c12 => ?_)
        · have h := gz_ifp c12 h
          refine gz_aload_n (q := 0) hX dX7_habitWord_48 rfl rfl ?_
          refine gs_ldc (i := 25) hX (by decide) rfl dX7_habitWord_49 ?_
          obtain ⟨r13, e14, h⟩ := gz_bd_o h
          refine gu_callV (ci := 7) (n := u1) (As := [.ref (gx_C X (2000 + 25))]) hX (c_x7_is hu1 (by decide) e14) (lw_x7_is_ q577) rfl rfl nn_x7_is ⟨Nat.le_of_ble_eq_true rfl, Nat.le_of_ble_eq_true rfl⟩ ⟨Nat.zero_le _, Nat.zero_le _⟩ (by decide) rfl (xs_dyn hu1) rfl rfl (Nat.le_of_ble_eq_true rfl) dX7_habitWord_51 rfl ?_
          refine gz_if_eq (tgt := 60) hX dX7_habitWord_54 (by decide) (fun c15 => ?_) (fun c15 => ?_)
          · have h := gz_ifp c15 h
            refine gz_aload_n (q := 0) hX dX7_habitWord_60 rfl rfl ?_
            refine gs_ldc (i := 26) hX (by decide) rfl dX7_habitWord_61 ?_
            obtain ⟨r16, e17, h⟩ := gz_bd_o h
            refine gu_callV (ci := 7) (n := u1) (As := [.ref (gx_C X (2000 + 26))]) hX (c_x7_is hu1 (by decide) e17) (lw_x7_is_ q577) rfl rfl nn_x7_is ⟨Nat.le_of_ble_eq_true rfl, Nat.le_of_ble_eq_true rfl⟩ ⟨Nat.zero_le _, Nat.zero_le _⟩ (by decide) rfl (xs_dyn hu1) rfl rfl (Nat.le_of_ble_eq_true rfl) dX7_habitWord_63 rfl ?_
            refine gz_if_eq (tgt := 74) hX dX7_habitWord_66 (by decide) (fun c18 => ?_) (fun c18 => ?_)
            · have h := gz_ifp c18 h
              refine gz_iconst (v := 1) hX dX7_habitWord_74 gl_c_1 ?_
              exact gu_iret hX hZ hF rfl rfl (gz_in1 h) dX7_habitWord_75
            · have h := gz_ifn c18 h
              refine gz_bipush (v := 19) hX dX7_habitWord_69 gl_b_19 ?_
              refine gz_goto (tgt := 75) hX dX7_habitWord_71 (by decide) ?_
              exact gu_iret hX hZ hF rfl rfl (gz_in1 h) dX7_habitWord_75
          · have h := gz_ifn c15 h
            refine gz_bipush (v := 18) hX dX7_habitWord_57 gl_b_18 ?_
            exact gu_iret hX hZ hF rfl rfl (gz_in1 h) dX7_habitWord_59
        · have h := gz_ifn c12 h
          refine gz_bipush (v := 17) hX dX7_habitWord_45 gl_b_17 ?_
          exact gu_iret hX hZ hF rfl rfl (gz_in1 h) dX7_habitWord_47
      · have h := gz_ifn c9 h
        refine gz_bipush (v := 16) hX dX7_habitWord_33 gl_b_16 ?_
        exact gu_iret hX hZ hF rfl rfl (gz_in1 h) dX7_habitWord_35
    · have h := gz_ifn c6 h
      refine gz_bipush (v := 15) hX dX7_habitWord_21 gl_b_15 ?_
      exact gu_iret hX hZ hF rfl rfl (gz_in1 h) dX7_habitWord_23
  · have h := gz_ifn c3 h
    refine gz_bipush (v := 10) hX dX7_habitWord_9 gl_b_10 ?_
    exact gu_iret hX hZ hF rfl rfl (gz_in1 h) dX7_habitWord_11
theorem lw_x7_habitWord_ {o : String} {i : Nat} (hl : Cond.methodLink o i yX7_habitWord ∈ lw_all) : GoodIn lw_all (wsV o i RX7 yX7_habitWord (ws_ yX7_habitWord cX7_habitWord 1 (some .int))) := lw_V hl q660 qs10 q157 q661
theorem nn_x7_habitWord : yX7_habitWord.cls = RX7 ∧ yX7_habitWord.cls ≠ "java/lang/invoke/MethodHandle" ∧ yX7_habitWord.cls ≠ "java/lang/invoke/VarHandle" ∧ (parseMethodDescriptor yX7_habitWord.desc).map (fun d => d.parameters.length) = some 0 := by decide +kernel
def rm_x7_lawWord : Room := { frames := 6, cells := 0, slots := 0, locals := 128 }
noncomputable def x7_lawWord (Ds : gz_S) (Df : gz_R) (V : gz_V) (u1 : gz_N) : Option (Int32) := gz_bd (x7_is Ds Df V u1 0) (fun r1 => (if r1 = 0 then gz_bd (x7_is Ds Df V u1 1) (fun r4 => (if r4 = 0 then gz_bd (x7_is Ds Df V u1 2) (fun r7 => (if r7 = 0 then gz_bd (x7_is Ds Df V u1 3) (fun r10 => (if r10 = 0 then gz_bd (x7_is Ds Df V u1 4) (fun r13 => (if r13 = 0 then gz_bd (x7_is Ds Df V u1 5) (fun r16 => (if r16 = 0 then gz_bd (x7_is Ds Df V u1 6) (fun r19 => (if r19 = 0 then gz_bd (x7_asked Ds Df V u1) (fun r22 => some r22) else some 9)) else some 8)) else some 7)) else some 6)) else some 5)) else some 4)) else some 3))
theorem c_x7_lawWord {l : Launch} {D : va_G} {aC : Nat → ClassId} {ad : gz_A0} {Ds : gz_S} {Df : gz_R} {V : gz_V} {u1 : gz_N} {r : Int32} (hu1 : 90 ≤ u1.1 ∧ Ds u1 = some (7, 9)) (h : x7_lawWord Ds Df V u1 = some r) : gz_Met l yX7_lawWord cX7_lawWord 1 (some .int) rm_x7_lawWord D aC ad (xw_s Ds) V (xw_c Df) [.ref (ad u1)] (gz_F1 (xw_s Ds) (xw_c Df) ad V (some (.int r))) 0 0 := by
  refine gu_ofW (own := RX7) (mn := "lawWord") (lv := [(0, .ref (ad u1))]) (by decide) rfl rfl (Nat.le_of_ble_eq_true rfl) rfl ?_
  intro X hX hZ hF
  rw [x7_lawWord] at h
  refine gz_aload_n (q := 0) hX dX7_lawWord_0 rfl rfl ?_
  refine gs_ldc (i := 0) hX (by decide) rfl dX7_lawWord_1 ?_
  obtain ⟨r1, e2, h⟩ := gz_bd_o h
  refine gu_callV (ci := 7) (n := u1) (As := [.ref (gx_C X (2000 + 0))]) hX (c_x7_is hu1 (by decide) e2) (lw_x7_is_ q577) rfl rfl nn_x7_is ⟨Nat.le_of_ble_eq_true rfl, Nat.le_of_ble_eq_true rfl⟩ ⟨Nat.zero_le _, Nat.zero_le _⟩ (by decide) rfl (xs_dyn hu1) rfl rfl (Nat.le_of_ble_eq_true rfl) dX7_lawWord_3 rfl ?_
  refine gz_if_eq (tgt := 11) hX dX7_lawWord_6 (by decide) (fun c3 => ?_) (fun c3 => ?_)
  · have h := gz_ifp c3 h
    refine gz_aload_n (q := 0) hX dX7_lawWord_11 rfl rfl ?_
    refine gs_ldc (i := 1) hX (by decide) rfl dX7_lawWord_12 ?_
    obtain ⟨r4, e5, h⟩ := gz_bd_o h
    refine gu_callV (ci := 7) (n := u1) (As := [.ref (gx_C X (2000 + 1))]) hX (c_x7_is hu1 (by decide) e5) (lw_x7_is_ q577) rfl rfl nn_x7_is ⟨Nat.le_of_ble_eq_true rfl, Nat.le_of_ble_eq_true rfl⟩ ⟨Nat.zero_le _, Nat.zero_le _⟩ (by decide) rfl (xs_dyn hu1) rfl rfl (Nat.le_of_ble_eq_true rfl) dX7_lawWord_14 rfl ?_
    refine gz_if_eq (tgt := 22) hX dX7_lawWord_17 (by decide) (fun c6 => ?_) (fun c6 => ?_)
    · have h := gz_ifp c6 h
      refine gz_aload_n (q := 0) hX dX7_lawWord_22 rfl rfl ?_
      refine gs_ldc (i := 2) hX (by decide) rfl dX7_lawWord_23 ?_
      obtain ⟨r7, e8, h⟩ := gz_bd_o h
      refine gu_callV (ci := 7) (n := u1) (As := [.ref (gx_C X (2000 + 2))]) hX (c_x7_is hu1 (by decide) e8) (lw_x7_is_ q577) rfl rfl nn_x7_is ⟨Nat.le_of_ble_eq_true rfl, Nat.le_of_ble_eq_true rfl⟩ ⟨Nat.zero_le _, Nat.zero_le _⟩ (by decide) rfl (xs_dyn hu1) rfl rfl (Nat.le_of_ble_eq_true rfl) dX7_lawWord_25 rfl ?_
      refine gz_if_eq (tgt := 33) hX dX7_lawWord_28 (by decide) (fun c9 => ?_) (fun c9 => ?_)
      · have h := gz_ifp c9 h
        refine gz_aload_n (q := 0) hX dX7_lawWord_33 rfl rfl ?_
        refine gs_ldc (i := 3) hX (by decide) rfl dX7_lawWord_34 ?_
        obtain ⟨r10, e11, h⟩ := gz_bd_o h
        refine gu_callV (ci := 7) (n := u1) (As := [.ref (gx_C X (2000 + 3))]) hX (c_x7_is hu1 (by decide) e11) (lw_x7_is_ q577) rfl rfl nn_x7_is ⟨Nat.le_of_ble_eq_true rfl, Nat.le_of_ble_eq_true rfl⟩ ⟨Nat.zero_le _, Nat.zero_le _⟩ (by decide) rfl (xs_dyn hu1) rfl rfl (Nat.le_of_ble_eq_true rfl) dX7_lawWord_36 rfl ?_
        refine gz_if_eq (tgt := 45) hX dX7_lawWord_39 (by decide) (fun c12 => ?_) (fun c12 => ?_)
        · have h := gz_ifp c12 h
          refine gz_aload_n (q := 0) hX dX7_lawWord_45 rfl rfl ?_
          refine gs_ldc (i := 4) hX (by decide) rfl dX7_lawWord_46 ?_
          obtain ⟨r13, e14, h⟩ := gz_bd_o h
          refine gu_callV (ci := 7) (n := u1) (As := [.ref (gx_C X (2000 + 4))]) hX (c_x7_is hu1 (by decide) e14) (lw_x7_is_ q577) rfl rfl nn_x7_is ⟨Nat.le_of_ble_eq_true rfl, Nat.le_of_ble_eq_true rfl⟩ ⟨Nat.zero_le _, Nat.zero_le _⟩ (by decide) rfl (xs_dyn hu1) rfl rfl (Nat.le_of_ble_eq_true rfl) dX7_lawWord_48 rfl ?_
          refine gz_if_eq (tgt := 57) hX dX7_lawWord_51 (by decide) (fun c15 => ?_) (fun c15 => ?_)
          · have h := gz_ifp c15 h
            refine gz_aload_n (q := 0) hX dX7_lawWord_57 rfl rfl ?_
            refine gs_ldc (i := 5) hX (by decide) rfl dX7_lawWord_58 ?_
            obtain ⟨r16, e17, h⟩ := gz_bd_o h
            refine gu_callV (ci := 7) (n := u1) (As := [.ref (gx_C X (2000 + 5))]) hX (c_x7_is hu1 (by decide) e17) (lw_x7_is_ q577) rfl rfl nn_x7_is ⟨Nat.le_of_ble_eq_true rfl, Nat.le_of_ble_eq_true rfl⟩ ⟨Nat.zero_le _, Nat.zero_le _⟩ (by decide) rfl (xs_dyn hu1) rfl rfl (Nat.le_of_ble_eq_true rfl) dX7_lawWord_60 rfl ?_
            refine gz_if_eq (tgt := 69) hX dX7_lawWord_63 (by decide) (fun c18 => ?_) (fun c18 => ?_)
            · have h := gz_ifp c18 h
              refine gz_aload_n (q := 0) hX dX7_lawWord_69 rfl rfl ?_
              refine gs_ldc (i := 6) hX (by decide) rfl dX7_lawWord_70 ?_
              obtain ⟨r19, e20, h⟩ := gz_bd_o h
              refine gu_callV (ci := 7) (n := u1) (As := [.ref (gx_C X (2000 + 6))]) hX (c_x7_is hu1 (by decide) e20) (lw_x7_is_ q577) rfl rfl nn_x7_is ⟨Nat.le_of_ble_eq_true rfl, Nat.le_of_ble_eq_true rfl⟩ ⟨Nat.zero_le _, Nat.zero_le _⟩ (by decide) rfl (xs_dyn hu1) rfl rfl (Nat.le_of_ble_eq_true rfl) dX7_lawWord_72 rfl ?_
              refine gz_if_eq (tgt := 83) hX dX7_lawWord_75 (by decide) (fun c21 => ?_) (fun c21 => ?_)
              · have h := gz_ifp c21 h
                refine gz_aload_n (q := 0) hX dX7_lawWord_83 rfl rfl ?_
                obtain ⟨r22, e23, h⟩ := gz_bd_o h
                refine gu_callV (ci := 7) (n := u1) (As := []) hX (c_x7_asked hu1 e23) (lw_x7_asked_ q635) rfl rfl nn_x7_asked ⟨Nat.le_of_ble_eq_true rfl, Nat.le_of_ble_eq_true rfl⟩ ⟨Nat.zero_le _, Nat.zero_le _⟩ (by decide) rfl (xs_dyn hu1) rfl rfl (Nat.le_of_ble_eq_true rfl) dX7_lawWord_84 rfl ?_
                exact gu_iret hX hZ hF rfl rfl (gz_in1 h) dX7_lawWord_87
              · have h := gz_ifn c21 h
                refine gz_bipush (v := 9) hX dX7_lawWord_78 gl_b_9 ?_
                refine gz_goto (tgt := 87) hX dX7_lawWord_80 (by decide) ?_
                exact gu_iret hX hZ hF rfl rfl (gz_in1 h) dX7_lawWord_87
            · have h := gz_ifn c18 h
              refine gz_bipush (v := 8) hX dX7_lawWord_66 gl_b_8 ?_
              exact gu_iret hX hZ hF rfl rfl (gz_in1 h) dX7_lawWord_68
          · have h := gz_ifn c15 h
            refine gz_bipush (v := 7) hX dX7_lawWord_54 gl_b_7 ?_
            exact gu_iret hX hZ hF rfl rfl (gz_in1 h) dX7_lawWord_56
        · have h := gz_ifn c12 h
          refine gz_bipush (v := 6) hX dX7_lawWord_42 gl_b_6 ?_
          exact gu_iret hX hZ hF rfl rfl (gz_in1 h) dX7_lawWord_44
      · have h := gz_ifn c9 h
        refine gz_iconst (v := 5) hX dX7_lawWord_31 gl_c_5 ?_
        exact gu_iret hX hZ hF rfl rfl (gz_in1 h) dX7_lawWord_32
    · have h := gz_ifn c6 h
      refine gz_iconst (v := 4) hX dX7_lawWord_20 gl_c_4 ?_
      exact gu_iret hX hZ hF rfl rfl (gz_in1 h) dX7_lawWord_21
  · have h := gz_ifn c3 h
    refine gz_iconst (v := 3) hX dX7_lawWord_9 gl_c_3 ?_
    exact gu_iret hX hZ hF rfl rfl (gz_in1 h) dX7_lawWord_10
theorem lw_x7_lawWord_ {o : String} {i : Nat} (hl : Cond.methodLink o i yX7_lawWord ∈ lw_all) : GoodIn lw_all (wsV o i RX7 yX7_lawWord (ws_ yX7_lawWord cX7_lawWord 1 (some .int))) := lw_V hl q574 qs6 q157 q575
theorem nn_x7_lawWord : yX7_lawWord.cls = RX7 ∧ yX7_lawWord.cls ≠ "java/lang/invoke/MethodHandle" ∧ yX7_lawWord.cls ≠ "java/lang/invoke/VarHandle" ∧ (parseMethodDescriptor yX7_lawWord.desc).map (fun d => d.parameters.length) = some 0 := by decide +kernel
def rm_x7_keyword : Room := { frames := 7, cells := 0, slots := 0, locals := 148 }
noncomputable def x7_keyword (Ds : gz_S) (Df : gz_R) (V : gz_V) (u1 : gz_N) : Option (Int32) := (if (V u1 0) = 0 then gz_bd (x7_lawWord Ds Df V u1) (fun r2 => some r2) else if (V u1 0) = 1 then gz_bd (x7_fairWord Ds Df V u1) (fun r5 => some r5) else if (V u1 0) = 2 then gz_bd (x7_habitWord Ds Df V u1) (fun r8 => some r8) else gz_bd (x7_is Ds Df V u1 19) (fun r10 => (if r10 = 0 then gz_bd (x7_is Ds Df V u1 16) (fun r13 => (if r13 = 0 then some 1 else some 20)) else some 11)))
theorem c_x7_keyword {l : Launch} {D : va_G} {aC : Nat → ClassId} {ad : gz_A0} {Ds : gz_S} {Df : gz_R} {V : gz_V} {u1 : gz_N} {r : Int32} (hu1 : 90 ≤ u1.1 ∧ Ds u1 = some (7, 9)) (h : x7_keyword Ds Df V u1 = some r) : gz_Met l yX7_keyword cX7_keyword 1 (some .int) rm_x7_keyword D aC ad (xw_s Ds) V (xw_c Df) [.ref (ad u1)] (gz_F1 (xw_s Ds) (xw_c Df) ad V (some (.int r))) 0 0 := by
  refine gu_ofW (own := RX7) (mn := "keyword") (lv := [(0, .ref (ad u1))]) (by decide) rfl rfl (Nat.le_of_ble_eq_true rfl) rfl ?_
  intro X hX hZ hF
  rw [x7_keyword] at h
  refine gz_aload_n (q := 0) hX dX7_keyword_0 rfl rfl ?_
  refine xg_X7_19 hX (xs_dyn hu1) dX7_keyword_1 ?_
  by_cases c1 : (V u1 0) = 0
  · have h := gz_ifp c1 h
    refine gz_tableAt (v := 0) (tgt := 32) hX dX7_keyword_4 c1 (by decide) (by decide) rfl (by decide) ?_
    refine gz_aload_n (q := 0) hX dX7_keyword_32 rfl rfl ?_
    obtain ⟨r2, e3, h⟩ := gz_bd_o h
    refine gu_callV (ci := 7) (n := u1) (As := []) hX (c_x7_lawWord hu1 e3) (lw_x7_lawWord_ q572) rfl rfl nn_x7_lawWord ⟨Nat.le_of_ble_eq_true rfl, Nat.le_of_ble_eq_true rfl⟩ ⟨Nat.zero_le _, Nat.zero_le _⟩ (by decide) rfl (xs_dyn hu1) rfl rfl (Nat.le_of_ble_eq_true rfl) dX7_keyword_33 rfl ?_
    exact gu_iret hX hZ hF rfl rfl (gz_in1 h) dX7_keyword_36
  · have h := gz_ifn c1 h
    by_cases c4 : (V u1 0) = 1
    · have h := gz_ifp c4 h
      refine gz_tableAt (v := 1) (tgt := 37) hX dX7_keyword_4 c4 (by decide) (by decide) rfl (by decide) ?_
      refine gz_aload_n (q := 0) hX dX7_keyword_37 rfl rfl ?_
      obtain ⟨r5, e6, h⟩ := gz_bd_o h
      refine gu_callV (ci := 7) (n := u1) (As := []) hX (c_x7_fairWord hu1 e6) (lw_x7_fairWord_ q650) rfl rfl nn_x7_fairWord ⟨Nat.le_of_ble_eq_true rfl, Nat.le_of_ble_eq_true rfl⟩ ⟨Nat.zero_le _, Nat.zero_le _⟩ (by decide) rfl (xs_dyn hu1) rfl rfl (Nat.le_of_ble_eq_true rfl) dX7_keyword_38 rfl ?_
      exact gu_iret hX hZ hF rfl rfl (gz_in1 h) dX7_keyword_41
    · have h := gz_ifn c4 h
      by_cases c7 : (V u1 0) = 2
      · have h := gz_ifp c7 h
        refine gz_tableAt (v := 2) (tgt := 42) hX dX7_keyword_4 c7 (by decide) (by decide) rfl (by decide) ?_
        refine gz_aload_n (q := 0) hX dX7_keyword_42 rfl rfl ?_
        obtain ⟨r8, e9, h⟩ := gz_bd_o h
        refine gu_callV (ci := 7) (n := u1) (As := []) hX (c_x7_habitWord hu1 e9) (lw_x7_habitWord_ q658) rfl rfl nn_x7_habitWord ⟨Nat.le_of_ble_eq_true rfl, Nat.le_of_ble_eq_true rfl⟩ ⟨Nat.zero_le _, Nat.zero_le _⟩ (by decide) rfl (xs_dyn hu1) rfl rfl (Nat.le_of_ble_eq_true rfl) dX7_keyword_43 rfl ?_
        exact gu_iret hX hZ hF rfl rfl (gz_in1 h) dX7_keyword_46
      · have h := gz_ifn c7 h
        refine gz_tableOut (tgt := 47) hX dX7_keyword_4 (by have := lv_neT c1 (a := 0) rfl; have := lv_neT c4 (a := 1) rfl; have := lv_neT c7 (a := 2) rfl; omega) (by decide) ?_
        refine gz_aload_n (q := 0) hX dX7_keyword_47 rfl rfl ?_
        refine gs_ldc (i := 19) hX (by decide) rfl dX7_keyword_48 ?_
        obtain ⟨r10, e11, h⟩ := gz_bd_o h
        refine gu_callV (ci := 7) (n := u1) (As := [.ref (gx_C X (2000 + 19))]) hX (c_x7_is hu1 (by decide) e11) (lw_x7_is_ q577) rfl rfl nn_x7_is ⟨Nat.le_of_ble_eq_true rfl, Nat.le_of_ble_eq_true rfl⟩ ⟨Nat.zero_le _, Nat.zero_le _⟩ (by decide) rfl (xs_dyn hu1) rfl rfl (Nat.le_of_ble_eq_true rfl) dX7_keyword_50 rfl ?_
        refine gz_if_eq (tgt := 61) hX dX7_keyword_53 (by decide) (fun c12 => ?_) (fun c12 => ?_)
        · have h := gz_ifp c12 h
          refine gz_aload_n (q := 0) hX dX7_keyword_61 rfl rfl ?_
          refine gs_ldc (i := 16) hX (by decide) rfl dX7_keyword_62 ?_
          obtain ⟨r13, e14, h⟩ := gz_bd_o h
          refine gu_callV (ci := 7) (n := u1) (As := [.ref (gx_C X (2000 + 16))]) hX (c_x7_is hu1 (by decide) e14) (lw_x7_is_ q577) rfl rfl nn_x7_is ⟨Nat.le_of_ble_eq_true rfl, Nat.le_of_ble_eq_true rfl⟩ ⟨Nat.zero_le _, Nat.zero_le _⟩ (by decide) rfl (xs_dyn hu1) rfl rfl (Nat.le_of_ble_eq_true rfl) dX7_keyword_64 rfl ?_
          refine gz_if_eq (tgt := 75) hX dX7_keyword_67 (by decide) (fun c15 => ?_) (fun c15 => ?_)
          · have h := gz_ifp c15 h
            refine gz_iconst (v := 1) hX dX7_keyword_75 gl_c_1 ?_
            exact gu_iret hX hZ hF rfl rfl (gz_in1 h) dX7_keyword_76
          · have h := gz_ifn c15 h
            refine gz_bipush (v := 20) hX dX7_keyword_70 gl_b_20 ?_
            refine gz_goto (tgt := 76) hX dX7_keyword_72 (by decide) ?_
            exact gu_iret hX hZ hF rfl rfl (gz_in1 h) dX7_keyword_76
        · have h := gz_ifn c12 h
          refine gz_bipush (v := 11) hX dX7_keyword_56 gl_b_11 ?_
          refine gz_goto (tgt := 76) hX dX7_keyword_58 (by decide) ?_
          exact gu_iret hX hZ hF rfl rfl (gz_in1 h) dX7_keyword_76
theorem lw_x7_keyword_ {o : String} {i : Nat} (hl : Cond.methodLink o i yX7_keyword ∈ lw_all) : GoodIn lw_all (wsV o i RX7 yX7_keyword (ws_ yX7_keyword cX7_keyword 1 (some .int))) := lw_V hl q570 qs5 q157 q571
theorem nn_x7_keyword : yX7_keyword.cls = RX7 ∧ yX7_keyword.cls ≠ "java/lang/invoke/MethodHandle" ∧ yX7_keyword.cls ≠ "java/lang/invoke/VarHandle" ∧ (parseMethodDescriptor yX7_keyword.desc).map (fun d => d.parameters.length) = some 0 := by decide +kernel
def rm_x7_next : Room := { frames := 8, cells := 0, slots := 0, locals := 168 }
noncomputable def x7_next_L0 (N : Nat) (Ds : gz_S) (Df : gz_R) (u1 : gz_N) : Nat → gz_V → Option (gz_V)
  | 0, _ => none
  | n + 1, V => gz_bd (x7_see Ds Df V u1) (fun r1 => (if r1 = 32 then gz_let (gz_up V u1 2 ((V u1 2) + 1)) (fun V4 => x7_next_L0 N Ds Df u1 n V4) else gz_bd (x7_see Ds Df V u1) (fun r6 => (if r6 = 10 then gz_let (gz_up V u1 2 ((V u1 2) + 1)) (fun V9 => x7_next_L0 N Ds Df u1 n V9) else some V))))
theorem w_x7_next_L0 {X : gz_X} {ad : gz_A0} {N : Nat} {Ds : gz_S} {Df : gz_R} {u1 : gz_N} {W1 : gz_V} (hX : gz_ok X cX7_next RX7 "next" 1 rm_x7_next none) (hZ : gz_Z X) (hu1 : 90 ≤ u1.1 ∧ Ds u1 = some (7, 9)) (k : gW X 1 (xw_s Ds) (xw_c Df) ad W1 0 0 31 [(0, .ref (ad u1))] []) : ∀ (n : Nat) {V : gz_V}, x7_next_L0 N Ds Df u1 n V = some W1 → gW X 1 (xw_s Ds) (xw_c Df) ad V 0 0 0 [(0, .ref (ad u1))] [] := by
  intro n
  induction n with
  | zero => intro V h; rw [x7_next_L0] at h; cases h
  | succ n ih =>
    intro V h
    rw [x7_next_L0] at h
    refine gz_aload_n (q := 0) hX dX7_next_0 rfl rfl ?_
    obtain ⟨r1, e2, h⟩ := gz_bd_o h
    refine gu_callV (ci := 7) (n := u1) (As := []) hX (c_x7_see hu1 e2) (lw_x7_see_ q559) rfl rfl nn_x7_see ⟨Nat.le_of_ble_eq_true rfl, Nat.le_of_ble_eq_true rfl⟩ ⟨Nat.zero_le _, Nat.zero_le _⟩ (by decide) rfl (xs_dyn hu1) rfl rfl (Nat.le_of_ble_eq_true rfl) dX7_next_1 rfl ?_
    refine gz_bipush (v := 32) hX dX7_next_4 gl_b_32 ?_
    refine gz_icmp_eq (tgt := 18) hX dX7_next_6 (by decide) (fun c3 => ?_) (fun c3 => ?_)
    · have h := gz_ifp c3 h
      refine gz_aload_n (q := 0) hX dX7_next_18 rfl rfl ?_
      refine gz_dupa hX dX7_next_19 ?_
      refine xg_X7_23 hX (xs_dyn hu1) dX7_next_20 ?_
      refine gz_iconst (v := 1) hX dX7_next_23 gl_c_1 ?_
      refine gz_iadd hX dX7_next_24 ?_
      obtain ⟨V4, e5, h⟩ := gz_let_o h
      refine xp_X7_23 hX (xs_dyn hu1) (by have := (hu1).1; omega) dX7_next_25 e5 ?_
      refine gz_goto (tgt := 0) hX dX7_next_28 (by decide) ?_
      exact gz_lv [0] rfl (ih h)
    · have h := gz_ifn c3 h
      refine gz_aload_n (q := 0) hX dX7_next_9 rfl rfl ?_
      obtain ⟨r6, e7, h⟩ := gz_bd_o h
      refine gu_callV (ci := 7) (n := u1) (As := []) hX (c_x7_see hu1 e7) (lw_x7_see_ q559) rfl rfl nn_x7_see ⟨Nat.le_of_ble_eq_true rfl, Nat.le_of_ble_eq_true rfl⟩ ⟨Nat.zero_le _, Nat.zero_le _⟩ (by decide) rfl (xs_dyn hu1) rfl rfl (Nat.le_of_ble_eq_true rfl) dX7_next_10 rfl ?_
      refine gz_bipush (v := 10) hX dX7_next_13 gl_b_10 ?_
      refine gz_icmp_ne (tgt := 31) hX dX7_next_15 (by decide) (fun c8 => ?_) (fun c8 => ?_)
      · have h := gz_ifn c8 h
        obtain rfl := gz_in1 h
        exact gz_lv [0] rfl k
      · have h := gz_ifp c8 h
        refine gz_aload_n (q := 0) hX dX7_next_18 rfl rfl ?_
        refine gz_dupa hX dX7_next_19 ?_
        refine xg_X7_23 hX (xs_dyn hu1) dX7_next_20 ?_
        refine gz_iconst (v := 1) hX dX7_next_23 gl_c_1 ?_
        refine gz_iadd hX dX7_next_24 ?_
        obtain ⟨V9, e10, h⟩ := gz_let_o h
        refine xp_X7_23 hX (xs_dyn hu1) (by have := (hu1).1; omega) dX7_next_25 e10 ?_
        refine gz_goto (tgt := 0) hX dX7_next_28 (by decide) ?_
        exact gz_lv [0] rfl (ih h)
noncomputable def x7_next_L105 (N : Nat) (Ds : gz_S) (Df : gz_R) (u1 : gz_N) : Nat → gz_V → Option (gz_V)
  | 0, _ => none
  | n + 1, V => gz_bd (x7_isDigit Ds Df V u1) (fun r28 => (if r28 = 0 then some V else gz_bd (if ((V u1 3) + 4) ≤ (V u1 2) then some V else gz_bd (x7_see Ds Df V u1) (fun r35 => gz_let (gz_up V u1 5 (((10 * (V u1 5)) + r35) - 48)) (fun V37 => some V37))) (fun V31 => gz_let (gz_up V31 u1 2 ((V31 u1 2) + 1)) (fun V39 => x7_next_L105 N Ds Df u1 n V39))))
theorem w_x7_next_L105 {X : gz_X} {ad : gz_A0} {N : Nat} {Ds : gz_S} {Df : gz_R} {u1 : gz_N} {W1 : gz_V} (hX : gz_ok X cX7_next RX7 "next" 1 rm_x7_next none) (hZ : gz_Z X) (hu1 : 90 ≤ u1.1 ∧ Ds u1 = some (7, 9)) (k : gW X 1 (xw_s Ds) (xw_c Df) ad W1 0 0 157 [(0, .ref (ad u1))] []) : ∀ (n : Nat) {V : gz_V}, x7_next_L105 N Ds Df u1 n V = some W1 → gW X 1 (xw_s Ds) (xw_c Df) ad V 0 0 105 [(0, .ref (ad u1))] [] := by
  intro n
  induction n with
  | zero => intro V h; rw [x7_next_L105] at h; cases h
  | succ n ih =>
    intro V h
    rw [x7_next_L105] at h
    refine gz_aload_n (q := 0) hX dX7_next_105 rfl rfl ?_
    obtain ⟨r28, e29, h⟩ := gz_bd_o h
    refine gu_callV (ci := 7) (n := u1) (As := []) hX (c_x7_isDigit hu1 e29) (lw_x7_isDigit_ q667) rfl rfl nn_x7_isDigit ⟨Nat.le_of_ble_eq_true rfl, Nat.le_of_ble_eq_true rfl⟩ ⟨Nat.zero_le _, Nat.zero_le _⟩ (by decide) rfl (xs_dyn hu1) rfl rfl (Nat.le_of_ble_eq_true rfl) dX7_next_106 rfl ?_
    refine gz_if_eq (tgt := 157) hX dX7_next_109 (by decide) (fun c30 => ?_) (fun c30 => ?_)
    · have h := gz_ifp c30 h
      obtain rfl := gz_in1 h
      exact gz_lv [0] rfl k
    · have h := gz_ifn c30 h
      refine gz_aload_n (q := 0) hX dX7_next_112 rfl rfl ?_
      refine xg_X7_23 hX (xs_dyn hu1) dX7_next_113 ?_
      refine gz_aload_n (q := 0) hX dX7_next_116 rfl rfl ?_
      refine xg_X7_41 hX (xs_dyn hu1) dX7_next_117 ?_
      refine gz_iconst (v := 4) hX dX7_next_120 gl_c_4 ?_
      refine gz_iadd hX dX7_next_121 ?_
      obtain ⟨V31, g32, h⟩ := gz_bd_o h
      have J33 : gW X 1 (xw_s Ds) (xw_c Df) ad V31 0 0 144 [(0, .ref (ad u1))] [] := by
        refine gz_aload_n (q := 0) hX dX7_next_144 rfl rfl ?_
        refine gz_dupa hX dX7_next_145 ?_
        refine xg_X7_23 hX (xs_dyn hu1) dX7_next_146 ?_
        refine gz_iconst (v := 1) hX dX7_next_149 gl_c_1 ?_
        refine gz_iadd hX dX7_next_150 ?_
        obtain ⟨V39, e40, h⟩ := gz_let_o h
        refine xp_X7_23 hX (xs_dyn hu1) (by have := (hu1).1; omega) dX7_next_151 e40 ?_
        refine gz_goto (tgt := 105) hX dX7_next_154 (by decide) ?_
        exact gz_lv [0] rfl (ih h)
      refine gz_icmp_ge (tgt := 144) hX dX7_next_122 (by decide) (fun c34 => ?_) (fun c34 => ?_)
      · have g32 := gz_ifp c34 g32
        obtain rfl := gz_in1 g32
        exact gz_lv [0] rfl J33
      · have g32 := gz_ifn c34 g32
        refine gz_aload_n (q := 0) hX dX7_next_125 rfl rfl ?_
        refine gz_bipush (v := 10) hX dX7_next_126 gl_b_10 ?_
        refine gz_aload_n (q := 0) hX dX7_next_128 rfl rfl ?_
        refine xg_X7_129 hX (xs_dyn hu1) dX7_next_129 ?_
        refine gz_imul hX dX7_next_132 ?_
        refine gz_aload_n (q := 0) hX dX7_next_133 rfl rfl ?_
        obtain ⟨r35, e36, g32⟩ := gz_bd_o g32
        refine gu_callV (ci := 7) (n := u1) (As := []) hX (c_x7_see hu1 e36) (lw_x7_see_ q559) rfl rfl nn_x7_see ⟨Nat.le_of_ble_eq_true rfl, Nat.le_of_ble_eq_true rfl⟩ ⟨Nat.zero_le _, Nat.zero_le _⟩ (by decide) rfl (xs_dyn hu1) rfl rfl (Nat.le_of_ble_eq_true rfl) dX7_next_134 rfl ?_
        refine gz_iadd hX dX7_next_137 ?_
        refine gz_bipush (v := 48) hX dX7_next_138 gl_b_48 ?_
        refine gz_isub hX dX7_next_140 ?_
        obtain ⟨V37, e38, g32⟩ := gz_let_o g32
        refine xp_X7_129 hX (xs_dyn hu1) (by have := (hu1).1; omega) dX7_next_141 e38 ?_
        obtain rfl := gz_in1 g32
        exact gz_lv [0] rfl J33
noncomputable def x7_next_L62 (N : Nat) (Ds : gz_S) (Df : gz_R) (u1 : gz_N) : Nat → gz_V → Option (gz_V)
  | 0, _ => none
  | n + 1, V => gz_bd (x7_isLetter Ds Df V u1) (fun r36 => (if r36 = 0 then some V else gz_let (gz_up V u1 2 ((V u1 2) + 1)) (fun V39 => x7_next_L62 N Ds Df u1 n V39)))
theorem w_x7_next_L62 {X : gz_X} {ad : gz_A0} {N : Nat} {Ds : gz_S} {Df : gz_R} {u1 : gz_N} {W1 : gz_V} (hX : gz_ok X cX7_next RX7 "next" 1 rm_x7_next none) (hZ : gz_Z X) (hu1 : 90 ≤ u1.1 ∧ Ds u1 = some (7, 9)) (k : gW X 1 (xw_s Ds) (xw_c Df) ad W1 0 0 82 [(0, .ref (ad u1))] []) : ∀ (n : Nat) {V : gz_V}, x7_next_L62 N Ds Df u1 n V = some W1 → gW X 1 (xw_s Ds) (xw_c Df) ad V 0 0 62 [(0, .ref (ad u1))] [] := by
  intro n
  induction n with
  | zero => intro V h; rw [x7_next_L62] at h; cases h
  | succ n ih =>
    intro V h
    rw [x7_next_L62] at h
    refine gz_aload_n (q := 0) hX dX7_next_62 rfl rfl ?_
    obtain ⟨r36, e37, h⟩ := gz_bd_o h
    refine gu_callV (ci := 7) (n := u1) (As := []) hX (c_x7_isLetter hu1 e37) (lw_x7_isLetter_ q563) rfl rfl nn_x7_isLetter ⟨Nat.le_of_ble_eq_true rfl, Nat.le_of_ble_eq_true rfl⟩ ⟨Nat.zero_le _, Nat.zero_le _⟩ (by decide) rfl (xs_dyn hu1) rfl rfl (Nat.le_of_ble_eq_true rfl) dX7_next_63 rfl ?_
    refine gz_if_eq (tgt := 82) hX dX7_next_66 (by decide) (fun c38 => ?_) (fun c38 => ?_)
    · have h := gz_ifp c38 h
      obtain rfl := gz_in1 h
      exact gz_lv [0] rfl k
    · have h := gz_ifn c38 h
      refine gz_aload_n (q := 0) hX dX7_next_69 rfl rfl ?_
      refine gz_dupa hX dX7_next_70 ?_
      refine xg_X7_23 hX (xs_dyn hu1) dX7_next_71 ?_
      refine gz_iconst (v := 1) hX dX7_next_74 gl_c_1 ?_
      refine gz_iadd hX dX7_next_75 ?_
      obtain ⟨V39, e40, h⟩ := gz_let_o h
      refine xp_X7_23 hX (xs_dyn hu1) (by have := (hu1).1; omega) dX7_next_76 e40 ?_
      refine gz_goto (tgt := 62) hX dX7_next_79 (by decide) ?_
      exact gz_lv [0] rfl (ih h)
noncomputable def x7_next (N : Nat) (Ds : gz_S) (Df : gz_R) (V : gz_V) (u1 : gz_N) : Option (gz_V) := gz_bd (x7_next_L0 N Ds Df u1 N V) (fun V1 => gz_let (gz_up V1 u1 3 (V1 u1 2)) (fun V3 => gz_bd (x7_see Ds Df V3 u1) (fun r5 => (if r5 = (-1) then gz_let (gz_up V3 u1 4 0) (fun V42 => some V42) else gz_bd (x7_isLetter Ds Df V3 u1) (fun r8 => (if r8 = 0 then gz_bd (x7_isDigit Ds Df V3 u1) (fun r11 => (if r11 = 0 then gz_bd (x7_see Ds Df V3 u1) (fun r14 => gz_bd (if (x7_isMark u1 r14) = 0 then some (1 : Int32) else gz_bd (x7_see Ds Df V3 u1) (fun r20 => some r20)) (fun y16 => gz_let (gz_up V3 u1 4 y16) (fun V22 => gz_let (gz_up V22 u1 2 ((V22 u1 2) + 1)) (fun V24 => some V24)))) else gz_let (gz_up V3 u1 5 0) (fun V26 => gz_bd (x7_next_L105 N Ds Df u1 N V26) (fun V28 => gz_let (if 5 ≤ ((V28 u1 2) - (V28 u1 3)) then (1 : Int32) else (2 : Int32)) (fun y30 => gz_let (gz_up V28 u1 4 y30) (fun V34 => some V34)))))) else gz_bd (x7_next_L62 N Ds Df u1 N V3) (fun V36 => gz_bd (x7_keyword Ds Df V36 u1) (fun r38 => gz_let (gz_up V36 u1 4 r38) (fun V40 => some V40)))))))))
theorem c_x7_next {l : Launch} {D : va_G} {aC : Nat → ClassId} {ad : gz_A0} {N : Nat} {Ds : gz_S} {Df : gz_R} {V : gz_V} {u1 : gz_N} {W1 : gz_V} (hu1 : 90 ≤ u1.1 ∧ Ds u1 = some (7, 9)) (h : x7_next N Ds Df V u1 = some W1) : gz_Met l yX7_next cX7_next 1 none rm_x7_next D aC ad (xw_s Ds) V (xw_c Df) [.ref (ad u1)] (gz_F1 (xw_s Ds) (xw_c Df) ad W1 none) 0 0 := by
  refine gu_ofW (own := RX7) (mn := "next") (lv := [(0, .ref (ad u1))]) (by decide) rfl rfl (Nat.le_of_ble_eq_true rfl) rfl ?_
  intro X hX hZ hF
  rw [x7_next] at h
  obtain ⟨V1, e2, h⟩ := gz_bd_o h
  refine gz_lv [0] rfl (w_x7_next_L0 hX hZ hu1 ?_ N e2)
  refine gz_aload_n (q := 0) hX dX7_next_31 rfl rfl ?_
  refine gz_aload_n (q := 0) hX dX7_next_32 rfl rfl ?_
  refine xg_X7_23 hX (xs_dyn hu1) dX7_next_33 ?_
  obtain ⟨V3, e4, h⟩ := gz_let_o h
  refine xp_X7_41 hX (xs_dyn hu1) (by have := (hu1).1; omega) dX7_next_36 e4 ?_
  refine gz_aload_n (q := 0) hX dX7_next_39 rfl rfl ?_
  obtain ⟨r5, e6, h⟩ := gz_bd_o h
  refine gu_callV (ci := 7) (n := u1) (As := []) hX (c_x7_see hu1 e6) (lw_x7_see_ q559) rfl rfl nn_x7_see ⟨Nat.le_of_ble_eq_true rfl, Nat.le_of_ble_eq_true rfl⟩ ⟨Nat.zero_le _, Nat.zero_le _⟩ (by decide) rfl (xs_dyn hu1) rfl rfl (Nat.le_of_ble_eq_true rfl) dX7_next_40 rfl ?_
  refine gz_iconst (v := (-1)) hX dX7_next_43 gl_c_m1 ?_
  refine gz_icmp_ne (tgt := 55) hX dX7_next_44 (by decide) (fun c7 => ?_) (fun c7 => ?_)
  · have h := gz_ifn c7 h
    refine gz_aload_n (q := 0) hX dX7_next_55 rfl rfl ?_
    obtain ⟨r8, e9, h⟩ := gz_bd_o h
    refine gu_callV (ci := 7) (n := u1) (As := []) hX (c_x7_isLetter hu1 e9) (lw_x7_isLetter_ q563) rfl rfl nn_x7_isLetter ⟨Nat.le_of_ble_eq_true rfl, Nat.le_of_ble_eq_true rfl⟩ ⟨Nat.zero_le _, Nat.zero_le _⟩ (by decide) rfl (xs_dyn hu1) rfl rfl (Nat.le_of_ble_eq_true rfl) dX7_next_56 rfl ?_
    refine gz_if_eq (tgt := 93) hX dX7_next_59 (by decide) (fun c10 => ?_) (fun c10 => ?_)
    · have h := gz_ifp c10 h
      refine gz_aload_n (q := 0) hX dX7_next_93 rfl rfl ?_
      obtain ⟨r11, e12, h⟩ := gz_bd_o h
      refine gu_callV (ci := 7) (n := u1) (As := []) hX (c_x7_isDigit hu1 e12) (lw_x7_isDigit_ q667) rfl rfl nn_x7_isDigit ⟨Nat.le_of_ble_eq_true rfl, Nat.le_of_ble_eq_true rfl⟩ ⟨Nat.zero_le _, Nat.zero_le _⟩ (by decide) rfl (xs_dyn hu1) rfl rfl (Nat.le_of_ble_eq_true rfl) dX7_next_94 rfl ?_
      refine gz_if_eq (tgt := 182) hX dX7_next_97 (by decide) (fun c13 => ?_) (fun c13 => ?_)
      · have h := gz_ifp c13 h
        refine gz_aload_n (q := 0) hX dX7_next_182 rfl rfl ?_
        refine gz_aload_n (q := 0) hX dX7_next_183 rfl rfl ?_
        refine gz_aload_n (q := 0) hX dX7_next_184 rfl rfl ?_
        obtain ⟨r14, e15, h⟩ := gz_bd_o h
        refine gu_callV (ci := 7) (n := u1) (As := []) hX (c_x7_see hu1 e15) (lw_x7_see_ q559) rfl rfl nn_x7_see ⟨Nat.le_of_ble_eq_true rfl, Nat.le_of_ble_eq_true rfl⟩ ⟨Nat.zero_le _, Nat.zero_le _⟩ (by decide) rfl (xs_dyn hu1) rfl rfl (Nat.le_of_ble_eq_true rfl) dX7_next_185 rfl ?_
        refine gu_callV (ci := 7) (n := u1) (As := [.int r14]) hX (c_x7_isMark hu1 rfl) (lw_x7_isMark_ q671) rfl rfl nn_x7_isMark ⟨Nat.le_of_ble_eq_true rfl, Nat.le_of_ble_eq_true rfl⟩ ⟨Nat.zero_le _, Nat.zero_le _⟩ (by decide) rfl (xs_dyn hu1) rfl rfl (Nat.le_of_ble_eq_true rfl) dX7_next_188 rfl ?_
        obtain ⟨y16, g17, h⟩ := gz_bd_o h
        have J18 : gW X 1 (xw_s Ds) (xw_c Df) ad V3 0 0 202 [(0, .ref (ad u1))] [.int y16, .ref (ad u1)] := by
          obtain ⟨V22, e23, h⟩ := gz_let_o h
          refine xp_X7_121 hX (xs_dyn hu1) (by have := (hu1).1; omega) dX7_next_202 e23 ?_
          refine gz_aload_n (q := 0) hX dX7_next_205 rfl rfl ?_
          refine gz_dupa hX dX7_next_206 ?_
          refine xg_X7_23 hX (xs_dyn hu1) dX7_next_207 ?_
          refine gz_iconst (v := 1) hX dX7_next_210 gl_c_1 ?_
          refine gz_iadd hX dX7_next_211 ?_
          obtain ⟨V24, e25, h⟩ := gz_let_o h
          refine xp_X7_23 hX (xs_dyn hu1) (by have := (hu1).1; omega) dX7_next_212 e25 ?_
          exact gu_vret hX hZ hF (gz_in1 h) rfl dX7_next_215
        refine gz_if_eq (tgt := 201) hX dX7_next_191 (by decide) (fun c19 => ?_) (fun c19 => ?_)
        · have g17 := gz_ifp c19 g17
          refine gz_iconst (v := 1) hX dX7_next_201 gl_c_1 ?_
          obtain rfl := gz_in1 g17
          exact gz_lv [0] rfl J18
        · have g17 := gz_ifn c19 g17
          refine gz_aload_n (q := 0) hX dX7_next_194 rfl rfl ?_
          obtain ⟨r20, e21, g17⟩ := gz_bd_o g17
          refine gu_callV (ci := 7) (n := u1) (As := []) hX (c_x7_see hu1 e21) (lw_x7_see_ q559) rfl rfl nn_x7_see ⟨Nat.le_of_ble_eq_true rfl, Nat.le_of_ble_eq_true rfl⟩ ⟨Nat.zero_le _, Nat.zero_le _⟩ (by decide) rfl (xs_dyn hu1) rfl rfl (Nat.le_of_ble_eq_true rfl) dX7_next_195 rfl ?_
          refine gz_goto (tgt := 202) hX dX7_next_198 (by decide) ?_
          obtain rfl := gz_in1 g17
          exact gz_lv [0] rfl J18
      · have h := gz_ifn c13 h
        refine gz_aload_n (q := 0) hX dX7_next_100 rfl rfl ?_
        refine gz_iconst (v := 0) hX dX7_next_101 gl_c_0 ?_
        obtain ⟨V26, e27, h⟩ := gz_let_o h
        refine xp_X7_129 hX (xs_dyn hu1) (by have := (hu1).1; omega) dX7_next_102 e27 ?_
        obtain ⟨V28, e29, h⟩ := gz_bd_o h
        refine gz_lv [0] rfl (w_x7_next_L105 hX hZ hu1 ?_ N e29)
        refine gz_aload_n (q := 0) hX dX7_next_157 rfl rfl ?_
        refine gz_aload_n (q := 0) hX dX7_next_158 rfl rfl ?_
        refine xg_X7_23 hX (xs_dyn hu1) dX7_next_159 ?_
        refine gz_aload_n (q := 0) hX dX7_next_162 rfl rfl ?_
        refine xg_X7_41 hX (xs_dyn hu1) dX7_next_163 ?_
        refine gz_isub hX dX7_next_166 ?_
        refine gz_iconst (v := 5) hX dX7_next_167 gl_c_5 ?_
        obtain ⟨y30, g31, h⟩ := gz_let_o h
        have J32 : gW X 1 (xw_s Ds) (xw_c Df) ad V28 0 0 176 [] [.int y30, .ref (ad u1)] := by
          obtain ⟨V34, e35, h⟩ := gz_let_o h
          refine xp_X7_121 hX (xs_dyn hu1) (by have := (hu1).1; omega) dX7_next_176 e35 ?_
          refine gz_goto (tgt := 215) hX dX7_next_179 (by decide) ?_
          exact gu_vret hX hZ hF (gz_in1 h) rfl dX7_next_215
        refine gz_icmp_ge (tgt := 175) hX dX7_next_168 (by decide) (fun c33 => ?_) (fun c33 => ?_)
        · have g31 := gz_ifp c33 g31
          refine gz_iconst (v := 1) hX dX7_next_175 gl_c_1 ?_
          obtain rfl := g31
          exact gz_lv [] rfl J32
        · have g31 := gz_ifn c33 g31
          refine gz_iconst (v := 2) hX dX7_next_171 gl_c_2 ?_
          refine gz_goto (tgt := 176) hX dX7_next_172 (by decide) ?_
          obtain rfl := g31
          exact gz_lv [] rfl J32
    · have h := gz_ifn c10 h
      obtain ⟨V36, e37, h⟩ := gz_bd_o h
      refine gz_lv [0] rfl (w_x7_next_L62 hX hZ hu1 ?_ N e37)
      refine gz_aload_n (q := 0) hX dX7_next_82 rfl rfl ?_
      refine gz_aload_n (q := 0) hX dX7_next_83 rfl rfl ?_
      obtain ⟨r38, e39, h⟩ := gz_bd_o h
      refine gu_callV (ci := 7) (n := u1) (As := []) hX (c_x7_keyword hu1 e39) (lw_x7_keyword_ q568) rfl rfl nn_x7_keyword ⟨Nat.le_of_ble_eq_true rfl, Nat.le_of_ble_eq_true rfl⟩ ⟨Nat.zero_le _, Nat.zero_le _⟩ (by decide) rfl (xs_dyn hu1) rfl rfl (Nat.le_of_ble_eq_true rfl) dX7_next_84 rfl ?_
      obtain ⟨V40, e41, h⟩ := gz_let_o h
      refine xp_X7_121 hX (xs_dyn hu1) (by have := (hu1).1; omega) dX7_next_87 e41 ?_
      refine gz_goto (tgt := 215) hX dX7_next_90 (by decide) ?_
      exact gu_vret hX hZ hF (gz_in1 h) rfl dX7_next_215
  · have h := gz_ifp c7 h
    refine gz_aload_n (q := 0) hX dX7_next_47 rfl rfl ?_
    refine gz_iconst (v := 0) hX dX7_next_48 gl_c_0 ?_
    obtain ⟨V42, e43, h⟩ := gz_let_o h
    refine xp_X7_121 hX (xs_dyn hu1) (by have := (hu1).1; omega) dX7_next_49 e43 ?_
    refine gz_goto (tgt := 215) hX dX7_next_52 (by decide) ?_
    exact gu_vret hX hZ hF (gz_in1 h) rfl dX7_next_215
theorem lw_x7_next_ {o : String} {i : Nat} (hl : Cond.methodLink o i yX7_next ∈ lw_all) : GoodIn lw_all (wsV o i RX7 yX7_next (ws_ yX7_next cX7_next 1 none)) := lw_V hl q557 qs2 q157 q558
theorem nn_x7_next : yX7_next.cls = RX7 ∧ yX7_next.cls ≠ "java/lang/invoke/MethodHandle" ∧ yX7_next.cls ≠ "java/lang/invoke/VarHandle" ∧ (parseMethodDescriptor yX7_next.desc).map (fun d => d.parameters.length) = some 0 := by decide +kernel
