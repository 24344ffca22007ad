/-! READER, its parser. Printed by wip/D-99505w/gen/mkx8.py -/
set_option maxRecDepth 100000
theorem gl_b_99 : (Int8.ofInt 99).toInt32 = 99 := by decide
theorem nn_x17_init : yX17_init.cls ≠ "java/lang/invoke/MethodHandle" ∧ yX17_init.cls ≠ "java/lang/invoke/VarHandle" ∧ (parseMethodDescriptor yX17_init.desc).map (fun d => d.parameters.length) = some 3 := by decide +kernel
theorem nn_x18_init : yX18_init.cls ≠ "java/lang/invoke/MethodHandle" ∧ yX18_init.cls ≠ "java/lang/invoke/VarHandle" ∧ (parseMethodDescriptor yX18_init.desc).map (fun d => d.parameters.length) = some 4 := by decide +kernel
theorem nn_x19_init : yX19_init.cls ≠ "java/lang/invoke/MethodHandle" ∧ yX19_init.cls ≠ "java/lang/invoke/VarHandle" ∧ (parseMethodDescriptor yX19_init.desc).map (fun d => d.parameters.length) = some 3 := by decide +kernel
noncomputable def x7_habit (N : Nat) (Ds : gz_S) (Df : gz_R) (V : gz_V) (c : Nat) (u : gz_N) (a1 : Int32) : gp_O gz_N := gz_let ((V u 4)) (fun x1 => (if (x0_isIn x1 15 19) = 0 then some (.inl (1, V u 3, c + 1)) else gz_bd (x7_next N Ds Df V u) (fun V4 => gp_bx c (x7_person N Ds Df V4 c u) (fun Ds6 Df7 V8 c9 r10 => (if x1 = 18 then gp_nw (15, 3) Ds6 Df7 V8 c9 (fun Ds13 Df14 V15 c16 => gp_bx c16 (x7_number N Ds13 Df14 V15 c16 u 1 999) (fun Ds19 Df20 V21 c22 r23 => gz_let (gz_up (gz_up (gz_up V21 (98, c9, 0) 0 a1) (98, c9, 0) 1 r10) (98, c9, 0) 2 r23) (fun V25 => some (.inr (Ds19, Df20, V25, c22, (98, c9, 0)))))) else if x1 = 19 then gp_bx c9 (x7_number N Ds6 Df7 V8 c9 u 0 4) (fun Ds28 Df29 V30 c31 r32 => gp_nw (16, 4) Ds28 Df29 V30 c31 (fun Ds34 Df35 V36 c37 => gp_bx c37 (x7_number N Ds34 Df35 V36 c37 u 1 99) (fun Ds40 Df41 V42 c43 r44 => gz_let (gz_up (gz_up (gz_up (gz_up V42 (98, c31, 0) 0 a1) (98, c31, 0) 1 r10) (98, c31, 0) 2 r32) (98, c31, 0) 3 r44) (fun V46 => some (.inr (Ds40, Df41, V46, c43, (98, c31, 0))))))) else gp_nw (17, 3) Ds6 Df7 V8 c9 (fun Ds48 Df49 V50 c51 => (if x1 = 15 then gz_let (gz_up (gz_up (gz_up V50 (98, c9, 0) 0 a1) (98, c9, 0) 1 r10) (98, c9, 0) 2 1) (fun V60 => some (.inr (Ds48, Df49, V60, c51, (98, c9, 0)))) else (if x1 = 17 then gz_let (gz_up (gz_up (gz_up V50 (98, c9, 0) 0 a1) (98, c9, 0) 1 r10) (98, c9, 0) 2 2) (fun V58 => some (.inr (Ds48, Df49, V58, c51, (98, c9, 0)))) else gz_let (gz_up (gz_up (gz_up V50 (98, c9, 0) 0 a1) (98, c9, 0) 1 r10) (98, c9, 0) 2 0) (fun V56 => some (.inr (Ds48, Df49, V56, c51, (98, c9, 0))))))))))))
theorem c_x7_habit {l : Launch} {D : va_G} {aC : Nat → ClassId} {ad : gz_A0} {N : Nat} {Ds : gz_S} {Df : gz_R} {V : gz_V} {c : Nat} {u : gz_N} {a1 : Int32} {B : gp_B} {o : gp_R gz_N} (htr : l.stackTraces = false) (hb : gp_ba B Ds Df V c ad) (hct : c ≤ gp_ct o) (hu : 90 ≤ u.1 ∧ Ds u = some (7, 9)) (hnu : gp_nn B u) (h : x7_habit N Ds Df V c u a1 = some o) : gp_Met l yX7_habit cX7_habit 5 (some (.object "ClaspedFair$Habit")) 11 231 D aC ad Ds Df V c [.ref (ad u), .int a1] B gp_pH gp_rA o := by
  refine gp_of (own := RX7) (mn := "habit") (lv := [(0, .ref (ad u)), (1, .int a1)]) (by decide) rfl rfl (Nat.le_of_ble_eq_true rfl) rfl htr hb hct ?_
  intro X hX hE hI
  rw [x7_habit] at h
  refine gz_aload_n (q := 0) hX dX7_habit_0 rfl rfl ?_
  refine xg_X7_121 hX (xs_dyn hu) dX7_habit_1 ?_
  obtain ⟨x1, e2, h⟩ := gz_let_o h
  refine gz_nm e2 ?_
  refine gz_istore_n (lv2 := [(2, .int x1), (0, .ref (ad u)), (1, .int a1)]) hX dX7_habit_4 rfl (by decide) rfl ?_
  refine gz_iload_n (q := 0) hX dX7_habit_5 rfl rfl ?_
  refine gz_bipush (v := 15) hX dX7_habit_6 gl_b_15 ?_
  refine gz_bipush (v := 19) hX dX7_habit_8 gl_b_19 ?_
  refine gu_callSN (As := [.int x1, .int 15, .int 19]) hX (c_x0_isIn rfl) q567 (lw_meth q504) q144 q503 rfl rfl nn_x0_isIn ⟨Nat.le_of_ble_eq_true rfl, Nat.le_of_ble_eq_true rfl⟩ (gp_hf hX hE hI) rfl rfl (Nat.le_of_ble_eq_true rfl) dX7_habit_10 rfl ?_
  refine gz_if_ne (tgt := 29) hX dX7_habit_13 (by decide) (fun c_3 => ?_) (fun c_3 => ?_)
  · have h := gz_ifn c_3 h
    refine gz_aload_n (q := 1) hX dX7_habit_29 rfl rfl ?_
    obtain ⟨V4, e5, h⟩ := gz_bd_o h
    refine gu_callV (ci := 7) (n := u) (As := []) hX (c_x7_next hu e5) (lw_x7_next_ q555) rfl rfl nn_x7_next ⟨Nat.le_of_ble_eq_true rfl, Nat.le_of_ble_eq_true rfl⟩ (gp_hf hX hE hI) (by decide) rfl (xs_dyn hu) rfl rfl (Nat.le_of_ble_eq_true rfl) dX7_habit_30 rfl ?_
    have hI := hI.next hnu e5
    refine gz_aload_n (q := 1) hX dX7_habit_33 rfl rfl ?_
    refine gp_call (ci := 7) (n := u) (As := []) hX hE hI h (fun o1 e1 hc1 => (c_x7_person hE.2.2.2.2.1 hI.1 hc1 hu hnu e1)) (lw_x7_person_ q961) nn_x7_person ⟨Nat.le_of_ble_eq_true rfl, Nat.le_of_ble_eq_true rfl⟩ (by decide) rfl (xs_dyn hu) rfl (fun ad => [(2, .int x1), (0, .ref (ad u)), (1, .int a1)]) (fun ad => []) rfl (Nat.le_of_ble_eq_true rfl) (fun ad2 h2 => by have e0 := h2 u (Or.inl (gz_nn (xs_dyn hu))); exact ⟨by first | rfl | simp only [e0], by first | rfl | simp only [e0]⟩) dX7_habit_34 (fun Ds6 Df7 V8 c9 r10 h hgr hP11 => ?_)
    have hu := gp_up hgr hu
    intro ad hI
    refine gz_istore_n (lv2 := [(3, .int r10), (2, .int x1), (0, .ref (ad u)), (1, .int a1)]) hX dX7_habit_37 rfl (by decide) rfl ?_
    refine gz_iload_n (q := 1) hX dX7_habit_38 rfl rfl ?_
    by_cases c_12 : x1 = 18
    · have h := gz_ifp c_12 h
      refine gz_look (tgt := 64) (off := 25) hX dX7_habit_39 rfl (by rw [c_12]; rfl) (by decide) ?_
      obtain ⟨Ds13, Df14, V15, c16, e17, h⟩ := gp_nw_o h
      refine gp_new (ci := 15) hX hE hI e17 in_X17 tyX17_ok (by decide) rfl q965 q966 q175 (by decide) (by decide) (fun ad => [(3, .int r10), (2, .int x1), (0, .ref (ad u)), (1, .int a1)]) (fun ad => []) (fun ad2 h2 => by have e0 := h2 u (Or.inl (gz_nn (xs_dyn hu))); exact ⟨by first | rfl | simp only [e0], by first | rfl | simp only [e0]⟩) dX7_habit_64 (fun hgr hj18 hj18n => ?_)
      have hu := gp_up hgr hu
      intro ad hI
      refine gz_dupa hX dX7_habit_67 ?_
      refine gz_iload_n (q := 3) hX dX7_habit_68 rfl rfl ?_
      refine gz_iload_n (q := 0) hX dX7_habit_69 rfl rfl ?_
      refine gz_aload_n (q := 2) hX dX7_habit_70 rfl rfl ?_
      refine gz_iconst (v := 1) hX dX7_habit_71 gl_c_1 ?_
      refine gz_sipush (v := 999) hX dX7_habit_72 gl_s_999 ?_
      refine gp_call (ci := 7) (n := u) (As := [.int 1, .int 999]) hX hE hI h (fun o1 e1 hc1 => (c_x7_number hE.2.2.2.2.1 hI.1 hc1 hu hnu e1)) (lw_x7_number_ q757) nn_x7_number ⟨Nat.le_of_ble_eq_true rfl, Nat.le_of_ble_eq_true rfl⟩ (by decide) rfl (xs_dyn hu) rfl (fun ad => [(3, .int r10), (2, .int x1), (0, .ref (ad u)), (1, .int a1)]) (fun ad => [.int r10, .int a1, .ref (ad (98, c9, 0)), .ref (ad (98, c9, 0))]) rfl (Nat.le_of_ble_eq_true rfl) (fun ad2 h2 => by have e0 := h2 u (Or.inl (gz_nn (xs_dyn hu))); have e1 := h2 (98, c9, 0) (Or.inl (gz_nn (xs_dyn ⟨gp_90 hj18n, hj18⟩))); exact ⟨by first | rfl | simp only [e0, e1], by first | rfl | simp only [e0, e1]⟩) dX7_habit_75 (fun Ds19 Df20 V21 c22 r23 h hgr hP24 => ?_)
      have hu := gp_up hgr hu
      have hj18 := hgr _ _ hj18
      intro ad hI
      obtain ⟨V25, e26, h⟩ := gz_let_o h
      refine gp_ini (V1 := V25) (Df1 := Df20) (n := (98, c9, 0)) (As := [.int a1, .int r10, .int r23]) (rest := [.ref (ad (98, c9, 0))]) hX hE hI (by rw [← e26]; exact (c_x17_init (xs_dyn ⟨gp_90 hj18n, hj18⟩) (gp_n0 hj18n))) (lw_meth q969) q175 q967 q968 rfl rfl rfl nn_x17_init ⟨Nat.le_of_ble_eq_true rfl, Nat.le_of_ble_eq_true rfl⟩ rfl rfl (Nat.le_of_ble_eq_true rfl) dX7_habit_78 rfl ?_
      have hI := hI.wV (V2 := V25) hj18n (fun a ha => by rw [← e26]; simp only [gz_up_ne ha])
      exact gp_aret hX hE hI rfl (Or.inl ⟨_, rfl⟩) (gp_hX17 hj18n hj18) h dX7_habit_81
    · have h := gz_ifn c_12 h
      by_cases c_27 : x1 = 19
      · have h := gz_ifp c_27 h
        refine gz_look (tgt := 82) (off := 43) hX dX7_habit_39 rfl (by rw [c_27]; rfl) (by decide) ?_
        refine gz_aload_n (q := 2) hX dX7_habit_82 rfl rfl ?_
        refine gz_iconst (v := 0) hX dX7_habit_83 gl_c_0 ?_
        refine gz_iconst (v := 4) hX dX7_habit_84 gl_c_4 ?_
        refine gp_call (ci := 7) (n := u) (As := [.int 0, .int 4]) hX hE hI h (fun o1 e1 hc1 => (c_x7_number hE.2.2.2.2.1 hI.1 hc1 hu hnu e1)) (lw_x7_number_ q757) nn_x7_number ⟨Nat.le_of_ble_eq_true rfl, Nat.le_of_ble_eq_true rfl⟩ (by decide) rfl (xs_dyn hu) rfl (fun ad => [(3, .int r10), (2, .int x1), (0, .ref (ad u)), (1, .int a1)]) (fun ad => []) rfl (Nat.le_of_ble_eq_true rfl) (fun ad2 h2 => by have e0 := h2 u (Or.inl (gz_nn (xs_dyn hu))); exact ⟨by first | rfl | simp only [e0], by first | rfl | simp only [e0]⟩) dX7_habit_85 (fun Ds28 Df29 V30 c31 r32 h hgr hP33 => ?_)
        have hu := gp_up hgr hu
        intro ad hI
        refine gz_istore (lv2 := [(4, .int r32), (3, .int r10), (2, .int x1), (0, .ref (ad u)), (1, .int a1)]) hX dX7_habit_88 (by decide) rfl ?_
        refine gz_lv (lv2 := [(4, .int r32), (3, .int r10), (0, .ref (ad u)), (1, .int a1)]) [0, 1, 3, 4] rfl ?_
        obtain ⟨Ds34, Df35, V36, c37, e38, h⟩ := gp_nw_o h
        refine gp_new (ci := 16) hX hE hI e38 in_X18 tyX18_ok (by decide) rfl q984 q985 q176 (by decide) (by decide) (fun ad => [(4, .int r32), (3, .int r10), (0, .ref (ad u)), (1, .int a1)]) (fun ad => []) (fun ad2 h2 => by have e0 := h2 u (Or.inl (gz_nn (xs_dyn hu))); exact ⟨by first | rfl | simp only [e0], by first | rfl | simp only [e0]⟩) dX7_habit_90 (fun hgr hj39 hj39n => ?_)
        have hu := gp_up hgr hu
        intro ad hI
        refine gz_dupa hX dX7_habit_93 ?_
        refine gz_iload_n (q := 3) hX dX7_habit_94 rfl rfl ?_
        refine gz_iload_n (q := 1) hX dX7_habit_95 rfl rfl ?_
        refine gz_iload (q := 0) hX dX7_habit_96 rfl ?_
        refine gz_aload_n (q := 2) hX dX7_habit_98 rfl rfl ?_
        refine gz_iconst (v := 1) hX dX7_habit_99 gl_c_1 ?_
        refine gz_bipush (v := 99) hX dX7_habit_100 gl_b_99 ?_
        refine gp_call (ci := 7) (n := u) (As := [.int 1, .int 99]) hX hE hI h (fun o1 e1 hc1 => (c_x7_number hE.2.2.2.2.1 hI.1 hc1 hu hnu e1)) (lw_x7_number_ q757) nn_x7_number ⟨Nat.le_of_ble_eq_true rfl, Nat.le_of_ble_eq_true rfl⟩ (by decide) rfl (xs_dyn hu) rfl (fun ad => [(4, .int r32), (3, .int r10), (0, .ref (ad u)), (1, .int a1)]) (fun ad => [.int r32, .int r10, .int a1, .ref (ad (98, c31, 0)), .ref (ad (98, c31, 0))]) rfl (Nat.le_of_ble_eq_true rfl) (fun ad2 h2 => by have e0 := h2 u (Or.inl (gz_nn (xs_dyn hu))); have e1 := h2 (98, c31, 0) (Or.inl (gz_nn (xs_dyn ⟨gp_90 hj39n, hj39⟩))); exact ⟨by first | rfl | simp only [e0, e1], by first | rfl | simp only [e0, e1]⟩) dX7_habit_102 (fun Ds40 Df41 V42 c43 r44 h hgr hP45 => ?_)
        have hu := gp_up hgr hu
        have hj39 := hgr _ _ hj39
        intro ad hI
        obtain ⟨V46, e47, h⟩ := gz_let_o h
        refine gp_ini (V1 := V46) (Df1 := Df41) (n := (98, c31, 0)) (As := [.int a1, .int r10, .int r32, .int r44]) (rest := [.ref (ad (98, c31, 0))]) hX hE hI (by rw [← e47]; exact (c_x18_init (xs_dyn ⟨gp_90 hj39n, hj39⟩) (gp_n0 hj39n))) (lw_meth q988) q176 q986 q987 rfl rfl rfl nn_x18_init ⟨Nat.le_of_ble_eq_true rfl, Nat.le_of_ble_eq_true rfl⟩ rfl rfl (Nat.le_of_ble_eq_true rfl) dX7_habit_105 rfl ?_
        have hI := hI.wV (V2 := V46) hj39n (fun a ha => by rw [← e47]; simp only [gz_up_ne ha])
        exact gp_aret hX hE hI rfl (Or.inl ⟨_, rfl⟩) (gp_hX18 hj39n hj39) h dX7_habit_108
      · have h := gz_ifn c_27 h
        refine gz_look (tgt := 109) (off := 70) hX dX7_habit_39 rfl (by refine (lv_osw c_12 rfl).trans ?_; refine (lv_osw c_27 rfl).trans ?_; rfl) (by decide) ?_
        obtain ⟨Ds48, Df49, V50, c51, e52, h⟩ := gp_nw_o h
        refine gp_new (ci := 17) hX hE hI e52 in_X19 tyX19_ok (by decide) rfl q999 q1000 q177 (by decide) (by decide) (fun ad => [(3, .int r10), (2, .int x1), (0, .ref (ad u)), (1, .int a1)]) (fun ad => []) (fun ad2 h2 => by have e0 := h2 u (Or.inl (gz_nn (xs_dyn hu))); exact ⟨by first | rfl | simp only [e0], by first | rfl | simp only [e0]⟩) dX7_habit_109 (fun hgr hj53 hj53n => ?_)
        have hu := gp_up hgr hu
        intro ad hI
        refine gz_dupa hX dX7_habit_112 ?_
        refine gz_iload_n (q := 3) hX dX7_habit_113 rfl rfl ?_
        refine gz_iload_n (q := 0) hX dX7_habit_114 rfl rfl ?_
        refine gz_iload_n (q := 1) hX dX7_habit_115 rfl rfl ?_
        refine gz_bipush (v := 15) hX dX7_habit_116 gl_b_15 ?_
        refine gz_icmp_ne (tgt := 125) hX dX7_habit_118 (by decide) (fun c_54 => ?_) (fun c_54 => ?_)
        · have h := gz_ifn c_54 h
          refine gz_iload_n (q := 1) hX dX7_habit_125 rfl rfl ?_
          refine gz_bipush (v := 17) hX dX7_habit_126 gl_b_17 ?_
          refine gz_icmp_ne (tgt := 135) hX dX7_habit_128 (by decide) (fun c_55 => ?_) (fun c_55 => ?_)
          · have h := gz_ifn c_55 h
            refine gz_iconst (v := 0) hX dX7_habit_135 gl_c_0 ?_
            obtain ⟨V56, e57, h⟩ := gz_let_o h
            refine gp_ini (V1 := V56) (Df1 := Df49) (n := (98, c9, 0)) (As := [.int a1, .int r10, .int 0]) (rest := [.ref (ad (98, c9, 0))]) hX hE hI (by rw [← e57]; exact (c_x19_init (xs_dyn ⟨gp_90 hj53n, hj53⟩) (gp_n0 hj53n))) (lw_meth q1003) q177 q1001 q1002 rfl rfl rfl nn_x19_init ⟨Nat.le_of_ble_eq_true rfl, Nat.le_of_ble_eq_true rfl⟩ rfl rfl (Nat.le_of_ble_eq_true rfl) dX7_habit_136 rfl ?_
            have hI := hI.wV (V2 := V56) hj53n (fun a ha => by rw [← e57]; simp only [gz_up_ne ha])
            exact gp_aret hX hE hI rfl (Or.inl ⟨_, rfl⟩) (gp_hX19 hj53n hj53) h dX7_habit_139
          · have h := gz_ifp c_55 h
            refine gz_iconst (v := 2) hX dX7_habit_131 gl_c_2 ?_
            refine gz_goto (tgt := 136) hX dX7_habit_132 (by decide) ?_
            obtain ⟨V58, e59, h⟩ := gz_let_o h
            refine gp_ini (V1 := V58) (Df1 := Df49) (n := (98, c9, 0)) (As := [.int a1, .int r10, .int 2]) (rest := [.ref (ad (98, c9, 0))]) hX hE hI (by rw [← e59]; exact (c_x19_init (xs_dyn ⟨gp_90 hj53n, hj53⟩) (gp_n0 hj53n))) (lw_meth q1003) q177 q1001 q1002 rfl rfl rfl nn_x19_init ⟨Nat.le_of_ble_eq_true rfl, Nat.le_of_ble_eq_true rfl⟩ rfl rfl (Nat.le_of_ble_eq_true rfl) dX7_habit_136 rfl ?_
            have hI := hI.wV (V2 := V58) hj53n (fun a ha => by rw [← e59]; simp only [gz_up_ne ha])
            exact gp_aret hX hE hI rfl (Or.inl ⟨_, rfl⟩) (gp_hX19 hj53n hj53) h dX7_habit_139
        · have h := gz_ifp c_54 h
          refine gz_iconst (v := 1) hX dX7_habit_121 gl_c_1 ?_
          refine gz_goto (tgt := 136) hX dX7_habit_122 (by decide) ?_
          obtain ⟨V60, e61, h⟩ := gz_let_o h
          refine gp_ini (V1 := V60) (Df1 := Df49) (n := (98, c9, 0)) (As := [.int a1, .int r10, .int 1]) (rest := [.ref (ad (98, c9, 0))]) hX hE hI (by rw [← e61]; exact (c_x19_init (xs_dyn ⟨gp_90 hj53n, hj53⟩) (gp_n0 hj53n))) (lw_meth q1003) q177 q1001 q1002 rfl rfl rfl nn_x19_init ⟨Nat.le_of_ble_eq_true rfl, Nat.le_of_ble_eq_true rfl⟩ rfl rfl (Nat.le_of_ble_eq_true rfl) dX7_habit_136 rfl ?_
          have hI := hI.wV (V2 := V60) hj53n (fun a ha => by rw [← e61]; simp only [gz_up_ne ha])
          exact gp_aret hX hE hI rfl (Or.inl ⟨_, rfl⟩) (gp_hX19 hj53n hj53) h dX7_habit_139
  · have h := gz_ifp c_3 h
    exact gp_throw (q0 := 1) hX hE hI hu h rfl ⟨Nat.le_of_ble_eq_true rfl, Nat.le_of_ble_eq_true rfl⟩ dX7_habit_16 dX7_habit_19 dX7_habit_20 (by decide) dX7_habit_21 dX7_habit_22 dX7_habit_25 dX7_habit_28
theorem lw_x7_habit_ {o : String} {i : Nat} (hl : Cond.methodLink o i yX7_habit ∈ lw_all) : GoodIn lw_all (wsV o i RX7 yX7_habit (ws_ yX7_habit cX7_habit 5 (some (.object "ClaspedFair$Habit")))) := lw_V hl q959 qs28 q157 q960
theorem nn_x7_habit : yX7_habit.cls = RX7 ∧ yX7_habit.cls ≠ "java/lang/invoke/MethodHandle" ∧ yX7_habit.cls ≠ "java/lang/invoke/VarHandle" ∧ (parseMethodDescriptor yX7_habit.desc).map (fun d => d.parameters.length) = some 1 := by decide +kernel
noncomputable def x7_kin_L4 (N : Nat) (Bc : Nat) (u : gz_N) : Nat → gz_S → gz_R → gz_V → Nat → gp_O gz_N
  | 0, _, _, _, _ => none
  | n + 1, Ds, Df, V, c => (if (V u 4) = 0 then gz_bd (Df u 1) (fun n102 => gz_gd ((90 ≤ n102.1 ∧ Ds n102 = some (100, 12)) ∧ (n102.1 = 98 ∧ Bc ≤ n102.2.1)) (some (.inr (Ds, Df, V, c, n102)))) else (if (V u 4) = 11 then (if (V u 7) = 16 then some (.inl (3, V u 3, c + 1)) else gz_bd (x7_next N Ds Df V u) (fun V108 => gp_bx c (x7_person N Ds Df V108 c u) (fun Ds110 Df111 V112 c113 r114 => gp_bx c113 (x7_must N Ds110 Df111 V112 c113 u 20) (fun Ds116 Df117 V118 c119 _ => (if (V118 u 4) = 2 then (if (V118 u 5) = r114 then some (.inl (2, V118 u 3, c119 + 1)) else gp_bx c119 (x7_person N Ds116 Df117 V118 c119 u) (fun Ds154 Df155 V156 c157 r158 => gp_bx c157 (x7_must N Ds154 Df155 V156 c157 u 59) (fun Ds160 Df161 V162 c163 _ => gz_bd (Df161 u 1) (fun n166 => gz_gd ((90 ≤ n166.1 ∧ Ds160 n166 = some (100, 12)) ∧ (n166.1 = 98 ∧ Bc ≤ n166.2.1)) (gz_gd (gz_inb r114 12 = true) (gz_gd (gz_inb r114 12 = true) (gz_let (gz_up V162 n166 r114.toNatClampNeg ((V162 n166 r114.toNatClampNeg) ||| ((1 : Int32) <<< (r158 &&& 31)))) (fun V172 => gz_bd (Df161 u 1) (fun n174 => gz_gd ((90 ≤ n174.1 ∧ Ds160 n174 = some (100, 12)) ∧ (n174.1 = 98 ∧ Bc ≤ n174.2.1)) (gz_gd (gz_inb r158 12 = true) (gz_gd (gz_inb r158 12 = true) (gz_let (gz_up V172 n174 r158.toNatClampNeg ((V172 n174 r158.toNatClampNeg) ||| ((1 : Int32) <<< (r114 &&& 31)))) (fun V180 => gz_let (gz_up V180 u 7 ((V180 u 7) + 1)) (fun V182 => x7_kin_L4 N Bc u n Ds160 Df161 V182 c163)))))))))))))) else gp_bx c119 (x7_person N Ds116 Df117 V118 c119 u) (fun Ds123 Df124 V125 c126 r127 => gp_bx c126 (x7_must N Ds123 Df124 V125 c126 u 59) (fun Ds129 Df130 V131 c132 _ => gz_bd (Df130 u 1) (fun n135 => gz_gd ((90 ≤ n135.1 ∧ Ds129 n135 = some (100, 12)) ∧ (n135.1 = 98 ∧ Bc ≤ n135.2.1)) (gz_gd (gz_inb r114 12 = true) (gz_gd (gz_inb r114 12 = true) (gz_let (gz_up V131 n135 r114.toNatClampNeg ((V131 n135 r114.toNatClampNeg) ||| ((1 : Int32) <<< (r127 &&& 31)))) (fun V141 => gz_bd (Df130 u 1) (fun n143 => gz_gd ((90 ≤ n143.1 ∧ Ds129 n143 = some (100, 12)) ∧ (n143.1 = 98 ∧ Bc ≤ n143.2.1)) (gz_gd (gz_inb r127 12 = true) (gz_gd (gz_inb r127 12 = true) (gz_let (gz_up V141 n143 r127.toNatClampNeg ((V141 n143 r127.toNatClampNeg) ||| ((1 : Int32) <<< (r114 &&& 31)))) (fun V149 => gz_let (gz_up V149 u 7 ((V149 u 7) + 1)) (fun V151 => x7_kin_L4 N Bc u n Ds129 Df130 V151 c132)))))))))))))))))) else some (.inl (1, V u 3, c + 1))))
theorem w_x7_kin_L4 {X : gz_X} {B : gp_B} {E : gp_E} {N Bc q : Nat} {u : gz_N} {o : gp_R gz_N} (hX : gz_ok X cX7_kin RX7 "kin" 3 (gp_rm 11 231 q) (some (.array .int))) (hE : gp_end X B E gp_pK gp_rA o 11 231) (hnu : gp_nn B u) (hBc : B.2.2.2.2 = Bc) : ∀ (n : Nat) {Ds : gz_S} {Df : gz_R} {V : gz_V} {c : Nat}, (90 ≤ u.1 ∧ Ds u = some (7, 9)) → x7_kin_L4 N Bc u n Ds Df V c = some o → gP X 3 B E Ds Df V c 4 (fun ad => [(0, .ref (ad u))]) (fun _ => []) := by
  intro n
  induction n with
  | zero => intro Ds Df V c hu h; rw [x7_kin_L4] at h; cases h
  | succ n ih =>
    intro Ds Df V c hu h
    rw [x7_kin_L4] at h
    intro ad hI
    refine gz_aload_n (q := 0) hX dX7_kin_4 rfl rfl ?_
    refine xg_X7_121 hX (xs_dyn hu) dX7_kin_5 ?_
    refine gz_if_eq (tgt := 147) hX dX7_kin_8 (by decide) (fun c_101 => ?_) (fun c_101 => ?_)
    · have h := gz_ifp c_101 h
      refine gz_aload_n (q := 0) hX dX7_kin_147 rfl rfl ?_
      obtain ⟨n102, e103, h⟩ := gz_bd_o h
      obtain ⟨b105, h⟩ := gz_gd_o h
      have hk104 := b105.1
      have hk104n : gp_nn B n102 := ⟨b105.2.1, by rw [hBc]; exact b105.2.2⟩
      refine xg_X7_15 (n2 := n102) hX (xs_dyn hu) ((xr_dyn (hu).1).trans e103) dX7_kin_148 ?_
      exact gp_aret hX hE hI rfl (Or.inr ⟨_, rfl⟩) hk104 h dX7_kin_151
    · have h := gz_ifn c_101 h
      refine gz_aload_n (q := 0) hX dX7_kin_11 rfl rfl ?_
      refine xg_X7_121 hX (xs_dyn hu) dX7_kin_12 ?_
      refine gz_bipush (v := 11) hX dX7_kin_15 gl_b_11 ?_
      refine gz_icmp_eq (tgt := 33) hX dX7_kin_17 (by decide) (fun c_106 => ?_) (fun c_106 => ?_)
      · have h := gz_ifp c_106 h
        refine gz_aload_n (q := 0) hX dX7_kin_33 rfl rfl ?_
        refine xg_X7_254 hX (xs_dyn hu) dX7_kin_34 ?_
        refine gz_bipush (v := 16) hX dX7_kin_37 gl_b_16 ?_
        refine gz_icmp_ne (tgt := 55) hX dX7_kin_39 (by decide) (fun c_107 => ?_) (fun c_107 => ?_)
        · have h := gz_ifn c_107 h
          refine gz_aload_n (q := 0) hX dX7_kin_55 rfl rfl ?_
          obtain ⟨V108, e109, h⟩ := gz_bd_o h
          refine gu_callV (ci := 7) (n := u) (As := []) hX (c_x7_next hu e109) (lw_x7_next_ q555) rfl rfl nn_x7_next ⟨Nat.le_of_ble_eq_true rfl, Nat.le_of_ble_eq_true rfl⟩ (gp_hf hX hE hI) (by decide) rfl (xs_dyn hu) rfl rfl (Nat.le_of_ble_eq_true rfl) dX7_kin_56 rfl ?_
          have hI := hI.next hnu e109
          refine gz_aload_n (q := 0) hX dX7_kin_59 rfl rfl ?_
          refine gp_call (ci := 7) (n := u) (As := []) hX hE hI h (fun o1 e1 hc1 => (c_x7_person hE.2.2.2.2.1 hI.1 hc1 hu hnu e1)) (lw_x7_person_ q961) nn_x7_person ⟨Nat.le_of_ble_eq_true rfl, Nat.le_of_ble_eq_true rfl⟩ (by decide) rfl (xs_dyn hu) rfl (fun ad => [(0, .ref (ad u))]) (fun ad => []) rfl (Nat.le_of_ble_eq_true rfl) (fun ad2 h2 => by have e0 := h2 u (Or.inl (gz_nn (xs_dyn hu))); exact ⟨by first | rfl | simp only [e0], by first | rfl | simp only [e0]⟩) dX7_kin_60 (fun Ds110 Df111 V112 c113 r114 h hgr hP115 => ?_)
          have hu := gp_up hgr hu
          intro ad hI
          refine gz_istore_n (lv2 := [(1, .int r114), (0, .ref (ad u))]) hX dX7_kin_63 rfl (by decide) rfl ?_
          refine gz_aload_n (q := 1) hX dX7_kin_64 rfl rfl ?_
          refine gz_bipush (v := 20) hX dX7_kin_65 gl_b_20 ?_
          refine gp_call (ci := 7) (n := u) (As := [.int 20]) hX hE hI h (fun o1 e1 hc1 => (c_x7_must hE.2.2.2.2.1 hI.1 hc1 hu hnu e1)) (lw_x7_must_ q824) nn_x7_must ⟨Nat.le_of_ble_eq_true rfl, Nat.le_of_ble_eq_true rfl⟩ (by decide) rfl (xs_dyn hu) rfl (fun ad => [(1, .int r114), (0, .ref (ad u))]) (fun ad => []) rfl (Nat.le_of_ble_eq_true rfl) (fun ad2 h2 => by have e0 := h2 u (Or.inl (gz_nn (xs_dyn hu))); exact ⟨by first | rfl | simp only [e0], by first | rfl | simp only [e0]⟩) dX7_kin_67 (fun Ds116 Df117 V118 c119 _ h hgr hP121 => ?_)
          have hu := gp_up hgr hu
          intro ad hI
          refine gz_aload_n (q := 1) hX dX7_kin_70 rfl rfl ?_
          refine xg_X7_121 hX (xs_dyn hu) dX7_kin_71 ?_
          refine gz_iconst (v := 2) hX dX7_kin_74 gl_c_2 ?_
          refine gz_icmp_ne (tgt := 99) hX dX7_kin_75 (by decide) (fun c_122 => ?_) (fun c_122 => ?_)
          · have h := gz_ifn c_122 h
            refine gz_aload_n (q := 1) hX dX7_kin_99 rfl rfl ?_
            refine gp_call (ci := 7) (n := u) (As := []) hX hE hI h (fun o1 e1 hc1 => (c_x7_person hE.2.2.2.2.1 hI.1 hc1 hu hnu e1)) (lw_x7_person_ q961) nn_x7_person ⟨Nat.le_of_ble_eq_true rfl, Nat.le_of_ble_eq_true rfl⟩ (by decide) rfl (xs_dyn hu) rfl (fun ad => [(1, .int r114), (0, .ref (ad u))]) (fun ad => []) rfl (Nat.le_of_ble_eq_true rfl) (fun ad2 h2 => by have e0 := h2 u (Or.inl (gz_nn (xs_dyn hu))); exact ⟨by first | rfl | simp only [e0], by first | rfl | simp only [e0]⟩) dX7_kin_100 (fun Ds123 Df124 V125 c126 r127 h hgr hP128 => ?_)
            have hu := gp_up hgr hu
            intro ad hI
            refine gz_istore_n (lv2 := [(2, .int r127), (1, .int r114), (0, .ref (ad u))]) hX dX7_kin_103 rfl (by decide) rfl ?_
            refine gz_aload_n (q := 2) hX dX7_kin_104 rfl rfl ?_
            refine gz_bipush (v := 59) hX dX7_kin_105 gl_b_59 ?_
            refine gp_call (ci := 7) (n := u) (As := [.int 59]) hX hE hI h (fun o1 e1 hc1 => (c_x7_must hE.2.2.2.2.1 hI.1 hc1 hu hnu e1)) (lw_x7_must_ q824) nn_x7_must ⟨Nat.le_of_ble_eq_true rfl, Nat.le_of_ble_eq_true rfl⟩ (by decide) rfl (xs_dyn hu) rfl (fun ad => [(2, .int r127), (1, .int r114), (0, .ref (ad u))]) (fun ad => []) rfl (Nat.le_of_ble_eq_true rfl) (fun ad2 h2 => by have e0 := h2 u (Or.inl (gz_nn (xs_dyn hu))); exact ⟨by first | rfl | simp only [e0], by first | rfl | simp only [e0]⟩) dX7_kin_107 (fun Ds129 Df130 V131 c132 _ h hgr hP134 => ?_)
            have hu := gp_up hgr hu
            intro ad hI
            refine gz_aload_n (q := 2) hX dX7_kin_110 rfl rfl ?_
            obtain ⟨n135, e136, h⟩ := gz_bd_o h
            obtain ⟨b138, h⟩ := gz_gd_o h
            have hk137 := b138.1
            have hk137n : gp_nn B n135 := ⟨b138.2.1, by rw [hBc]; exact b138.2.2⟩
            refine xg_X7_15 (n2 := n135) hX (xs_dyn hu) ((xr_dyn (hu).1).trans e136) dX7_kin_111 ?_
            refine gz_iload_n (q := 1) hX dX7_kin_114 rfl rfl ?_
            refine gz_dup2 hX dX7_kin_115 rfl rfl ?_
            obtain ⟨b139, h⟩ := gz_gd_o h
            refine gz_iald (L := 12) hX (xs_dyn hk137) (gz_inb_o b139) dX7_kin_116 ?_
            refine gz_iconst (v := 1) hX dX7_kin_117 gl_c_1 ?_
            refine gz_iload_n (q := 0) hX dX7_kin_118 rfl rfl ?_
            refine gz_ishl hX dX7_kin_119 ?_
            refine gz_ior hX dX7_kin_120 ?_
            obtain ⟨b140, h⟩ := gz_gd_o h
            obtain ⟨V141, e142, h⟩ := gz_let_o h
            refine gz_iast (L := 12) hX (xs_dyn hk137) (by have := (hk137).1; omega) (gz_inb_o b140) dX7_kin_121 e142 ?_
            have hI := hI.up hk137n e142
            refine gz_aload_n (q := 2) hX dX7_kin_122 rfl rfl ?_
            obtain ⟨n143, e144, h⟩ := gz_bd_o h
            obtain ⟨b146, h⟩ := gz_gd_o h
            have hk145 := b146.1
            have hk145n : gp_nn B n143 := ⟨b146.2.1, by rw [hBc]; exact b146.2.2⟩
            refine xg_X7_15 (n2 := n143) hX (xs_dyn hu) ((xr_dyn (hu).1).trans e144) dX7_kin_123 ?_
            refine gz_iload_n (q := 0) hX dX7_kin_126 rfl rfl ?_
            refine gz_dup2 hX dX7_kin_127 rfl rfl ?_
            obtain ⟨b147, h⟩ := gz_gd_o h
            refine gz_iald (L := 12) hX (xs_dyn hk145) (gz_inb_o b147) dX7_kin_128 ?_
            refine gz_iconst (v := 1) hX dX7_kin_129 gl_c_1 ?_
            refine gz_iload_n (q := 1) hX dX7_kin_130 rfl rfl ?_
            refine gz_ishl hX dX7_kin_131 ?_
            refine gz_ior hX dX7_kin_132 ?_
            obtain ⟨b148, h⟩ := gz_gd_o h
            obtain ⟨V149, e150, h⟩ := gz_let_o h
            refine gz_iast (L := 12) hX (xs_dyn hk145) (by have := (hk145).1; omega) (gz_inb_o b148) dX7_kin_133 e150 ?_
            have hI := hI.up hk145n e150
            refine gz_aload_n (q := 2) hX dX7_kin_134 rfl rfl ?_
            refine gz_dupa hX dX7_kin_135 ?_
            refine xg_X7_254 hX (xs_dyn hu) dX7_kin_136 ?_
            refine gz_iconst (v := 1) hX dX7_kin_139 gl_c_1 ?_
            refine gz_iadd hX dX7_kin_140 ?_
            obtain ⟨V151, e152, h⟩ := gz_let_o h
            refine xp_X7_254 hX (xs_dyn hu) (by have := (hu).1; omega) dX7_kin_141 e152 ?_
            have hI := hI.up hnu e152
            refine gz_goto (tgt := 4) hX dX7_kin_144 (by decide) ?_
            exact gz_lv [2] rfl (ih hu h ad hI)
          · have h := gz_ifp c_122 h
            refine gz_aload_n (q := 1) hX dX7_kin_78 rfl rfl ?_
            refine xg_X7_129 hX (xs_dyn hu) dX7_kin_79 ?_
            refine gz_iload_n (q := 0) hX dX7_kin_82 rfl rfl ?_
            refine gz_icmp_ne (tgt := 99) hX dX7_kin_83 (by decide) (fun c_153 => ?_) (fun c_153 => ?_)
            · have h := gz_ifn c_153 h
              refine gz_aload_n (q := 1) hX dX7_kin_99 rfl rfl ?_
              refine gp_call (ci := 7) (n := u) (As := []) hX hE hI h (fun o1 e1 hc1 => (c_x7_person hE.2.2.2.2.1 hI.1 hc1 hu hnu e1)) (lw_x7_person_ q961) nn_x7_person ⟨Nat.le_of_ble_eq_true rfl, Nat.le_of_ble_eq_true rfl⟩ (by decide) rfl (xs_dyn hu) rfl (fun ad => [(1, .int r114), (0, .ref (ad u))]) (fun ad => []) rfl (Nat.le_of_ble_eq_true rfl) (fun ad2 h2 => by have e0 := h2 u (Or.inl (gz_nn (xs_dyn hu))); exact ⟨by first | rfl | simp only [e0], by first | rfl | simp only [e0]⟩) dX7_kin_100 (fun Ds154 Df155 V156 c157 r158 h hgr hP159 => ?_)
              have hu := gp_up hgr hu
              intro ad hI
              refine gz_istore_n (lv2 := [(2, .int r158), (1, .int r114), (0, .ref (ad u))]) hX dX7_kin_103 rfl (by decide) rfl ?_
              refine gz_aload_n (q := 2) hX dX7_kin_104 rfl rfl ?_
              refine gz_bipush (v := 59) hX dX7_kin_105 gl_b_59 ?_
              refine gp_call (ci := 7) (n := u) (As := [.int 59]) hX hE hI h (fun o1 e1 hc1 => (c_x7_must hE.2.2.2.2.1 hI.1 hc1 hu hnu e1)) (lw_x7_must_ q824) nn_x7_must ⟨Nat.le_of_ble_eq_true rfl, Nat.le_of_ble_eq_true rfl⟩ (by decide) rfl (xs_dyn hu) rfl (fun ad => [(2, .int r158), (1, .int r114), (0, .ref (ad u))]) (fun ad => []) rfl (Nat.le_of_ble_eq_true rfl) (fun ad2 h2 => by have e0 := h2 u (Or.inl (gz_nn (xs_dyn hu))); exact ⟨by first | rfl | simp only [e0], by first | rfl | simp only [e0]⟩) dX7_kin_107 (fun Ds160 Df161 V162 c163 _ h hgr hP165 => ?_)
              have hu := gp_up hgr hu
              intro ad hI
              refine gz_aload_n (q := 2) hX dX7_kin_110 rfl rfl ?_
              obtain ⟨n166, e167, h⟩ := gz_bd_o h
              obtain ⟨b169, h⟩ := gz_gd_o h
              have hk168 := b169.1
              have hk168n : gp_nn B n166 := ⟨b169.2.1, by rw [hBc]; exact b169.2.2⟩
              refine xg_X7_15 (n2 := n166) hX (xs_dyn hu) ((xr_dyn (hu).1).trans e167) dX7_kin_111 ?_
              refine gz_iload_n (q := 1) hX dX7_kin_114 rfl rfl ?_
              refine gz_dup2 hX dX7_kin_115 rfl rfl ?_
              obtain ⟨b170, h⟩ := gz_gd_o h
              refine gz_iald (L := 12) hX (xs_dyn hk168) (gz_inb_o b170) dX7_kin_116 ?_
              refine gz_iconst (v := 1) hX dX7_kin_117 gl_c_1 ?_
              refine gz_iload_n (q := 0) hX dX7_kin_118 rfl rfl ?_
              refine gz_ishl hX dX7_kin_119 ?_
              refine gz_ior hX dX7_kin_120 ?_
              obtain ⟨b171, h⟩ := gz_gd_o h
              obtain ⟨V172, e173, h⟩ := gz_let_o h
              refine gz_iast (L := 12) hX (xs_dyn hk168) (by have := (hk168).1; omega) (gz_inb_o b171) dX7_kin_121 e173 ?_
              have hI := hI.up hk168n e173
              refine gz_aload_n (q := 2) hX dX7_kin_122 rfl rfl ?_
              obtain ⟨n174, e175, h⟩ := gz_bd_o h
              obtain ⟨b177, h⟩ := gz_gd_o h
              have hk176 := b177.1
              have hk176n : gp_nn B n174 := ⟨b177.2.1, by rw [hBc]; exact b177.2.2⟩
              refine xg_X7_15 (n2 := n174) hX (xs_dyn hu) ((xr_dyn (hu).1).trans e175) dX7_kin_123 ?_
              refine gz_iload_n (q := 0) hX dX7_kin_126 rfl rfl ?_
              refine gz_dup2 hX dX7_kin_127 rfl rfl ?_
              obtain ⟨b178, h⟩ := gz_gd_o h
              refine gz_iald (L := 12) hX (xs_dyn hk176) (gz_inb_o b178) dX7_kin_128 ?_
              refine gz_iconst (v := 1) hX dX7_kin_129 gl_c_1 ?_
              refine gz_iload_n (q := 1) hX dX7_kin_130 rfl rfl ?_
              refine gz_ishl hX dX7_kin_131 ?_
              refine gz_ior hX dX7_kin_132 ?_
              obtain ⟨b179, h⟩ := gz_gd_o h
              obtain ⟨V180, e181, h⟩ := gz_let_o h
              refine gz_iast (L := 12) hX (xs_dyn hk176) (by have := (hk176).1; omega) (gz_inb_o b179) dX7_kin_133 e181 ?_
              have hI := hI.up hk176n e181
              refine gz_aload_n (q := 2) hX dX7_kin_134 rfl rfl ?_
              refine gz_dupa hX dX7_kin_135 ?_
              refine xg_X7_254 hX (xs_dyn hu) dX7_kin_136 ?_
              refine gz_iconst (v := 1) hX dX7_kin_139 gl_c_1 ?_
              refine gz_iadd hX dX7_kin_140 ?_
              obtain ⟨V182, e183, h⟩ := gz_let_o h
              refine xp_X7_254 hX (xs_dyn hu) (by have := (hu).1; omega) dX7_kin_141 e183 ?_
              have hI := hI.up hnu e183
              refine gz_goto (tgt := 4) hX dX7_kin_144 (by decide) ?_
              exact gz_lv [2] rfl (ih hu h ad hI)
            · have h := gz_ifp c_153 h
              exact gp_throw (q0 := 1) hX hE hI hu h rfl ⟨Nat.le_of_ble_eq_true rfl, Nat.le_of_ble_eq_true rfl⟩ dX7_kin_86 dX7_kin_89 dX7_kin_90 (by decide) dX7_kin_91 dX7_kin_92 dX7_kin_95 dX7_kin_98
        · have h := gz_ifp c_107 h
          exact gp_throw (q0 := 0) hX hE hI hu h rfl ⟨Nat.le_of_ble_eq_true rfl, Nat.le_of_ble_eq_true rfl⟩ dX7_kin_42 dX7_kin_45 dX7_kin_46 (by decide) dX7_kin_47 dX7_kin_48 dX7_kin_51 dX7_kin_54
      · have h := gz_ifn c_106 h
        exact gp_throw (q0 := 0) hX hE hI hu h rfl ⟨Nat.le_of_ble_eq_true rfl, Nat.le_of_ble_eq_true rfl⟩ dX7_kin_20 dX7_kin_23 dX7_kin_24 (by decide) dX7_kin_25 dX7_kin_26 dX7_kin_29 dX7_kin_32
noncomputable def x7_kin (N : Nat) (Bc : Nat) (Ds : gz_S) (Df : gz_R) (V : gz_V) (c : Nat) (u : gz_N) : gp_O gz_N := gz_bd (x7_next N Ds Df V u) (fun V1 => x7_kin_L4 N Bc u N Ds Df V1 c)
theorem c_x7_kin {l : Launch} {D : va_G} {aC : Nat → ClassId} {ad : gz_A0} {N Bc : Nat} {Ds : gz_S} {Df : gz_R} {V : gz_V} {c : Nat} {u : gz_N} {B : gp_B} {o : gp_R gz_N} (htr : l.stackTraces = false) (hb : gp_ba B Ds Df V c ad) (hct : c ≤ gp_ct o) (hu : 90 ≤ u.1 ∧ Ds u = some (7, 9)) (hnu : gp_nn B u) (hBc : B.2.2.2.2 = Bc) (h : x7_kin N Bc Ds Df V c u = some o) : gp_Met l yX7_kin cX7_kin 3 (some (.array .int)) 11 231 D aC ad Ds Df V c [.ref (ad u)] B gp_pK gp_rA o := by
  refine gp_of (own := RX7) (mn := "kin") (lv := [(0, .ref (ad u))]) (by decide) rfl rfl (Nat.le_of_ble_eq_true rfl) rfl htr hb hct ?_
  intro X hX hE hI
  rw [x7_kin] at h
  refine gz_aload_n (q := 0) hX dX7_kin_0 rfl rfl ?_
  obtain ⟨V1, e2, h⟩ := gz_bd_o h
  refine gu_callV (ci := 7) (n := u) (As := []) hX (c_x7_next hu e2) (lw_x7_next_ q555) rfl rfl nn_x7_next ⟨Nat.le_of_ble_eq_true rfl, Nat.le_of_ble_eq_true rfl⟩ (gp_hf hX hE hI) (by decide) rfl (xs_dyn hu) rfl rfl (Nat.le_of_ble_eq_true rfl) dX7_kin_1 rfl ?_
  have hI := hI.next hnu e2
  exact gz_lv [0] rfl (w_x7_kin_L4 hX hE hnu hBc N hu h ad hI)
theorem lw_x7_kin_ {o : String} {i : Nat} (hl : Cond.methodLink o i yX7_kin ∈ lw_all) : GoodIn lw_all (wsV o i RX7 yX7_kin (ws_ yX7_kin cX7_kin 3 (some (.array .int)))) := lw_V hl q1012 q1013 q157 q1014
theorem nn_x7_kin : yX7_kin.cls = RX7 ∧ yX7_kin.cls ≠ "java/lang/invoke/MethodHandle" ∧ yX7_kin.cls ≠ "java/lang/invoke/VarHandle" ∧ (parseMethodDescriptor yX7_kin.desc).map (fun d => d.parameters.length) = some 0 := by decide +kernel
