/-! READER, its parser. Printed by wip/D-99505w/gen/mkx8.py -/
set_option maxRecDepth 100000
noncomputable def x7_number (N : Nat) (Ds : gz_S) (Df : gz_R) (V : gz_V) (c : Nat) (u : gz_N) (a1 : Int32) (a2 : Int32) : gp_O Int32 := (if (V u 4) = 2 then (if (x0_isIn (V u 5) a1 a2) = 0 then some (.inl (2, V u 3, c + 1)) else gz_let ((V u 5)) (fun x3 => gz_bd (x7_next N Ds Df V u) (fun V5 => some (.inr (Ds, Df, V5, c, x3))))) else some (.inl (1, V u 3, c + 1)))
theorem c_x7_number {l : Launch} {D : va_G} {aC : Nat → ClassId} {ad : gz_A0} {N : Nat} {Ds : gz_S} {Df : gz_R} {V : gz_V} {c : Nat} {u : gz_N} {a1 : Int32} {a2 : Int32} {B : gp_B} {o : gp_R Int32} (htr : l.stackTraces = false) (hb : gp_ba B Ds Df V c ad) (hct : c ≤ gp_ct o) (hu : 90 ≤ u.1 ∧ Ds u = some (7, 9)) (hnu : gp_nn B u) (h : x7_number N Ds Df V c u a1 a2 = some o) : gp_Met l yX7_number cX7_number 4 (some .int) 9 188 D aC ad Ds Df V c [.ref (ad u), .int a1, .int a2] B gp_pI gp_rI o := by
  refine gp_of (own := RX7) (mn := "number") (lv := [(0, .ref (ad u)), (1, .int a1), (2, .int a2)]) (by decide) rfl rfl (Nat.le_of_ble_eq_true rfl) rfl htr hb hct ?_
  intro X hX hE hI
  rw [x7_number] at h
  refine gz_aload_n (q := 0) hX dX7_number_0 rfl rfl ?_
  refine xg_X7_121 hX (xs_dyn hu) dX7_number_1 ?_
  refine gz_iconst (v := 2) hX dX7_number_4 gl_c_2 ?_
  refine gz_icmp_eq (tgt := 21) hX dX7_number_5 (by decide) (fun c_1 => ?_) (fun c_1 => ?_)
  · have h := gz_ifp c_1 h
    refine gz_aload_n (q := 0) hX dX7_number_21 rfl rfl ?_
    refine xg_X7_129 hX (xs_dyn hu) dX7_number_22 ?_
    refine gz_iload_n (q := 1) hX dX7_number_25 rfl rfl ?_
    refine gz_iload_n (q := 2) hX dX7_number_26 rfl rfl ?_
    refine gu_callSN (As := [.int (V u 5), .int a1, .int a2]) hX (c_x0_isIn rfl) q567 (lw_meth q504) q144 q503 rfl rfl nn_x0_isIn ⟨Nat.le_of_ble_eq_true rfl, Nat.le_of_ble_eq_true rfl⟩ (gp_hf hX hE hI) rfl rfl (Nat.le_of_ble_eq_true rfl) dX7_number_27 rfl ?_
    refine gz_if_ne (tgt := 46) hX dX7_number_30 (by decide) (fun c_2 => ?_) (fun c_2 => ?_)
    · have h := gz_ifn c_2 h
      refine gz_aload_n (q := 0) hX dX7_number_46 rfl rfl ?_
      refine xg_X7_129 hX (xs_dyn hu) dX7_number_47 ?_
      obtain ⟨x3, e4, h⟩ := gz_let_o h
      refine gz_nm e4 ?_
      refine gz_istore_n (lv2 := [(3, .int x3), (0, .ref (ad u)), (1, .int a1), (2, .int a2)]) hX dX7_number_50 rfl (by decide) rfl ?_
      refine gz_lv (lv2 := [(3, .int x3), (0, .ref (ad u))]) [0, 1] rfl ?_
      refine gz_aload_n (q := 1) hX dX7_number_51 rfl rfl ?_
      obtain ⟨V5, e6, h⟩ := gz_bd_o h
      refine gu_callV (ci := 7) (n := u) (As := []) hX (c_x7_next hu e6) (lw_x7_next_ q555) rfl rfl nn_x7_next ⟨Nat.le_of_ble_eq_true rfl, Nat.le_of_ble_eq_true rfl⟩ (gp_hf hX hE hI) (by decide) rfl (xs_dyn hu) rfl rfl (Nat.le_of_ble_eq_true rfl) dX7_number_52 rfl ?_
      have hI := hI.next hnu e6
      refine gz_iload_n (q := 0) hX dX7_number_55 rfl rfl ?_
      exact gp_iret hX hE hI trivial h dX7_number_56
    · have h := gz_ifp c_2 h
      exact gp_throw (q0 := 0) hX hE hI hu h rfl ⟨Nat.le_of_ble_eq_true rfl, Nat.le_of_ble_eq_true rfl⟩ dX7_number_33 dX7_number_36 dX7_number_37 (by decide) dX7_number_38 dX7_number_39 dX7_number_42 dX7_number_45
  · have h := gz_ifn c_1 h
    exact gp_throw (q0 := 0) hX hE hI hu h rfl ⟨Nat.le_of_ble_eq_true rfl, Nat.le_of_ble_eq_true rfl⟩ dX7_number_8 dX7_number_11 dX7_number_12 (by decide) dX7_number_13 dX7_number_14 dX7_number_17 dX7_number_20
theorem lw_x7_number_ {o : String} {i : Nat} (hl : Cond.methodLink o i yX7_number ∈ lw_all) : GoodIn lw_all (wsV o i RX7 yX7_number (ws_ yX7_number cX7_number 4 (some .int))) := lw_V hl q759 qs17 q157 q760
theorem nn_x7_number : yX7_number.cls = RX7 ∧ yX7_number.cls ≠ "java/lang/invoke/MethodHandle" ∧ yX7_number.cls ≠ "java/lang/invoke/VarHandle" ∧ (parseMethodDescriptor yX7_number.desc).map (fun d => d.parameters.length) = some 2 := by decide +kernel
noncomputable def x7_must (N : Nat) (Ds : gz_S) (Df : gz_R) (V : gz_V) (c : Nat) (u : gz_N) (a1 : Int32) : gp_O Unit := (if (V u 4) = a1 then gz_bd (x7_next N Ds Df V u) (fun V2 => some (.inr (Ds, Df, V2, c, ()))) else some (.inl (1, V u 3, c + 1)))
theorem c_x7_must {l : Launch} {D : va_G} {aC : Nat → ClassId} {ad : gz_A0} {N : Nat} {Ds : gz_S} {Df : gz_R} {V : gz_V} {c : Nat} {u : gz_N} {a1 : Int32} {B : gp_B} {o : gp_R Unit} (htr : l.stackTraces = false) (hb : gp_ba B Ds Df V c ad) (hct : c ≤ gp_ct o) (hu : 90 ≤ u.1 ∧ Ds u = some (7, 9)) (hnu : gp_nn B u) (h : x7_must N Ds Df V c u a1 = some o) : gp_Met l yX7_must cX7_must 2 none 9 188 D aC ad Ds Df V c [.ref (ad u), .int a1] B gp_pU gp_rU o := by
  refine gp_of (own := RX7) (mn := "must") (lv := [(0, .ref (ad u)), (1, .int a1)]) (by decide) rfl rfl (Nat.le_of_ble_eq_true rfl) rfl htr hb hct ?_
  intro X hX hE hI
  rw [x7_must] at h
  refine gz_aload_n (q := 0) hX dX7_must_0 rfl rfl ?_
  refine xg_X7_121 hX (xs_dyn hu) dX7_must_1 ?_
  refine gz_iload_n (q := 1) hX dX7_must_4 rfl rfl ?_
  refine gz_icmp_eq (tgt := 21) hX dX7_must_5 (by decide) (fun c_1 => ?_) (fun c_1 => ?_)
  · have h := gz_ifp c_1 h
    refine gz_aload_n (q := 0) hX dX7_must_21 rfl rfl ?_
    obtain ⟨V2, e3, h⟩ := gz_bd_o h
    refine gu_callV (ci := 7) (n := u) (As := []) hX (c_x7_next hu e3) (lw_x7_next_ q555) rfl rfl nn_x7_next ⟨Nat.le_of_ble_eq_true rfl, Nat.le_of_ble_eq_true rfl⟩ (gp_hf hX hE hI) (by decide) rfl (xs_dyn hu) rfl rfl (Nat.le_of_ble_eq_true rfl) dX7_must_22 rfl ?_
    have hI := hI.next hnu e3
    exact gp_vret hX hE hI trivial h dX7_must_25
  · have h := gz_ifn c_1 h
    exact gp_throw (q0 := 0) hX hE hI hu h rfl ⟨Nat.le_of_ble_eq_true rfl, Nat.le_of_ble_eq_true rfl⟩ dX7_must_8 dX7_must_11 dX7_must_12 (by decide) dX7_must_13 dX7_must_14 dX7_must_17 dX7_must_20
theorem lw_x7_must_ {o : String} {i : Nat} (hl : Cond.methodLink o i yX7_must ∈ lw_all) : GoodIn lw_all (wsV o i RX7 yX7_must (ws_ yX7_must cX7_must 2 none)) := lw_V hl q826 qs22 q157 q827
theorem nn_x7_must : yX7_must.cls = RX7 ∧ yX7_must.cls ≠ "java/lang/invoke/MethodHandle" ∧ yX7_must.cls ≠ "java/lang/invoke/VarHandle" ∧ (parseMethodDescriptor yX7_must.desc).map (fun d => d.parameters.length) = some 1 := by decide +kernel
noncomputable def x7_opens (N : Nat) (Ds : gz_S) (Df : gz_R) (V : gz_V) (c : Nat) (u : gz_N) : gp_O Unit := (if (V u 6) = 8 then some (.inl (3, V u 3, c + 1)) else gz_let (gz_up V u 6 ((V u 6) + 1)) (fun V2 => gz_bd (x7_next N Ds Df V2 u) (fun V4 => some (.inr (Ds, Df, V4, c, ())))))
theorem c_x7_opens {l : Launch} {D : va_G} {aC : Nat → ClassId} {ad : gz_A0} {N : Nat} {Ds : gz_S} {Df : gz_R} {V : gz_V} {c : Nat} {u : gz_N} {B : gp_B} {o : gp_R Unit} (htr : l.stackTraces = false) (hb : gp_ba B Ds Df V c ad) (hct : c ≤ gp_ct o) (hu : 90 ≤ u.1 ∧ Ds u = some (7, 9)) (hnu : gp_nn B u) (h : x7_opens N Ds Df V c u = some o) : gp_Met l yX7_opens cX7_opens 1 none 9 188 D aC ad Ds Df V c [.ref (ad u)] B gp_pU gp_rU o := by
  refine gp_of (own := RX7) (mn := "opens") (lv := [(0, .ref (ad u))]) (by decide) rfl rfl (Nat.le_of_ble_eq_true rfl) rfl htr hb hct ?_
  intro X hX hE hI
  rw [x7_opens] at h
  refine gz_aload_n (q := 0) hX dX7_opens_0 rfl rfl ?_
  refine xg_X7_166 hX (xs_dyn hu) dX7_opens_1 ?_
  refine gz_bipush (v := 8) hX dX7_opens_4 gl_b_8 ?_
  refine gz_icmp_ne (tgt := 22) hX dX7_opens_6 (by decide) (fun c_1 => ?_) (fun c_1 => ?_)
  · have h := gz_ifn c_1 h
    refine gz_aload_n (q := 0) hX dX7_opens_22 rfl rfl ?_
    refine gz_dupa hX dX7_opens_23 ?_
    refine xg_X7_166 hX (xs_dyn hu) dX7_opens_24 ?_
    refine gz_iconst (v := 1) hX dX7_opens_27 gl_c_1 ?_
    refine gz_iadd hX dX7_opens_28 ?_
    obtain ⟨V2, e3, h⟩ := gz_let_o h
    refine xp_X7_166 hX (xs_dyn hu) (by have := (hu).1; omega) dX7_opens_29 e3 ?_
    have hI := hI.up hnu e3
    refine gz_aload_n (q := 0) hX dX7_opens_32 rfl rfl ?_
    obtain ⟨V4, e5, h⟩ := gz_bd_o h
    refine gu_callV (ci := 7) (n := u) (As := []) hX (c_x7_next hu e5) (lw_x7_next_ q555) rfl rfl nn_x7_next ⟨Nat.le_of_ble_eq_true rfl, Nat.le_of_ble_eq_true rfl⟩ (gp_hf hX hE hI) (by decide) rfl (xs_dyn hu) rfl rfl (Nat.le_of_ble_eq_true rfl) dX7_opens_33 rfl ?_
    have hI := hI.next hnu e5
    exact gp_vret hX hE hI trivial h dX7_opens_36
  · have h := gz_ifp c_1 h
    exact gp_throw (q0 := 0) hX hE hI hu h rfl ⟨Nat.le_of_ble_eq_true rfl, Nat.le_of_ble_eq_true rfl⟩ dX7_opens_9 dX7_opens_12 dX7_opens_13 (by decide) dX7_opens_14 dX7_opens_15 dX7_opens_18 dX7_opens_21
theorem lw_x7_opens_ {o : String} {i : Nat} (hl : Cond.methodLink o i yX7_opens ∈ lw_all) : GoodIn lw_all (wsV o i RX7 yX7_opens (ws_ yX7_opens cX7_opens 1 none)) := lw_V hl q812 qs21 q157 q813
theorem nn_x7_opens : yX7_opens.cls = RX7 ∧ yX7_opens.cls ≠ "java/lang/invoke/MethodHandle" ∧ yX7_opens.cls ≠ "java/lang/invoke/VarHandle" ∧ (parseMethodDescriptor yX7_opens.desc).map (fun d => d.parameters.length) = some 0 := by decide +kernel
noncomputable def x7_behind (N : Nat) (Ds : gz_S) (Df : gz_R) (V : gz_V) (c : Nat) (u : gz_N) (a1 : Int32) (a2 : Int32) (a3 : Int32) : gp_O Int32 := gp_bx c (x7_must N Ds Df V c u a1) (fun Ds1 Df2 V3 c4 _ => gp_bx c4 (x7_number N Ds1 Df2 V3 c4 u a2 a3) (fun Ds7 Df8 V9 c10 r11 => some (.inr (Ds7, Df8, V9, c10, r11))))
theorem c_x7_behind {l : Launch} {D : va_G} {aC : Nat → ClassId} {ad : gz_A0} {N : Nat} {Ds : gz_S} {Df : gz_R} {V : gz_V} {c : Nat} {u : gz_N} {a1 : Int32} {a2 : Int32} {a3 : Int32} {B : gp_B} {o : gp_R Int32} (htr : l.stackTraces = false) (hb : gp_ba B Ds Df V c ad) (hct : c ≤ gp_ct o) (hu : 90 ≤ u.1 ∧ Ds u = some (7, 9)) (hnu : gp_nn B u) (h : x7_behind N Ds Df V c u a1 a2 a3 = some o) : gp_Met l yX7_behind cX7_behind 4 (some .int) 10 211 D aC ad Ds Df V c [.ref (ad u), .int a1, .int a2, .int a3] B gp_pI gp_rI o := by
  refine gp_of (own := RX7) (mn := "behind") (lv := [(0, .ref (ad u)), (1, .int a1), (2, .int a2), (3, .int a3)]) (by decide) rfl rfl (Nat.le_of_ble_eq_true rfl) rfl htr hb hct ?_
  intro X hX hE hI
  rw [x7_behind] at h
  refine gz_aload_n (q := 0) hX dX7_behind_0 rfl rfl ?_
  refine gz_iload_n (q := 1) hX dX7_behind_1 rfl rfl ?_
  refine gp_call (ci := 7) (n := u) (As := [.int a1]) hX hE hI h (fun o1 e1 hc1 => (c_x7_must hE.2.2.2.2.1 hI.1 hc1 hu hnu e1)) (lw_x7_must_ q824) nn_x7_must ⟨Nat.le_of_ble_eq_true rfl, Nat.le_of_ble_eq_true rfl⟩ (by decide) rfl (xs_dyn hu) rfl (fun ad => [(0, .ref (ad u)), (1, .int a1), (2, .int a2), (3, .int a3)]) (fun ad => []) rfl (Nat.le_of_ble_eq_true rfl) (fun ad2 h2 => by have e0 := h2 u (Or.inl (gz_nn (xs_dyn hu))); exact ⟨by first | rfl | simp only [e0], by first | rfl | simp only [e0]⟩) dX7_behind_2 (fun Ds1 Df2 V3 c4 _ h hgr hP6 => ?_)
  have hu := gp_up hgr hu
  intro ad hI
  refine gz_aload_n (q := 0) hX dX7_behind_5 rfl rfl ?_
  refine gz_iload_n (q := 2) hX dX7_behind_6 rfl rfl ?_
  refine gz_iload_n (q := 3) hX dX7_behind_7 rfl rfl ?_
  refine gp_call (ci := 7) (n := u) (As := [.int a2, .int a3]) hX hE hI h (fun o1 e1 hc1 => (c_x7_number hE.2.2.2.2.1 hI.1 hc1 hu hnu e1)) (lw_x7_number_ q757) nn_x7_number ⟨Nat.le_of_ble_eq_true rfl, Nat.le_of_ble_eq_true rfl⟩ (by decide) rfl (xs_dyn hu) rfl (fun ad => [(0, .ref (ad u)), (1, .int a1), (2, .int a2), (3, .int a3)]) (fun ad => []) rfl (Nat.le_of_ble_eq_true rfl) (fun ad2 h2 => by have e0 := h2 u (Or.inl (gz_nn (xs_dyn hu))); exact ⟨by first | rfl | simp only [e0], by first | rfl | simp only [e0]⟩) dX7_behind_8 (fun Ds7 Df8 V9 c10 r11 h hgr hP12 => ?_)
  have hu := gp_up hgr hu
  intro ad hI
  exact gp_iret hX hE hI trivial h dX7_behind_11
theorem lw_x7_behind_ {o : String} {i : Nat} (hl : Cond.methodLink o i yX7_behind ∈ lw_all) : GoodIn lw_all (wsV o i RX7 yX7_behind (ws_ yX7_behind cX7_behind 4 (some .int))) := lw_V hl q920 qs26 q157 q921
theorem nn_x7_behind : yX7_behind.cls = RX7 ∧ yX7_behind.cls ≠ "java/lang/invoke/MethodHandle" ∧ yX7_behind.cls ≠ "java/lang/invoke/VarHandle" ∧ (parseMethodDescriptor yX7_behind.desc).map (fun d => d.parameters.length) = some 3 := by decide +kernel
noncomputable def x7_person (N : Nat) (Ds : gz_S) (Df : gz_R) (V : gz_V) (c : Nat) (u : gz_N) : gp_O Int32 := gz_gd (Df u 8 = some (10, 0, 0)) (gp_bx c (x7_number N Ds Df V c u 0 ((V (20, 0, 0) 13) - 1)) (fun Ds2 Df3 V4 c5 r6 => some (.inr (Ds2, Df3, V4, c5, r6))))
theorem c_x7_person {l : Launch} {D : va_G} {aC : Nat → ClassId} {ad : gz_A0} {N : Nat} {Ds : gz_S} {Df : gz_R} {V : gz_V} {c : Nat} {u : gz_N} {B : gp_B} {o : gp_R Int32} (htr : l.stackTraces = false) (hb : gp_ba B Ds Df V c ad) (hct : c ≤ gp_ct o) (hu : 90 ≤ u.1 ∧ Ds u = some (7, 9)) (hnu : gp_nn B u) (h : x7_person N Ds Df V c u = some o) : gp_Met l yX7_person cX7_person 1 (some .int) 10 211 D aC ad Ds Df V c [.ref (ad u)] B gp_pI gp_rI o := by
  refine gp_of (own := RX7) (mn := "person") (lv := [(0, .ref (ad u))]) (by decide) rfl rfl (Nat.le_of_ble_eq_true rfl) rfl htr hb hct ?_
  intro X hX hE hI
  rw [x7_person] at h
  refine gz_aload_n (q := 0) hX dX7_person_0 rfl rfl ?_
  refine gz_iconst (v := 0) hX dX7_person_1 gl_c_0 ?_
  refine gz_aload_n (q := 0) hX dX7_person_2 rfl rfl ?_
  obtain ⟨b1, h⟩ := gz_gd_o h
  refine xg_X7_3 (n2 := (10, 0, 0)) hX (xs_dyn hu) ((xr_dyn (hu).1).trans b1) dX7_person_3 ?_
  refine xg_X7_143 (n2 := (20, 0, 0)) hX xs_main rfl dX7_person_6 ?_
  refine xg_X7_147 hX (xs_M (by decide)) dX7_person_9 ?_
  refine gz_iconst (v := 1) hX dX7_person_12 gl_c_1 ?_
  refine gz_isub hX dX7_person_13 ?_
  refine gp_call (ci := 7) (n := u) (As := [.int 0, .int ((V (20, 0, 0) 13) - 1)]) hX hE hI h (fun o1 e1 hc1 => (c_x7_number hE.2.2.2.2.1 hI.1 hc1 hu hnu e1)) (lw_x7_number_ q757) nn_x7_number ⟨Nat.le_of_ble_eq_true rfl, Nat.le_of_ble_eq_true rfl⟩ (by decide) rfl (xs_dyn hu) rfl (fun ad => [(0, .ref (ad u))]) (fun ad => []) rfl (Nat.le_of_ble_eq_true rfl) (fun ad2 h2 => by have e0 := h2 u (Or.inl (gz_nn (xs_dyn hu))); exact ⟨by first | rfl | simp only [e0], by first | rfl | simp only [e0]⟩) dX7_person_14 (fun Ds2 Df3 V4 c5 r6 h hgr hP7 => ?_)
  have hu := gp_up hgr hu
  intro ad hI
  exact gp_iret hX hE hI trivial h dX7_person_17
theorem lw_x7_person_ {o : String} {i : Nat} (hl : Cond.methodLink o i yX7_person ∈ lw_all) : GoodIn lw_all (wsV o i RX7 yX7_person (ws_ yX7_person cX7_person 1 (some .int))) := lw_V hl q963 qs29 q157 q964
theorem nn_x7_person : yX7_person.cls = RX7 ∧ yX7_person.cls ≠ "java/lang/invoke/MethodHandle" ∧ yX7_person.cls ≠ "java/lang/invoke/VarHandle" ∧ (parseMethodDescriptor yX7_person.desc).map (fun d => d.parameters.length) = some 0 := by decide +kernel
theorem nn_x10_init : yX10_init.cls ≠ "java/lang/invoke/MethodHandle" ∧ yX10_init.cls ≠ "java/lang/invoke/VarHandle" ∧ (parseMethodDescriptor yX10_init.desc).map (fun d => d.parameters.length) = some 1 := by decide +kernel
theorem nn_x11_init : yX11_init.cls ≠ "java/lang/invoke/MethodHandle" ∧ yX11_init.cls ≠ "java/lang/invoke/VarHandle" ∧ (parseMethodDescriptor yX11_init.desc).map (fun d => d.parameters.length) = some 1 := by decide +kernel
noncomputable def x7_unit (N : Nat) (Ds : gz_S) (Df : gz_R) (V : gz_V) (c : Nat) (u : gz_N) : gp_O gz_N := (if (V u 4) = 2 then gp_nw (9, 1) Ds Df V c (fun Ds16 Df17 V18 c19 => gp_bx c19 (x7_number N Ds16 Df17 V18 c19 u 0 9999) (fun Ds22 Df23 V24 c25 r26 => gz_let (gz_up V24 (98, c, 0) 0 r26) (fun V28 => some (.inr (Ds22, Df23, V28, c25, (98, c, 0)))))) else (if (x0_isIn (V u 4) 180 190) = 0 then some (.inl (1, V u 3, c + 1)) else gz_let (((V u 4) - 180)) (fun x3 => gz_bd (x7_next N Ds Df V u) (fun V5 => gp_nw (10, 1) Ds Df V5 c (fun Ds7 Df8 V9 c10 => gz_let (gz_up V9 (98, c, 0) 0 x3) (fun V13 => some (.inr (Ds7, Df8, V13, c10, (98, c, 0)))))))))
theorem c_x7_unit {l : Launch} {D : va_G} {aC : Nat → ClassId} {ad : gz_A0} {N : Nat} {Ds : gz_S} {Df : gz_R} {V : gz_V} {c : Nat} {u : gz_N} {B : gp_B} {o : gp_R gz_N} (htr : l.stackTraces = false) (hb : gp_ba B Ds Df V c ad) (hct : c ≤ gp_ct o) (hu : 90 ≤ u.1 ∧ Ds u = some (7, 9)) (hnu : gp_nn B u) (h : x7_unit N Ds Df V c u = some o) : gp_Met l yX7_unit cX7_unit 2 (some (.object "ClaspedFair$Term")) 10 211 D aC ad Ds Df V c [.ref (ad u)] B gp_pT gp_rA o := by
  refine gp_of (own := RX7) (mn := "unit") (lv := [(0, .ref (ad u))]) (by decide) rfl rfl (Nat.le_of_ble_eq_true rfl) rfl htr hb hct ?_
  intro X hX hE hI
  rw [x7_unit] at h
  refine gz_aload_n (q := 0) hX dX7_unit_0 rfl rfl ?_
  refine xg_X7_121 hX (xs_dyn hu) dX7_unit_1 ?_
  refine gz_iconst (v := 2) hX dX7_unit_4 gl_c_2 ?_
  refine gz_icmp_ne (tgt := 24) hX dX7_unit_5 (by decide) (fun c_1 => ?_) (fun c_1 => ?_)
  · have h := gz_ifn c_1 h
    refine gz_aload_n (q := 0) hX dX7_unit_24 rfl rfl ?_
    refine xg_X7_121 hX (xs_dyn hu) dX7_unit_25 ?_
    refine gz_sipush (v := 180) hX dX7_unit_28 gl_s_180 ?_
    refine gz_sipush (v := 190) hX dX7_unit_31 gl_s_190 ?_
    refine gu_callSN (As := [.int (V u 4), .int 180, .int 190]) hX (c_x0_isIn rfl) q567 (lw_meth q504) q144 q503 rfl rfl nn_x0_isIn ⟨Nat.le_of_ble_eq_true rfl, Nat.le_of_ble_eq_true rfl⟩ (gp_hf hX hE hI) rfl rfl (Nat.le_of_ble_eq_true rfl) dX7_unit_34 rfl ?_
    refine gz_if_ne (tgt := 53) hX dX7_unit_37 (by decide) (fun c_2 => ?_) (fun c_2 => ?_)
    · have h := gz_ifn c_2 h
      refine gz_aload_n (q := 0) hX dX7_unit_53 rfl rfl ?_
      refine xg_X7_121 hX (xs_dyn hu) dX7_unit_54 ?_
      refine gz_sipush (v := 180) hX dX7_unit_57 gl_s_180 ?_
      refine gz_isub hX dX7_unit_60 ?_
      obtain ⟨x3, e4, h⟩ := gz_let_o h
      refine gz_nm e4 ?_
      refine gz_istore_n (lv2 := [(1, .int x3), (0, .ref (ad u))]) hX dX7_unit_61 rfl (by decide) rfl ?_
      refine gz_aload_n (q := 1) hX dX7_unit_62 rfl rfl ?_
      obtain ⟨V5, e6, h⟩ := gz_bd_o h
      refine gu_callV (ci := 7) (n := u) (As := []) hX (c_x7_next hu e6) (lw_x7_next_ q555) rfl rfl nn_x7_next ⟨Nat.le_of_ble_eq_true rfl, Nat.le_of_ble_eq_true rfl⟩ (gp_hf hX hE hI) (by decide) rfl (xs_dyn hu) rfl rfl (Nat.le_of_ble_eq_true rfl) dX7_unit_63 rfl ?_
      have hI := hI.next hnu e6
      obtain ⟨Ds7, Df8, V9, c10, e11, h⟩ := gp_nw_o h
      refine gp_new (ci := 10) hX hE hI e11 in_X11 tyX11_ok (by decide) rfl q772 q773 q166 (by decide) (by decide) (fun ad => [(1, .int x3), (0, .ref (ad u))]) (fun ad => []) (fun ad2 h2 => by have e0 := h2 u (Or.inl (gz_nn (xs_dyn hu))); exact ⟨by first | rfl | simp only [e0], by first | rfl | simp only [e0]⟩) dX7_unit_66 (fun hgr hj12 hj12n => ?_)
      have hu := gp_up hgr hu
      intro ad hI
      refine gz_dupa hX dX7_unit_69 ?_
      refine gz_iload_n (q := 0) hX dX7_unit_70 rfl rfl ?_
      obtain ⟨V13, e14, h⟩ := gz_let_o h
      refine gp_ini (V1 := V13) (Df1 := Df8) (n := (98, c, 0)) (As := [.int x3]) (rest := [.ref (ad (98, c, 0))]) hX hE hI (by rw [← e14]; exact (c_x11_init (xs_dyn ⟨gp_90 hj12n, hj12⟩) (gp_n0 hj12n))) (lw_meth q776) q166 q774 q775 rfl rfl rfl nn_x11_init ⟨Nat.le_of_ble_eq_true rfl, Nat.le_of_ble_eq_true rfl⟩ rfl rfl (Nat.le_of_ble_eq_true rfl) dX7_unit_71 rfl ?_
      have hI := hI.wV (V2 := V13) hj12n (fun a ha => by rw [← e14]; simp only [gz_up_ne ha])
      have ht15 := gp_tOf hj12n hj12
      exact gp_aret hX hE hI rfl (Or.inl ⟨_, rfl⟩) ht15 h dX7_unit_74
    · have h := gz_ifp c_2 h
      exact gp_throw (q0 := 0) hX hE hI hu h rfl ⟨Nat.le_of_ble_eq_true rfl, Nat.le_of_ble_eq_true rfl⟩ dX7_unit_40 dX7_unit_43 dX7_unit_44 (by decide) dX7_unit_45 dX7_unit_46 dX7_unit_49 dX7_unit_52
  · have h := gz_ifp c_1 h
    obtain ⟨Ds16, Df17, V18, c19, e20, h⟩ := gp_nw_o h
    refine gp_new (ci := 9) hX hE hI e20 in_X10 tyX10_ok (by decide) rfl q755 q756 q165 (by decide) (by decide) (fun ad => [(0, .ref (ad u))]) (fun ad => []) (fun ad2 h2 => by have e0 := h2 u (Or.inl (gz_nn (xs_dyn hu))); exact ⟨by first | rfl | simp only [e0], by first | rfl | simp only [e0]⟩) dX7_unit_8 (fun hgr hj21 hj21n => ?_)
    have hu := gp_up hgr hu
    intro ad hI
    refine gz_dupa hX dX7_unit_11 ?_
    refine gz_aload_n (q := 0) hX dX7_unit_12 rfl rfl ?_
    refine gz_iconst (v := 0) hX dX7_unit_13 gl_c_0 ?_
    refine gz_sipush (v := 9999) hX dX7_unit_14 gl_s_9999 ?_
    refine gp_call (ci := 7) (n := u) (As := [.int 0, .int 9999]) hX hE hI h (fun o1 e1 hc1 => (c_x7_number hE.2.2.2.2.1 hI.1 hc1 hu hnu e1)) (lw_x7_number_ q757) nn_x7_number ⟨Nat.le_of_ble_eq_true rfl, Nat.le_of_ble_eq_true rfl⟩ (by decide) rfl (xs_dyn hu) rfl (fun ad => [(0, .ref (ad u))]) (fun ad => [.ref (ad (98, c, 0)), .ref (ad (98, c, 0))]) rfl (Nat.le_of_ble_eq_true rfl) (fun ad2 h2 => by have e0 := h2 u (Or.inl (gz_nn (xs_dyn hu))); have e1 := h2 (98, c, 0) (Or.inl (gz_nn (xs_dyn ⟨gp_90 hj21n, hj21⟩))); exact ⟨by first | rfl | simp only [e0, e1], by first | rfl | simp only [e0, e1]⟩) dX7_unit_17 (fun Ds22 Df23 V24 c25 r26 h hgr hP27 => ?_)
    have hu := gp_up hgr hu
    have hj21 := hgr _ _ hj21
    intro ad hI
    obtain ⟨V28, e29, h⟩ := gz_let_o h
    refine gp_ini (V1 := V28) (Df1 := Df23) (n := (98, c, 0)) (As := [.int r26]) (rest := [.ref (ad (98, c, 0))]) hX hE hI (by rw [← e29]; exact (c_x10_init (xs_dyn ⟨gp_90 hj21n, hj21⟩) (gp_n0 hj21n))) (lw_meth q763) q165 q761 q762 rfl rfl rfl nn_x10_init ⟨Nat.le_of_ble_eq_true rfl, Nat.le_of_ble_eq_true rfl⟩ rfl rfl (Nat.le_of_ble_eq_true rfl) dX7_unit_20 rfl ?_
    have hI := hI.wV (V2 := V28) hj21n (fun a ha => by rw [← e29]; simp only [gz_up_ne ha])
    have ht30 := gp_tOf hj21n hj21
    exact gp_aret hX hE hI rfl (Or.inl ⟨_, rfl⟩) ht30 h dX7_unit_23
theorem lw_x7_unit_ {o : String} {i : Nat} (hl : Cond.methodLink o i yX7_unit ∈ lw_all) : GoodIn lw_all (wsV o i RX7 yX7_unit (ws_ yX7_unit cX7_unit 2 (some (.object "ClaspedFair$Term")))) := lw_V hl q753 qs16 q157 q754
theorem nn_x7_unit : yX7_unit.cls = RX7 ∧ yX7_unit.cls ≠ "java/lang/invoke/MethodHandle" ∧ yX7_unit.cls ≠ "java/lang/invoke/VarHandle" ∧ (parseMethodDescriptor yX7_unit.desc).map (fun d => d.parameters.length) = some 0 := by decide +kernel
theorem nn_x12_init : yX12_init.cls ≠ "java/lang/invoke/MethodHandle" ∧ yX12_init.cls ≠ "java/lang/invoke/VarHandle" ∧ (parseMethodDescriptor yX12_init.desc).map (fun d => d.parameters.length) = some 3 := by decide +kernel
noncomputable def x7_product_L5 (N : Nat) (u : gz_N) : Nat → gz_S → gz_R → gz_V → Nat → gz_N → gp_O gz_N
  | 0, _, _, _, _, _ => none
  | n + 1, Ds, Df, V, c, w1 => (if (V u 4) = 42 then gz_let ((V u 4)) (fun x102 => gz_bd (x7_next N Ds Df V u) (fun V104 => gp_nw (11, 3) Ds Df V104 c (fun Ds106 Df107 V108 c109 => (if x102 = 47 then gp_nw (9, 1) Ds106 Df107 V108 c109 (fun Ds124 Df125 V126 c127 => gp_bx c127 (x7_number N Ds124 Df125 V126 c127 u 1 9999) (fun Ds130 Df131 V132 c133 r134 => gz_let (gz_up V132 (98, c109, 0) 0 r134) (fun V136 => gz_let (gz_up V136 (98, c, 0) 2 x102) (fun V139 => gz_let (gz_ur (gz_ur Df131 (98, c, 0) 0 (some w1)) (98, c, 0) 1 (some (98, c109, 0))) (fun D141 => x7_product_L5 N u n Ds130 D141 V139 c133 (98, c, 0)))))) else gp_bx c109 (x7_unit N Ds106 Df107 V108 c109 u) (fun Ds113 Df114 V115 c116 r117 => gz_let (gz_up V115 (98, c, 0) 2 x102) (fun V119 => gz_let (gz_ur (gz_ur Df114 (98, c, 0) 0 (some w1)) (98, c, 0) 1 (some r117)) (fun D121 => x7_product_L5 N u n Ds113 D121 V119 c116 (98, c, 0)))))))) else (if (V u 4) = 47 then gz_let ((V u 4)) (fun x145 => gz_bd (x7_next N Ds Df V u) (fun V147 => gp_nw (11, 3) Ds Df V147 c (fun Ds149 Df150 V151 c152 => (if x145 = 47 then gp_nw (9, 1) Ds149 Df150 V151 c152 (fun Ds167 Df168 V169 c170 => gp_bx c170 (x7_number N Ds167 Df168 V169 c170 u 1 9999) (fun Ds173 Df174 V175 c176 r177 => gz_let (gz_up V175 (98, c152, 0) 0 r177) (fun V179 => gz_let (gz_up V179 (98, c, 0) 2 x145) (fun V182 => gz_let (gz_ur (gz_ur Df174 (98, c, 0) 0 (some w1)) (98, c, 0) 1 (some (98, c152, 0))) (fun D184 => x7_product_L5 N u n Ds173 D184 V182 c176 (98, c, 0)))))) else gp_bx c152 (x7_unit N Ds149 Df150 V151 c152 u) (fun Ds156 Df157 V158 c159 r160 => gz_let (gz_up V158 (98, c, 0) 2 x145) (fun V162 => gz_let (gz_ur (gz_ur Df157 (98, c, 0) 0 (some w1)) (98, c, 0) 1 (some r160)) (fun D164 => x7_product_L5 N u n Ds156 D164 V162 c159 (98, c, 0)))))))) else some (.inr (Ds, Df, V, c, w1))))
theorem w_x7_product_L5 {X : gz_X} {B : gp_B} {E : gp_E} {N q : Nat} {u : gz_N} {o : gp_R gz_N} (hX : gz_ok X cX7_product RX7 "product" 3 (gp_rm 11 232 q) (some (.object "ClaspedFair$Term"))) (hE : gp_end X B E gp_pT gp_rA o 11 232) (hnu : gp_nn B u) : ∀ (n : Nat) {Ds : gz_S} {Df : gz_R} {V : gz_V} {c : Nat} {w1 : gz_N}, (90 ≤ u.1 ∧ Ds u = some (7, 9)) → gp_pT Ds w1 → x7_product_L5 N u n Ds Df V c w1 = some o → gP X 3 B E Ds Df V c 5 (fun ad => [(0, .ref (ad u)), (1, .ref (ad w1))]) (fun _ => []) := by
  intro n
  induction n with
  | zero => intro Ds Df V c w1 hu hw1 h; rw [x7_product_L5] at h; cases h
  | succ n ih =>
    intro Ds Df V c w1 hu hw1 h
    rw [x7_product_L5] at h
    intro ad hI
    refine gz_aload_n (q := 0) hX dX7_product_5 rfl rfl ?_
    refine xg_X7_121 hX (xs_dyn hu) dX7_product_6 ?_
    refine gz_bipush (v := 42) hX dX7_product_9 gl_b_42 ?_
    refine gz_icmp_eq (tgt := 23) hX dX7_product_11 (by decide) (fun c_101 => ?_) (fun c_101 => ?_)
    · have h := gz_ifp c_101 h
      refine gz_aload_n (q := 0) hX dX7_product_23 rfl rfl ?_
      refine xg_X7_121 hX (xs_dyn hu) dX7_product_24 ?_
      obtain ⟨x102, e103, h⟩ := gz_let_o h
      refine gz_nm e103 ?_
      refine gz_istore_n (lv2 := [(2, .int x102), (0, .ref (ad u)), (1, .ref (ad w1))]) hX dX7_product_27 rfl (by decide) rfl ?_
      refine gz_aload_n (q := 1) hX dX7_product_28 rfl rfl ?_
      obtain ⟨V104, e105, h⟩ := gz_bd_o h
      refine gu_callV (ci := 7) (n := u) (As := []) hX (c_x7_next hu e105) (lw_x7_next_ q555) rfl rfl nn_x7_next ⟨Nat.le_of_ble_eq_true rfl, Nat.le_of_ble_eq_true rfl⟩ (gp_hf hX hE hI) (by decide) rfl (xs_dyn hu) rfl rfl (Nat.le_of_ble_eq_true rfl) dX7_product_29 rfl ?_
      have hI := hI.next hnu e105
      obtain ⟨Ds106, Df107, V108, c109, e110, h⟩ := gp_nw_o h
      refine gp_new (ci := 11) hX hE hI e110 in_X12 tyX12_ok (by decide) rfl q782 q783 q167 (by decide) (by decide) (fun ad => [(2, .int x102), (0, .ref (ad u)), (1, .ref (ad w1))]) (fun ad => []) (fun ad2 h2 => by have e0 := h2 u (Or.inl (gz_nn (xs_dyn hu))); have e1 := h2 w1 (Or.inl (gp_nnT hw1)); exact ⟨by first | rfl | simp only [e0, e1], by first | rfl | simp only [e0, e1]⟩) dX7_product_32 (fun hgr hj111 hj111n => ?_)
      have hu := gp_up hgr hu
      have hw1 := gp_upT hgr hw1
      intro ad hI
      refine gz_dupa hX dX7_product_35 ?_
      refine gz_aload_n (q := 2) hX dX7_product_36 rfl rfl ?_
      refine gz_iload_n (q := 0) hX dX7_product_37 rfl rfl ?_
      refine gz_iload_n (q := 0) hX dX7_product_38 rfl rfl ?_
      refine gz_bipush (v := 47) hX dX7_product_39 gl_b_47 ?_
      refine gz_icmp_ne (tgt := 62) hX dX7_product_41 (by decide) (fun c_112 => ?_) (fun c_112 => ?_)
      · have h := gz_ifn c_112 h
        refine gz_aload_n (q := 1) hX dX7_product_62 rfl rfl ?_
        refine gp_call (ci := 7) (n := u) (As := []) hX hE hI h (fun o1 e1 hc1 => (c_x7_unit hE.2.2.2.2.1 hI.1 hc1 hu hnu e1)) (lw_x7_unit_ q751) nn_x7_unit ⟨Nat.le_of_ble_eq_true rfl, Nat.le_of_ble_eq_true rfl⟩ (by decide) rfl (xs_dyn hu) rfl (fun ad => [(2, .int x102), (0, .ref (ad u)), (1, .ref (ad w1))]) (fun ad => [.int x102, .ref (ad w1), .ref (ad (98, c, 0)), .ref (ad (98, c, 0))]) rfl (Nat.le_of_ble_eq_true rfl) (fun ad2 h2 => by have e0 := h2 u (Or.inl (gz_nn (xs_dyn hu))); have e1 := h2 w1 (Or.inl (gp_nnT hw1)); have e2 := h2 (98, c, 0) (Or.inl (gz_nn (xs_dyn ⟨gp_90 hj111n, hj111⟩))); exact ⟨by first | rfl | simp only [e0, e1, e2], by first | rfl | simp only [e0, e1, e2]⟩) dX7_product_63 (fun Ds113 Df114 V115 c116 r117 h hgr hP118 => ?_)
        have hu := gp_up hgr hu
        have hw1 := gp_upT hgr hw1
        have hj111 := hgr _ _ hj111
        intro ad hI
        obtain ⟨V119, e120, h⟩ := gz_let_o h
        obtain ⟨D121, e122, h⟩ := gz_let_o h
        refine gp_ini (V1 := V119) (Df1 := D121) (n := (98, c, 0)) (As := [.ref (ad w1), .int x102, .ref (ad r117)]) (rest := [.ref (ad (98, c, 0))]) hX hE hI (by rw [← e120]; exact (c_x12_init (xs_dyn ⟨gp_90 hj111n, hj111⟩) (gp_n0 hj111n) (gp_nnT hw1) (gp_nnT hP118))) (lw_meth q786) q167 q784 q785 rfl rfl rfl nn_x12_init ⟨Nat.le_of_ble_eq_true rfl, Nat.le_of_ble_eq_true rfl⟩ rfl rfl (Nat.le_of_ble_eq_true rfl) dX7_product_66 (by rw [← e122, gp_xur (gp_90 hj111n), gp_xur (gp_90 hj111n)]) ?_
        have hI := hI.wV (V2 := V119) hj111n (fun a ha => by rw [← e120]; simp only [gz_up_ne ha])
        have hI := hI.wR (Df2 := D121) hj111n (fun a ha => by rw [← e122]; simp only [gz_ur_ne ha])
        have ht123 := gp_tOf hj111n hj111
        refine gz_astore_n (lv2 := [(1, .ref (ad (98, c, 0))), (2, .int x102), (0, .ref (ad u))]) hX dX7_product_69 rfl (by decide) rfl ?_
        refine gz_lv (lv2 := [(1, .ref (ad (98, c, 0))), (0, .ref (ad u))]) [0, 2] rfl ?_
        refine gz_goto (tgt := 5) hX dX7_product_70 (by decide) ?_
        exact gz_lv [1, 0] rfl (ih hu ht123 h ad hI)
      · have h := gz_ifp c_112 h
        obtain ⟨Ds124, Df125, V126, c127, e128, h⟩ := gp_nw_o h
        refine gp_new (ci := 9) hX hE hI e128 in_X10 tyX10_ok (by decide) rfl q755 q756 q165 (by decide) (by decide) (fun ad => [(2, .int x102), (0, .ref (ad u)), (1, .ref (ad w1))]) (fun ad => [.int x102, .ref (ad w1), .ref (ad (98, c, 0)), .ref (ad (98, c, 0))]) (fun ad2 h2 => by have e0 := h2 u (Or.inl (gz_nn (xs_dyn hu))); have e1 := h2 w1 (Or.inl (gp_nnT hw1)); have e2 := h2 (98, c, 0) (Or.inl (gz_nn (xs_dyn ⟨gp_90 hj111n, hj111⟩))); exact ⟨by first | rfl | simp only [e0, e1, e2], by first | rfl | simp only [e0, e1, e2]⟩) dX7_product_44 (fun hgr hj129 hj129n => ?_)
        have hu := gp_up hgr hu
        have hw1 := gp_upT hgr hw1
        have hj111 := hgr _ _ hj111
        intro ad hI
        refine gz_dupa hX dX7_product_47 ?_
        refine gz_aload_n (q := 1) hX dX7_product_48 rfl rfl ?_
        refine gz_iconst (v := 1) hX dX7_product_49 gl_c_1 ?_
        refine gz_sipush (v := 9999) hX dX7_product_50 gl_s_9999 ?_
        refine gp_call (ci := 7) (n := u) (As := [.int 1, .int 9999]) hX hE hI h (fun o1 e1 hc1 => (c_x7_number hE.2.2.2.2.1 hI.1 hc1 hu hnu e1)) (lw_x7_number_ q757) nn_x7_number ⟨Nat.le_of_ble_eq_true rfl, Nat.le_of_ble_eq_true rfl⟩ (by decide) rfl (xs_dyn hu) rfl (fun ad => [(2, .int x102), (0, .ref (ad u)), (1, .ref (ad w1))]) (fun ad => [.ref (ad (98, c109, 0)), .ref (ad (98, c109, 0)), .int x102, .ref (ad w1), .ref (ad (98, c, 0)), .ref (ad (98, c, 0))]) rfl (Nat.le_of_ble_eq_true rfl) (fun ad2 h2 => by have e0 := h2 u (Or.inl (gz_nn (xs_dyn hu))); have e1 := h2 w1 (Or.inl (gp_nnT hw1)); have e2 := h2 (98, c109, 0) (Or.inl (gz_nn (xs_dyn ⟨gp_90 hj129n, hj129⟩))); have e3 := h2 (98, c, 0) (Or.inl (gz_nn (xs_dyn ⟨gp_90 hj111n, hj111⟩))); exact ⟨by first | rfl | simp only [e0, e1, e2, e3], by first | rfl | simp only [e0, e1, e2, e3]⟩) dX7_product_53 (fun Ds130 Df131 V132 c133 r134 h hgr hP135 => ?_)
        have hu := gp_up hgr hu
        have hw1 := gp_upT hgr hw1
        have hj129 := hgr _ _ hj129
        have hj111 := hgr _ _ hj111
        intro ad hI
        obtain ⟨V136, e137, h⟩ := gz_let_o h
        refine gp_ini (V1 := V136) (Df1 := Df131) (n := (98, c109, 0)) (As := [.int r134]) (rest := [.ref (ad (98, c109, 0)), .int x102, .ref (ad w1), .ref (ad (98, c, 0)), .ref (ad (98, c, 0))]) hX hE hI (by rw [← e137]; exact (c_x10_init (xs_dyn ⟨gp_90 hj129n, hj129⟩) (gp_n0 hj129n))) (lw_meth q763) q165 q761 q762 rfl rfl rfl nn_x10_init ⟨Nat.le_of_ble_eq_true rfl, Nat.le_of_ble_eq_true rfl⟩ rfl rfl (Nat.le_of_ble_eq_true rfl) dX7_product_56 rfl ?_
        have hI := hI.wV (V2 := V136) hj129n (fun a ha => by rw [← e137]; simp only [gz_up_ne ha])
        have ht138 := gp_tOf hj129n hj129
        refine gz_goto (tgt := 66) hX dX7_product_59 (by decide) ?_
        obtain ⟨V139, e140, h⟩ := gz_let_o h
        obtain ⟨D141, e142, h⟩ := gz_let_o h
        refine gp_ini (V1 := V139) (Df1 := D141) (n := (98, c, 0)) (As := [.ref (ad w1), .int x102, .ref (ad (98, c109, 0))]) (rest := [.ref (ad (98, c, 0))]) hX hE hI (by rw [← e140]; exact (c_x12_init (xs_dyn ⟨gp_90 hj111n, hj111⟩) (gp_n0 hj111n) (gp_nnT hw1) (gp_nnT ht138))) (lw_meth q786) q167 q784 q785 rfl rfl rfl nn_x12_init ⟨Nat.le_of_ble_eq_true rfl, Nat.le_of_ble_eq_true rfl⟩ rfl rfl (Nat.le_of_ble_eq_true rfl) dX7_product_66 (by rw [← e142, gp_xur (gp_90 hj111n), gp_xur (gp_90 hj111n)]) ?_
        have hI := hI.wV (V2 := V139) hj111n (fun a ha => by rw [← e140]; simp only [gz_up_ne ha])
        have hI := hI.wR (Df2 := D141) hj111n (fun a ha => by rw [← e142]; simp only [gz_ur_ne ha])
        have ht143 := gp_tOf hj111n hj111
        refine gz_astore_n (lv2 := [(1, .ref (ad (98, c, 0))), (2, .int x102), (0, .ref (ad u))]) hX dX7_product_69 rfl (by decide) rfl ?_
        refine gz_lv (lv2 := [(1, .ref (ad (98, c, 0))), (0, .ref (ad u))]) [0, 2] rfl ?_
        refine gz_goto (tgt := 5) hX dX7_product_70 (by decide) ?_
        exact gz_lv [1, 0] rfl (ih hu ht143 h ad hI)
    · have h := gz_ifn c_101 h
      refine gz_aload_n (q := 0) hX dX7_product_14 rfl rfl ?_
      refine xg_X7_121 hX (xs_dyn hu) dX7_product_15 ?_
      refine gz_bipush (v := 47) hX dX7_product_18 gl_b_47 ?_
      refine gz_icmp_ne (tgt := 73) hX dX7_product_20 (by decide) (fun c_144 => ?_) (fun c_144 => ?_)
      · have h := gz_ifn c_144 h
        refine gz_aload_n (q := 1) hX dX7_product_73 rfl rfl ?_
        exact gp_aret hX hE hI rfl (Or.inl ⟨_, rfl⟩) hw1 h dX7_product_74
      · have h := gz_ifp c_144 h
        refine gz_aload_n (q := 0) hX dX7_product_23 rfl rfl ?_
        refine xg_X7_121 hX (xs_dyn hu) dX7_product_24 ?_
        obtain ⟨x145, e146, h⟩ := gz_let_o h
        refine gz_nm e146 ?_
        refine gz_istore_n (lv2 := [(2, .int x145), (0, .ref (ad u)), (1, .ref (ad w1))]) hX dX7_product_27 rfl (by decide) rfl ?_
        refine gz_aload_n (q := 1) hX dX7_product_28 rfl rfl ?_
        obtain ⟨V147, e148, h⟩ := gz_bd_o h
        refine gu_callV (ci := 7) (n := u) (As := []) hX (c_x7_next hu e148) (lw_x7_next_ q555) rfl rfl nn_x7_next ⟨Nat.le_of_ble_eq_true rfl, Nat.le_of_ble_eq_true rfl⟩ (gp_hf hX hE hI) (by decide) rfl (xs_dyn hu) rfl rfl (Nat.le_of_ble_eq_true rfl) dX7_product_29 rfl ?_
        have hI := hI.next hnu e148
        obtain ⟨Ds149, Df150, V151, c152, e153, h⟩ := gp_nw_o h
        refine gp_new (ci := 11) hX hE hI e153 in_X12 tyX12_ok (by decide) rfl q782 q783 q167 (by decide) (by decide) (fun ad => [(2, .int x145), (0, .ref (ad u)), (1, .ref (ad w1))]) (fun ad => []) (fun ad2 h2 => by have e0 := h2 u (Or.inl (gz_nn (xs_dyn hu))); have e1 := h2 w1 (Or.inl (gp_nnT hw1)); exact ⟨by first | rfl | simp only [e0, e1], by first | rfl | simp only [e0, e1]⟩) dX7_product_32 (fun hgr hj154 hj154n => ?_)
        have hu := gp_up hgr hu
        have hw1 := gp_upT hgr hw1
        intro ad hI
        refine gz_dupa hX dX7_product_35 ?_
        refine gz_aload_n (q := 2) hX dX7_product_36 rfl rfl ?_
        refine gz_iload_n (q := 0) hX dX7_product_37 rfl rfl ?_
        refine gz_iload_n (q := 0) hX dX7_product_38 rfl rfl ?_
        refine gz_bipush (v := 47) hX dX7_product_39 gl_b_47 ?_
        refine gz_icmp_ne (tgt := 62) hX dX7_product_41 (by decide) (fun c_155 => ?_) (fun c_155 => ?_)
        · have h := gz_ifn c_155 h
          refine gz_aload_n (q := 1) hX dX7_product_62 rfl rfl ?_
          refine gp_call (ci := 7) (n := u) (As := []) hX hE hI h (fun o1 e1 hc1 => (c_x7_unit hE.2.2.2.2.1 hI.1 hc1 hu hnu e1)) (lw_x7_unit_ q751) nn_x7_unit ⟨Nat.le_of_ble_eq_true rfl, Nat.le_of_ble_eq_true rfl⟩ (by decide) rfl (xs_dyn hu) rfl (fun ad => [(2, .int x145), (0, .ref (ad u)), (1, .ref (ad w1))]) (fun ad => [.int x145, .ref (ad w1), .ref (ad (98, c, 0)), .ref (ad (98, c, 0))]) rfl (Nat.le_of_ble_eq_true rfl) (fun ad2 h2 => by have e0 := h2 u (Or.inl (gz_nn (xs_dyn hu))); have e1 := h2 w1 (Or.inl (gp_nnT hw1)); have e2 := h2 (98, c, 0) (Or.inl (gz_nn (xs_dyn ⟨gp_90 hj154n, hj154⟩))); exact ⟨by first | rfl | simp only [e0, e1, e2], by first | rfl | simp only [e0, e1, e2]⟩) dX7_product_63 (fun Ds156 Df157 V158 c159 r160 h hgr hP161 => ?_)
          have hu := gp_up hgr hu
          have hw1 := gp_upT hgr hw1
          have hj154 := hgr _ _ hj154
          intro ad hI
          obtain ⟨V162, e163, h⟩ := gz_let_o h
          obtain ⟨D164, e165, h⟩ := gz_let_o h
          refine gp_ini (V1 := V162) (Df1 := D164) (n := (98, c, 0)) (As := [.ref (ad w1), .int x145, .ref (ad r160)]) (rest := [.ref (ad (98, c, 0))]) hX hE hI (by rw [← e163]; exact (c_x12_init (xs_dyn ⟨gp_90 hj154n, hj154⟩) (gp_n0 hj154n) (gp_nnT hw1) (gp_nnT hP161))) (lw_meth q786) q167 q784 q785 rfl rfl rfl nn_x12_init ⟨Nat.le_of_ble_eq_true rfl, Nat.le_of_ble_eq_true rfl⟩ rfl rfl (Nat.le_of_ble_eq_true rfl) dX7_product_66 (by rw [← e165, gp_xur (gp_90 hj154n), gp_xur (gp_90 hj154n)]) ?_
          have hI := hI.wV (V2 := V162) hj154n (fun a ha => by rw [← e163]; simp only [gz_up_ne ha])
          have hI := hI.wR (Df2 := D164) hj154n (fun a ha => by rw [← e165]; simp only [gz_ur_ne ha])
          have ht166 := gp_tOf hj154n hj154
          refine gz_astore_n (lv2 := [(1, .ref (ad (98, c, 0))), (2, .int x145), (0, .ref (ad u))]) hX dX7_product_69 rfl (by decide) rfl ?_
          refine gz_lv (lv2 := [(1, .ref (ad (98, c, 0))), (0, .ref (ad u))]) [0, 2] rfl ?_
          refine gz_goto (tgt := 5) hX dX7_product_70 (by decide) ?_
          exact gz_lv [1, 0] rfl (ih hu ht166 h ad hI)
        · have h := gz_ifp c_155 h
          obtain ⟨Ds167, Df168, V169, c170, e171, h⟩ := gp_nw_o h
          refine gp_new (ci := 9) hX hE hI e171 in_X10 tyX10_ok (by decide) rfl q755 q756 q165 (by decide) (by decide) (fun ad => [(2, .int x145), (0, .ref (ad u)), (1, .ref (ad w1))]) (fun ad => [.int x145, .ref (ad w1), .ref (ad (98, c, 0)), .ref (ad (98, c, 0))]) (fun ad2 h2 => by have e0 := h2 u (Or.inl (gz_nn (xs_dyn hu))); have e1 := h2 w1 (Or.inl (gp_nnT hw1)); have e2 := h2 (98, c, 0) (Or.inl (gz_nn (xs_dyn ⟨gp_90 hj154n, hj154⟩))); exact ⟨by first | rfl | simp only [e0, e1, e2], by first | rfl | simp only [e0, e1, e2]⟩) dX7_product_44 (fun hgr hj172 hj172n => ?_)
          have hu := gp_up hgr hu
          have hw1 := gp_upT hgr hw1
          have hj154 := hgr _ _ hj154
          intro ad hI
          refine gz_dupa hX dX7_product_47 ?_
          refine gz_aload_n (q := 1) hX dX7_product_48 rfl rfl ?_
          refine gz_iconst (v := 1) hX dX7_product_49 gl_c_1 ?_
          refine gz_sipush (v := 9999) hX dX7_product_50 gl_s_9999 ?_
          refine gp_call (ci := 7) (n := u) (As := [.int 1, .int 9999]) hX hE hI h (fun o1 e1 hc1 => (c_x7_number hE.2.2.2.2.1 hI.1 hc1 hu hnu e1)) (lw_x7_number_ q757) nn_x7_number ⟨Nat.le_of_ble_eq_true rfl, Nat.le_of_ble_eq_true rfl⟩ (by decide) rfl (xs_dyn hu) rfl (fun ad => [(2, .int x145), (0, .ref (ad u)), (1, .ref (ad w1))]) (fun ad => [.ref (ad (98, c152, 0)), .ref (ad (98, c152, 0)), .int x145, .ref (ad w1), .ref (ad (98, c, 0)), .ref (ad (98, c, 0))]) rfl (Nat.le_of_ble_eq_true rfl) (fun ad2 h2 => by have e0 := h2 u (Or.inl (gz_nn (xs_dyn hu))); have e1 := h2 w1 (Or.inl (gp_nnT hw1)); have e2 := h2 (98, c152, 0) (Or.inl (gz_nn (xs_dyn ⟨gp_90 hj172n, hj172⟩))); have e3 := h2 (98, c, 0) (Or.inl (gz_nn (xs_dyn ⟨gp_90 hj154n, hj154⟩))); exact ⟨by first | rfl | simp only [e0, e1, e2, e3], by first | rfl | simp only [e0, e1, e2, e3]⟩) dX7_product_53 (fun Ds173 Df174 V175 c176 r177 h hgr hP178 => ?_)
          have hu := gp_up hgr hu
          have hw1 := gp_upT hgr hw1
          have hj172 := hgr _ _ hj172
          have hj154 := hgr _ _ hj154
          intro ad hI
          obtain ⟨V179, e180, h⟩ := gz_let_o h
          refine gp_ini (V1 := V179) (Df1 := Df174) (n := (98, c152, 0)) (As := [.int r177]) (rest := [.ref (ad (98, c152, 0)), .int x145, .ref (ad w1), .ref (ad (98, c, 0)), .ref (ad (98, c, 0))]) hX hE hI (by rw [← e180]; exact (c_x10_init (xs_dyn ⟨gp_90 hj172n, hj172⟩) (gp_n0 hj172n))) (lw_meth q763) q165 q761 q762 rfl rfl rfl nn_x10_init ⟨Nat.le_of_ble_eq_true rfl, Nat.le_of_ble_eq_true rfl⟩ rfl rfl (Nat.le_of_ble_eq_true rfl) dX7_product_56 rfl ?_
          have hI := hI.wV (V2 := V179) hj172n (fun a ha => by rw [← e180]; simp only [gz_up_ne ha])
          have ht181 := gp_tOf hj172n hj172
          refine gz_goto (tgt := 66) hX dX7_product_59 (by decide) ?_
          obtain ⟨V182, e183, h⟩ := gz_let_o h
          obtain ⟨D184, e185, h⟩ := gz_let_o h
          refine gp_ini (V1 := V182) (Df1 := D184) (n := (98, c, 0)) (As := [.ref (ad w1), .int x145, .ref (ad (98, c152, 0))]) (rest := [.ref (ad (98, c, 0))]) hX hE hI (by rw [← e183]; exact (c_x12_init (xs_dyn ⟨gp_90 hj154n, hj154⟩) (gp_n0 hj154n) (gp_nnT hw1) (gp_nnT ht181))) (lw_meth q786) q167 q784 q785 rfl rfl rfl nn_x12_init ⟨Nat.le_of_ble_eq_true rfl, Nat.le_of_ble_eq_true rfl⟩ rfl rfl (Nat.le_of_ble_eq_true rfl) dX7_product_66 (by rw [← e185, gp_xur (gp_90 hj154n), gp_xur (gp_90 hj154n)]) ?_
          have hI := hI.wV (V2 := V182) hj154n (fun a ha => by rw [← e183]; simp only [gz_up_ne ha])
          have hI := hI.wR (Df2 := D184) hj154n (fun a ha => by rw [← e185]; simp only [gz_ur_ne ha])
          have ht186 := gp_tOf hj154n hj154
          refine gz_astore_n (lv2 := [(1, .ref (ad (98, c, 0))), (2, .int x145), (0, .ref (ad u))]) hX dX7_product_69 rfl (by decide) rfl ?_
          refine gz_lv (lv2 := [(1, .ref (ad (98, c, 0))), (0, .ref (ad u))]) [0, 2] rfl ?_
          refine gz_goto (tgt := 5) hX dX7_product_70 (by decide) ?_
          exact gz_lv [1, 0] rfl (ih hu ht186 h ad hI)
noncomputable def x7_product (N : Nat) (Ds : gz_S) (Df : gz_R) (V : gz_V) (c : Nat) (u : gz_N) : gp_O gz_N := gp_bx c (x7_unit N Ds Df V c u) (fun Ds1 Df2 V3 c4 r5 => x7_product_L5 N u N Ds1 Df2 V3 c4 r5)
theorem c_x7_product {l : Launch} {D : va_G} {aC : Nat → ClassId} {ad : gz_A0} {N : Nat} {Ds : gz_S} {Df : gz_R} {V : gz_V} {c : Nat} {u : gz_N} {B : gp_B} {o : gp_R gz_N} (htr : l.stackTraces = false) (hb : gp_ba B Ds Df V c ad) (hct : c ≤ gp_ct o) (hu : 90 ≤ u.1 ∧ Ds u = some (7, 9)) (hnu : gp_nn B u) (h : x7_product N Ds Df V c u = some o) : gp_Met l yX7_product cX7_product 3 (some (.object "ClaspedFair$Term")) 11 232 D aC ad Ds Df V c [.ref (ad u)] B gp_pT gp_rA o := by
  refine gp_of (own := RX7) (mn := "product") (lv := [(0, .ref (ad u))]) (by decide) rfl rfl (Nat.le_of_ble_eq_true rfl) rfl htr hb hct ?_
  intro X hX hE hI
  rw [x7_product] at h
  refine gz_aload_n (q := 0) hX dX7_product_0 rfl rfl ?_
  refine gp_call (ci := 7) (n := u) (As := []) hX hE hI h (fun o1 e1 hc1 => (c_x7_unit hE.2.2.2.2.1 hI.1 hc1 hu hnu e1)) (lw_x7_unit_ q751) nn_x7_unit ⟨Nat.le_of_ble_eq_true rfl, Nat.le_of_ble_eq_true rfl⟩ (by decide) rfl (xs_dyn hu) rfl (fun ad => [(0, .ref (ad u))]) (fun ad => []) rfl (Nat.le_of_ble_eq_true rfl) (fun ad2 h2 => by have e0 := h2 u (Or.inl (gz_nn (xs_dyn hu))); exact ⟨by first | rfl | simp only [e0], by first | rfl | simp only [e0]⟩) dX7_product_1 (fun Ds1 Df2 V3 c4 r5 h hgr hP6 => ?_)
  have hu := gp_up hgr hu
  intro ad hI
  refine gz_astore_n (lv2 := [(1, .ref (ad r5)), (0, .ref (ad u))]) hX dX7_product_4 rfl (by decide) rfl ?_
  exact gz_lv [1, 0] rfl (w_x7_product_L5 hX hE hnu N hu hP6 h ad hI)
theorem lw_x7_product_ {o : String} {i : Nat} (hl : Cond.methodLink o i yX7_product ∈ lw_all) : GoodIn lw_all (wsV o i RX7 yX7_product (ws_ yX7_product cX7_product 3 (some (.object "ClaspedFair$Term")))) := lw_V hl q749 qs15 q157 q750
theorem nn_x7_product : yX7_product.cls = RX7 ∧ yX7_product.cls ≠ "java/lang/invoke/MethodHandle" ∧ yX7_product.cls ≠ "java/lang/invoke/VarHandle" ∧ (parseMethodDescriptor yX7_product.desc).map (fun d => d.parameters.length) = some 0 := by decide +kernel
noncomputable def x7_sum_L5 (N : Nat) (u : gz_N) : Nat → gz_S → gz_R → gz_V → Nat → gz_N → gp_O gz_N
  | 0, _, _, _, _, _ => none
  | n + 1, Ds, Df, V, c, w1 => (if (V u 4) = 43 then gz_let ((V u 4)) (fun x102 => gz_bd (x7_next N Ds Df V u) (fun V104 => gp_nw (11, 3) Ds Df V104 c (fun Ds106 Df107 V108 c109 => gp_bx c109 (x7_product N Ds106 Df107 V108 c109 u) (fun Ds112 Df113 V114 c115 r116 => gz_let (gz_up V114 (98, c, 0) 2 x102) (fun V118 => gz_let (gz_ur (gz_ur Df113 (98, c, 0) 0 (some w1)) (98, c, 0) 1 (some r116)) (fun D120 => x7_sum_L5 N u n Ds112 D120 V118 c115 (98, c, 0))))))) else (if (V u 4) = 45 then gz_let ((V u 4)) (fun x124 => gz_bd (x7_next N Ds Df V u) (fun V126 => gp_nw (11, 3) Ds Df V126 c (fun Ds128 Df129 V130 c131 => gp_bx c131 (x7_product N Ds128 Df129 V130 c131 u) (fun Ds134 Df135 V136 c137 r138 => gz_let (gz_up V136 (98, c, 0) 2 x124) (fun V140 => gz_let (gz_ur (gz_ur Df135 (98, c, 0) 0 (some w1)) (98, c, 0) 1 (some r138)) (fun D142 => x7_sum_L5 N u n Ds134 D142 V140 c137 (98, c, 0))))))) else some (.inr (Ds, Df, V, c, w1))))
theorem w_x7_sum_L5 {X : gz_X} {B : gp_B} {E : gp_E} {N q : Nat} {u : gz_N} {o : gp_R gz_N} (hX : gz_ok X cX7_sum RX7 "sum" 3 (gp_rm 12 254 q) (some (.object "ClaspedFair$Term"))) (hE : gp_end X B E gp_pT gp_rA o 12 254) (hnu : gp_nn B u) : ∀ (n : Nat) {Ds : gz_S} {Df : gz_R} {V : gz_V} {c : Nat} {w1 : gz_N}, (90 ≤ u.1 ∧ Ds u = some (7, 9)) → gp_pT Ds w1 → x7_sum_L5 N u n Ds Df V c w1 = some o → gP X 3 B E Ds Df V c 5 (fun ad => [(0, .ref (ad u)), (1, .ref (ad w1))]) (fun _ => []) := by
  intro n
  induction n with
  | zero => intro Ds Df V c w1 hu hw1 h; rw [x7_sum_L5] at h; cases h
  | succ n ih =>
    intro Ds Df V c w1 hu hw1 h
    rw [x7_sum_L5] at h
    intro ad hI
    refine gz_aload_n (q := 0) hX dX7_sum_5 rfl rfl ?_
    refine xg_X7_121 hX (xs_dyn hu) dX7_sum_6 ?_
    refine gz_bipush (v := 43) hX dX7_sum_9 gl_b_43 ?_
    refine gz_icmp_eq (tgt := 23) hX dX7_sum_11 (by decide) (fun c_101 => ?_) (fun c_101 => ?_)
    · have h := gz_ifp c_101 h
      refine gz_aload_n (q := 0) hX dX7_sum_23 rfl rfl ?_
      refine xg_X7_121 hX (xs_dyn hu) dX7_sum_24 ?_
      obtain ⟨x102, e103, h⟩ := gz_let_o h
      refine gz_nm e103 ?_
      refine gz_istore_n (lv2 := [(2, .int x102), (0, .ref (ad u)), (1, .ref (ad w1))]) hX dX7_sum_27 rfl (by decide) rfl ?_
      refine gz_aload_n (q := 1) hX dX7_sum_28 rfl rfl ?_
      obtain ⟨V104, e105, h⟩ := gz_bd_o h
      refine gu_callV (ci := 7) (n := u) (As := []) hX (c_x7_next hu e105) (lw_x7_next_ q555) rfl rfl nn_x7_next ⟨Nat.le_of_ble_eq_true rfl, Nat.le_of_ble_eq_true rfl⟩ (gp_hf hX hE hI) (by decide) rfl (xs_dyn hu) rfl rfl (Nat.le_of_ble_eq_true rfl) dX7_sum_29 rfl ?_
      have hI := hI.next hnu e105
      obtain ⟨Ds106, Df107, V108, c109, e110, h⟩ := gp_nw_o h
      refine gp_new (ci := 11) hX hE hI e110 in_X12 tyX12_ok (by decide) rfl q782 q783 q167 (by decide) (by decide) (fun ad => [(2, .int x102), (0, .ref (ad u)), (1, .ref (ad w1))]) (fun ad => []) (fun ad2 h2 => by have e0 := h2 u (Or.inl (gz_nn (xs_dyn hu))); have e1 := h2 w1 (Or.inl (gp_nnT hw1)); exact ⟨by first | rfl | simp only [e0, e1], by first | rfl | simp only [e0, e1]⟩) dX7_sum_32 (fun hgr hj111 hj111n => ?_)
      have hu := gp_up hgr hu
      have hw1 := gp_upT hgr hw1
      intro ad hI
      refine gz_dupa hX dX7_sum_35 ?_
      refine gz_aload_n (q := 2) hX dX7_sum_36 rfl rfl ?_
      refine gz_iload_n (q := 0) hX dX7_sum_37 rfl rfl ?_
      refine gz_aload_n (q := 1) hX dX7_sum_38 rfl rfl ?_
      refine gp_call (ci := 7) (n := u) (As := []) hX hE hI h (fun o1 e1 hc1 => (c_x7_product hE.2.2.2.2.1 hI.1 hc1 hu hnu e1)) (lw_x7_product_ q747) nn_x7_product ⟨Nat.le_of_ble_eq_true rfl, Nat.le_of_ble_eq_true rfl⟩ (by decide) rfl (xs_dyn hu) rfl (fun ad => [(2, .int x102), (0, .ref (ad u)), (1, .ref (ad w1))]) (fun ad => [.int x102, .ref (ad w1), .ref (ad (98, c, 0)), .ref (ad (98, c, 0))]) rfl (Nat.le_of_ble_eq_true rfl) (fun ad2 h2 => by have e0 := h2 u (Or.inl (gz_nn (xs_dyn hu))); have e1 := h2 w1 (Or.inl (gp_nnT hw1)); have e2 := h2 (98, c, 0) (Or.inl (gz_nn (xs_dyn ⟨gp_90 hj111n, hj111⟩))); exact ⟨by first | rfl | simp only [e0, e1, e2], by first | rfl | simp only [e0, e1, e2]⟩) dX7_sum_39 (fun Ds112 Df113 V114 c115 r116 h hgr hP117 => ?_)
      have hu := gp_up hgr hu
      have hw1 := gp_upT hgr hw1
      have hj111 := hgr _ _ hj111
      intro ad hI
      obtain ⟨V118, e119, h⟩ := gz_let_o h
      obtain ⟨D120, e121, h⟩ := gz_let_o h
      refine gp_ini (V1 := V118) (Df1 := D120) (n := (98, c, 0)) (As := [.ref (ad w1), .int x102, .ref (ad r116)]) (rest := [.ref (ad (98, c, 0))]) hX hE hI (by rw [← e119]; exact (c_x12_init (xs_dyn ⟨gp_90 hj111n, hj111⟩) (gp_n0 hj111n) (gp_nnT hw1) (gp_nnT hP117))) (lw_meth q786) q167 q784 q785 rfl rfl rfl nn_x12_init ⟨Nat.le_of_ble_eq_true rfl, Nat.le_of_ble_eq_true rfl⟩ rfl rfl (Nat.le_of_ble_eq_true rfl) dX7_sum_42 (by rw [← e121, gp_xur (gp_90 hj111n), gp_xur (gp_90 hj111n)]) ?_
      have hI := hI.wV (V2 := V118) hj111n (fun a ha => by rw [← e119]; simp only [gz_up_ne ha])
      have hI := hI.wR (Df2 := D120) hj111n (fun a ha => by rw [← e121]; simp only [gz_ur_ne ha])
      have ht122 := gp_tOf hj111n hj111
      refine gz_astore_n (lv2 := [(1, .ref (ad (98, c, 0))), (2, .int x102), (0, .ref (ad u))]) hX dX7_sum_45 rfl (by decide) rfl ?_
      refine gz_lv (lv2 := [(1, .ref (ad (98, c, 0))), (0, .ref (ad u))]) [0, 2] rfl ?_
      refine gz_goto (tgt := 5) hX dX7_sum_46 (by decide) ?_
      exact gz_lv [1, 0] rfl (ih hu ht122 h ad hI)
    · have h := gz_ifn c_101 h
      refine gz_aload_n (q := 0) hX dX7_sum_14 rfl rfl ?_
      refine xg_X7_121 hX (xs_dyn hu) dX7_sum_15 ?_
      refine gz_bipush (v := 45) hX dX7_sum_18 gl_b_45 ?_
      refine gz_icmp_ne (tgt := 49) hX dX7_sum_20 (by decide) (fun c_123 => ?_) (fun c_123 => ?_)
      · have h := gz_ifn c_123 h
        refine gz_aload_n (q := 1) hX dX7_sum_49 rfl rfl ?_
        exact gp_aret hX hE hI rfl (Or.inl ⟨_, rfl⟩) hw1 h dX7_sum_50
      · have h := gz_ifp c_123 h
        refine gz_aload_n (q := 0) hX dX7_sum_23 rfl rfl ?_
        refine xg_X7_121 hX (xs_dyn hu) dX7_sum_24 ?_
        obtain ⟨x124, e125, h⟩ := gz_let_o h
        refine gz_nm e125 ?_
        refine gz_istore_n (lv2 := [(2, .int x124), (0, .ref (ad u)), (1, .ref (ad w1))]) hX dX7_sum_27 rfl (by decide) rfl ?_
        refine gz_aload_n (q := 1) hX dX7_sum_28 rfl rfl ?_
        obtain ⟨V126, e127, h⟩ := gz_bd_o h
        refine gu_callV (ci := 7) (n := u) (As := []) hX (c_x7_next hu e127) (lw_x7_next_ q555) rfl rfl nn_x7_next ⟨Nat.le_of_ble_eq_true rfl, Nat.le_of_ble_eq_true rfl⟩ (gp_hf hX hE hI) (by decide) rfl (xs_dyn hu) rfl rfl (Nat.le_of_ble_eq_true rfl) dX7_sum_29 rfl ?_
        have hI := hI.next hnu e127
        obtain ⟨Ds128, Df129, V130, c131, e132, h⟩ := gp_nw_o h
        refine gp_new (ci := 11) hX hE hI e132 in_X12 tyX12_ok (by decide) rfl q782 q783 q167 (by decide) (by decide) (fun ad => [(2, .int x124), (0, .ref (ad u)), (1, .ref (ad w1))]) (fun ad => []) (fun ad2 h2 => by have e0 := h2 u (Or.inl (gz_nn (xs_dyn hu))); have e1 := h2 w1 (Or.inl (gp_nnT hw1)); exact ⟨by first | rfl | simp only [e0, e1], by first | rfl | simp only [e0, e1]⟩) dX7_sum_32 (fun hgr hj133 hj133n => ?_)
        have hu := gp_up hgr hu
        have hw1 := gp_upT hgr hw1
        intro ad hI
        refine gz_dupa hX dX7_sum_35 ?_
        refine gz_aload_n (q := 2) hX dX7_sum_36 rfl rfl ?_
        refine gz_iload_n (q := 0) hX dX7_sum_37 rfl rfl ?_
        refine gz_aload_n (q := 1) hX dX7_sum_38 rfl rfl ?_
        refine gp_call (ci := 7) (n := u) (As := []) hX hE hI h (fun o1 e1 hc1 => (c_x7_product hE.2.2.2.2.1 hI.1 hc1 hu hnu e1)) (lw_x7_product_ q747) nn_x7_product ⟨Nat.le_of_ble_eq_true rfl, Nat.le_of_ble_eq_true rfl⟩ (by decide) rfl (xs_dyn hu) rfl (fun ad => [(2, .int x124), (0, .ref (ad u)), (1, .ref (ad w1))]) (fun ad => [.int x124, .ref (ad w1), .ref (ad (98, c, 0)), .ref (ad (98, c, 0))]) rfl (Nat.le_of_ble_eq_true rfl) (fun ad2 h2 => by have e0 := h2 u (Or.inl (gz_nn (xs_dyn hu))); have e1 := h2 w1 (Or.inl (gp_nnT hw1)); have e2 := h2 (98, c, 0) (Or.inl (gz_nn (xs_dyn ⟨gp_90 hj133n, hj133⟩))); exact ⟨by first | rfl | simp only [e0, e1, e2], by first | rfl | simp only [e0, e1, e2]⟩) dX7_sum_39 (fun Ds134 Df135 V136 c137 r138 h hgr hP139 => ?_)
        have hu := gp_up hgr hu
        have hw1 := gp_upT hgr hw1
        have hj133 := hgr _ _ hj133
        intro ad hI
        obtain ⟨V140, e141, h⟩ := gz_let_o h
        obtain ⟨D142, e143, h⟩ := gz_let_o h
        refine gp_ini (V1 := V140) (Df1 := D142) (n := (98, c, 0)) (As := [.ref (ad w1), .int x124, .ref (ad r138)]) (rest := [.ref (ad (98, c, 0))]) hX hE hI (by rw [← e141]; exact (c_x12_init (xs_dyn ⟨gp_90 hj133n, hj133⟩) (gp_n0 hj133n) (gp_nnT hw1) (gp_nnT hP139))) (lw_meth q786) q167 q784 q785 rfl rfl rfl nn_x12_init ⟨Nat.le_of_ble_eq_true rfl, Nat.le_of_ble_eq_true rfl⟩ rfl rfl (Nat.le_of_ble_eq_true rfl) dX7_sum_42 (by rw [← e143, gp_xur (gp_90 hj133n), gp_xur (gp_90 hj133n)]) ?_
        have hI := hI.wV (V2 := V140) hj133n (fun a ha => by rw [← e141]; simp only [gz_up_ne ha])
        have hI := hI.wR (Df2 := D142) hj133n (fun a ha => by rw [← e143]; simp only [gz_ur_ne ha])
        have ht144 := gp_tOf hj133n hj133
        refine gz_astore_n (lv2 := [(1, .ref (ad (98, c, 0))), (2, .int x124), (0, .ref (ad u))]) hX dX7_sum_45 rfl (by decide) rfl ?_
        refine gz_lv (lv2 := [(1, .ref (ad (98, c, 0))), (0, .ref (ad u))]) [0, 2] rfl ?_
        refine gz_goto (tgt := 5) hX dX7_sum_46 (by decide) ?_
        exact gz_lv [1, 0] rfl (ih hu ht144 h ad hI)
noncomputable def x7_sum (N : Nat) (Ds : gz_S) (Df : gz_R) (V : gz_V) (c : Nat) (u : gz_N) : gp_O gz_N := gp_bx c (x7_product N Ds Df V c u) (fun Ds1 Df2 V3 c4 r5 => x7_sum_L5 N u N Ds1 Df2 V3 c4 r5)
theorem c_x7_sum {l : Launch} {D : va_G} {aC : Nat → ClassId} {ad : gz_A0} {N : Nat} {Ds : gz_S} {Df : gz_R} {V : gz_V} {c : Nat} {u : gz_N} {B : gp_B} {o : gp_R gz_N} (htr : l.stackTraces = false) (hb : gp_ba B Ds Df V c ad) (hct : c ≤ gp_ct o) (hu : 90 ≤ u.1 ∧ Ds u = some (7, 9)) (hnu : gp_nn B u) (h : x7_sum N Ds Df V c u = some o) : gp_Met l yX7_sum cX7_sum 3 (some (.object "ClaspedFair$Term")) 12 254 D aC ad Ds Df V c [.ref (ad u)] B gp_pT gp_rA o := by
  refine gp_of (own := RX7) (mn := "sum") (lv := [(0, .ref (ad u))]) (by decide) rfl rfl (Nat.le_of_ble_eq_true rfl) rfl htr hb hct ?_
  intro X hX hE hI
  rw [x7_sum] at h
  refine gz_aload_n (q := 0) hX dX7_sum_0 rfl rfl ?_
  refine gp_call (ci := 7) (n := u) (As := []) hX hE hI h (fun o1 e1 hc1 => (c_x7_product hE.2.2.2.2.1 hI.1 hc1 hu hnu e1)) (lw_x7_product_ q747) nn_x7_product ⟨Nat.le_of_ble_eq_true rfl, Nat.le_of_ble_eq_true rfl⟩ (by decide) rfl (xs_dyn hu) rfl (fun ad => [(0, .ref (ad u))]) (fun ad => []) rfl (Nat.le_of_ble_eq_true rfl) (fun ad2 h2 => by have e0 := h2 u (Or.inl (gz_nn (xs_dyn hu))); exact ⟨by first | rfl | simp only [e0], by first | rfl | simp only [e0]⟩) dX7_sum_1 (fun Ds1 Df2 V3 c4 r5 h hgr hP6 => ?_)
  have hu := gp_up hgr hu
  intro ad hI
  refine gz_astore_n (lv2 := [(1, .ref (ad r5)), (0, .ref (ad u))]) hX dX7_sum_4 rfl (by decide) rfl ?_
  exact gz_lv [1, 0] rfl (w_x7_sum_L5 hX hE hnu N hu hP6 h ad hI)
theorem lw_x7_sum_ {o : String} {i : Nat} (hl : Cond.methodLink o i yX7_sum ∈ lw_all) : GoodIn lw_all (wsV o i RX7 yX7_sum (ws_ yX7_sum cX7_sum 3 (some (.object "ClaspedFair$Term")))) := lw_V hl q745 qs14 q157 q746
theorem nn_x7_sum : yX7_sum.cls = RX7 ∧ yX7_sum.cls ≠ "java/lang/invoke/MethodHandle" ∧ yX7_sum.cls ≠ "java/lang/invoke/VarHandle" ∧ (parseMethodDescriptor yX7_sum.desc).map (fun d => d.parameters.length) = some 0 := by decide +kernel
