/-! READER, its parser. Printed by wip/D-99505w/gen/mkx8.py -/
set_option maxRecDepth 100000
theorem nn_x15_init : yX15_init.cls ≠ "java/lang/invoke/MethodHandle" ∧ yX15_init.cls ≠ "java/lang/invoke/VarHandle" ∧ (parseMethodDescriptor yX15_init.desc).map (fun d => d.parameters.length) = some 5 := by decide +kernel
noncomputable def x7_fair_L12 (N : Nat) (Bc : Nat) (u : gz_N) : Nat → gz_S → gz_R → gz_V → Nat → gz_N → gp_O gz_N
  | 0, _, _, _, _, _ => none
  | n + 1, Ds, Df, V, c, w1 => (if (V u 4) = 0 then some (.inr (Ds, Df, V, c, w1)) else (if (V u 4) = 10 then (if (j2_size V w1) = 16 then some (.inl (3, V u 3, c + 1)) else gz_bd (x7_next N Ds Df V u) (fun V104 => gp_bx c (x7_number N Ds Df V104 c u 0 999) (fun Ds106 Df107 V108 c109 r110 => gz_gd (Df107 u 8 = some (10, 0, 0)) (gp_bx c109 (x7_behind N Ds106 Df107 V108 c109 u 11 0 ((V108 (20, 0, 0) 13) - 1)) (fun Ds113 Df114 V115 c116 r117 => gz_gd (Df114 u 8 = some (10, 0, 0)) (gp_bx c116 (x7_behind N Ds113 Df114 V115 c116 u 12 0 ((V115 (20, 0, 0) 14) - 1)) (fun Ds120 Df121 V122 c123 r124 => gp_bx c123 (x7_behind N Ds120 Df121 V122 c123 u 13 0 9999) (fun Ds126 Df127 V128 c129 r130 => gp_nw (14, 5) Ds126 Df127 V128 c129 (fun Ds132 Df133 V134 c135 => gp_bx c135 (x7_behind N Ds132 Df133 V134 c135 u 14 1 9) (fun Ds138 Df139 V140 c141 r142 => gz_let (gz_up (gz_up (gz_up (gz_up (gz_up V140 (98, c129, 0) 0 r110) (98, c129, 0) 1 r117) (98, c129, 0) 2 r124) (98, c129, 0) 3 r130) (98, c129, 0) 4 r142) (fun V144 => gp_bx c141 (j2_add Bc Ds138 Df139 V144 c141 w1 (98, c129, 0)) (fun Ds146 Df147 V148 c149 r150 => gp_bx c149 (x7_must N Ds146 Df147 V148 c149 u 59) (fun Ds152 Df153 V154 c155 _ => x7_fair_L12 N Bc u n Ds152 Df153 V154 c155 w1))))))))))))) else some (.inl (1, V u 3, c + 1))))
theorem w_x7_fair_L12 {X : gz_X} {B : gp_B} {E : gp_E} {N Bc q : Nat} {u : gz_N} {o : gp_R gz_N} (hX : gz_ok X cX7_fair RX7 "fair" 6 (gp_rm 14 300 q) (some (.object "java/util/ArrayList"))) (hE : gp_end X B E gp_pL gp_rA o 14 300) (hnu : gp_nn B u) (hBc : B.2.2.2.2 = Bc) : ∀ (n : Nat) {Ds : gz_S} {Df : gz_R} {V : gz_V} {c : Nat} {w1 : gz_N}, (90 ≤ u.1 ∧ Ds u = some (7, 9)) → Ds w1 = some (18, 3) → gp_nn B w1 → x7_fair_L12 N Bc u n Ds Df V c w1 = some o → gP X 6 B E Ds Df V c 12 (fun ad => [(0, .ref (ad u)), (1, .ref (ad w1))]) (fun _ => []) := by
  intro n
  induction n with
  | zero => intro Ds Df V c w1 hu hw1 hw1n h; rw [x7_fair_L12] at h; cases h
  | succ n ih =>
    intro Ds Df V c w1 hu hw1 hw1n h
    rw [x7_fair_L12] at h
    intro ad hI
    refine gz_aload_n (q := 0) hX dX7_fair_12 rfl rfl ?_
    refine xg_X7_121 hX (xs_dyn hu) dX7_fair_13 ?_
    refine gz_if_eq (tgt := 165) hX dX7_fair_16 (by decide) (fun c_101 => ?_) (fun c_101 => ?_)
    · have h := gz_ifp c_101 h
      refine gz_aload_n (q := 1) hX dX7_fair_165 rfl rfl ?_
      exact gp_aret hX hE hI rfl (Or.inl ⟨_, rfl⟩) (gp_lOf hw1n hw1) h dX7_fair_166
    · have h := gz_ifn c_101 h
      refine gz_aload_n (q := 0) hX dX7_fair_19 rfl rfl ?_
      refine xg_X7_121 hX (xs_dyn hu) dX7_fair_20 ?_
      refine gz_bipush (v := 10) hX dX7_fair_23 gl_b_10 ?_
      refine gz_icmp_eq (tgt := 41) hX dX7_fair_25 (by decide) (fun c_102 => ?_) (fun c_102 => ?_)
      · have h := gz_ifp c_102 h
        refine gz_aload_n (q := 1) hX dX7_fair_41 rfl rfl ?_
        refine gu_callV (ci := 18) (n := w1) (As := []) hX (c_j2_size ⟨gp_90 hw1n, hw1⟩ rfl) (lw_j2_size_ q739) rfl rfl nn_j2_size ⟨Nat.le_of_ble_eq_true rfl, Nat.le_of_ble_eq_true rfl⟩ (gp_hf hX hE hI) (by decide) rfl (xs_dyn ⟨gp_90 hw1n, hw1⟩) rfl rfl (Nat.le_of_ble_eq_true rfl) dX7_fair_42 rfl ?_
        refine gz_bipush (v := 16) hX dX7_fair_45 gl_b_16 ?_
        refine gz_icmp_ne (tgt := 63) hX dX7_fair_47 (by decide) (fun c_103 => ?_) (fun c_103 => ?_)
        · have h := gz_ifn c_103 h
          refine gz_aload_n (q := 0) hX dX7_fair_63 rfl rfl ?_
          obtain ⟨V104, e105, h⟩ := gz_bd_o h
          refine gu_callV (ci := 7) (n := u) (As := []) hX (c_x7_next hu e105) (lw_x7_next_ q555) rfl rfl nn_x7_next ⟨Nat.le_of_ble_eq_true rfl, Nat.le_of_ble_eq_true rfl⟩ (gp_hf hX hE hI) (by decide) rfl (xs_dyn hu) rfl rfl (Nat.le_of_ble_eq_true rfl) dX7_fair_64 rfl ?_
          have hI := hI.next hnu e105
          refine gz_aload_n (q := 0) hX dX7_fair_67 rfl rfl ?_
          refine gz_iconst (v := 0) hX dX7_fair_68 gl_c_0 ?_
          refine gz_sipush (v := 999) hX dX7_fair_69 gl_s_999 ?_
          refine gp_call (ci := 7) (n := u) (As := [.int 0, .int 999]) hX hE hI h (fun o1 e1 hc1 => (c_x7_number hE.2.2.2.2.1 hI.1 hc1 hu hnu e1)) (lw_x7_number_ q757) nn_x7_number ⟨Nat.le_of_ble_eq_true rfl, Nat.le_of_ble_eq_true rfl⟩ (by decide) rfl (xs_dyn hu) rfl (fun ad => [(0, .ref (ad u)), (1, .ref (ad w1))]) (fun ad => []) rfl (Nat.le_of_ble_eq_true rfl) (fun ad2 h2 => by have e0 := h2 u (Or.inl (gz_nn (xs_dyn hu))); have e1 := h2 w1 (Or.inl (gz_nn (xs_dyn ⟨gp_90 hw1n, hw1⟩))); exact ⟨by first | rfl | simp only [e0, e1], by first | rfl | simp only [e0, e1]⟩) dX7_fair_72 (fun Ds106 Df107 V108 c109 r110 h hgr hP111 => ?_)
          have hu := gp_up hgr hu
          have hw1 := hgr _ _ hw1
          intro ad hI
          refine gz_istore_n (lv2 := [(2, .int r110), (0, .ref (ad u)), (1, .ref (ad w1))]) hX dX7_fair_75 rfl (by decide) rfl ?_
          refine gz_aload_n (q := 1) hX dX7_fair_76 rfl rfl ?_
          refine gz_bipush (v := 11) hX dX7_fair_77 gl_b_11 ?_
          refine gz_iconst (v := 0) hX dX7_fair_79 gl_c_0 ?_
          refine gz_aload_n (q := 1) hX dX7_fair_80 rfl rfl ?_
          obtain ⟨b112, h⟩ := gz_gd_o h
          refine xg_X7_3 (n2 := (10, 0, 0)) hX (xs_dyn hu) ((xr_dyn (hu).1).trans b112) dX7_fair_81 ?_
          refine xg_X7_143 (n2 := (20, 0, 0)) hX xs_main rfl dX7_fair_84 ?_
          refine xg_X7_147 hX (xs_M (by decide)) dX7_fair_87 ?_
          refine gz_iconst (v := 1) hX dX7_fair_90 gl_c_1 ?_
          refine gz_isub hX dX7_fair_91 ?_
          refine gp_call (ci := 7) (n := u) (As := [.int 11, .int 0, .int ((V108 (20, 0, 0) 13) - 1)]) hX hE hI h (fun o1 e1 hc1 => (c_x7_behind hE.2.2.2.2.1 hI.1 hc1 hu hnu e1)) (lw_x7_behind_ q918) nn_x7_behind ⟨Nat.le_of_ble_eq_true rfl, Nat.le_of_ble_eq_true rfl⟩ (by decide) rfl (xs_dyn hu) rfl (fun ad => [(2, .int r110), (0, .ref (ad u)), (1, .ref (ad w1))]) (fun ad => []) rfl (Nat.le_of_ble_eq_true rfl) (fun ad2 h2 => by have e0 := h2 u (Or.inl (gz_nn (xs_dyn hu))); have e1 := h2 w1 (Or.inl (gz_nn (xs_dyn ⟨gp_90 hw1n, hw1⟩))); exact ⟨by first | rfl | simp only [e0, e1], by first | rfl | simp only [e0, e1]⟩) dX7_fair_92 (fun Ds113 Df114 V115 c116 r117 h hgr hP118 => ?_)
          have hu := gp_up hgr hu
          have hw1 := hgr _ _ hw1
          intro ad hI
          refine gz_istore_n (lv2 := [(3, .int r117), (2, .int r110), (0, .ref (ad u)), (1, .ref (ad w1))]) hX dX7_fair_95 rfl (by decide) rfl ?_
          refine gz_aload_n (q := 2) hX dX7_fair_96 rfl rfl ?_
          refine gz_bipush (v := 12) hX dX7_fair_97 gl_b_12 ?_
          refine gz_iconst (v := 0) hX dX7_fair_99 gl_c_0 ?_
          refine gz_aload_n (q := 2) hX dX7_fair_100 rfl rfl ?_
          obtain ⟨b119, h⟩ := gz_gd_o h
          refine xg_X7_3 (n2 := (10, 0, 0)) hX (xs_dyn hu) ((xr_dyn (hu).1).trans b119) dX7_fair_101 ?_
          refine xg_X7_143 (n2 := (20, 0, 0)) hX xs_main rfl dX7_fair_104 ?_
          refine xg_X7_227 hX (xs_M (by decide)) dX7_fair_107 ?_
          refine gz_iconst (v := 1) hX dX7_fair_110 gl_c_1 ?_
          refine gz_isub hX dX7_fair_111 ?_
          refine gp_call (ci := 7) (n := u) (As := [.int 12, .int 0, .int ((V115 (20, 0, 0) 14) - 1)]) hX hE hI h (fun o1 e1 hc1 => (c_x7_behind hE.2.2.2.2.1 hI.1 hc1 hu hnu e1)) (lw_x7_behind_ q918) nn_x7_behind ⟨Nat.le_of_ble_eq_true rfl, Nat.le_of_ble_eq_true rfl⟩ (by decide) rfl (xs_dyn hu) rfl (fun ad => [(3, .int r117), (2, .int r110), (0, .ref (ad u)), (1, .ref (ad w1))]) (fun ad => []) rfl (Nat.le_of_ble_eq_true rfl) (fun ad2 h2 => by have e0 := h2 u (Or.inl (gz_nn (xs_dyn hu))); have e1 := h2 w1 (Or.inl (gz_nn (xs_dyn ⟨gp_90 hw1n, hw1⟩))); exact ⟨by first | rfl | simp only [e0, e1], by first | rfl | simp only [e0, e1]⟩) dX7_fair_112 (fun Ds120 Df121 V122 c123 r124 h hgr hP125 => ?_)
          have hu := gp_up hgr hu
          have hw1 := hgr _ _ hw1
          intro ad hI
          refine gz_istore (lv2 := [(4, .int r124), (3, .int r117), (2, .int r110), (0, .ref (ad u)), (1, .ref (ad w1))]) hX dX7_fair_115 (by decide) rfl ?_
          refine gz_aload_n (q := 3) hX dX7_fair_117 rfl rfl ?_
          refine gz_bipush (v := 13) hX dX7_fair_118 gl_b_13 ?_
          refine gz_iconst (v := 0) hX dX7_fair_120 gl_c_0 ?_
          refine gz_sipush (v := 9999) hX dX7_fair_121 gl_s_9999 ?_
          refine gp_call (ci := 7) (n := u) (As := [.int 13, .int 0, .int 9999]) hX hE hI h (fun o1 e1 hc1 => (c_x7_behind hE.2.2.2.2.1 hI.1 hc1 hu hnu e1)) (lw_x7_behind_ q918) nn_x7_behind ⟨Nat.le_of_ble_eq_true rfl, Nat.le_of_ble_eq_true rfl⟩ (by decide) rfl (xs_dyn hu) rfl (fun ad => [(4, .int r124), (3, .int r117), (2, .int r110), (0, .ref (ad u)), (1, .ref (ad w1))]) (fun ad => []) rfl (Nat.le_of_ble_eq_true rfl) (fun ad2 h2 => by have e0 := h2 u (Or.inl (gz_nn (xs_dyn hu))); have e1 := h2 w1 (Or.inl (gz_nn (xs_dyn ⟨gp_90 hw1n, hw1⟩))); exact ⟨by first | rfl | simp only [e0, e1], by first | rfl | simp only [e0, e1]⟩) dX7_fair_124 (fun Ds126 Df127 V128 c129 r130 h hgr hP131 => ?_)
          have hu := gp_up hgr hu
          have hw1 := hgr _ _ hw1
          intro ad hI
          refine gz_istore (lv2 := [(5, .int r130), (4, .int r124), (3, .int r117), (2, .int r110), (0, .ref (ad u)), (1, .ref (ad w1))]) hX dX7_fair_127 (by decide) rfl ?_
          refine gz_aload_n (q := 5) hX dX7_fair_129 rfl rfl ?_
          obtain ⟨Ds132, Df133, V134, c135, e136, h⟩ := gp_nw_o h
          refine gp_new (ci := 14) hX hE hI e136 in_X15 tyX15_ok (by decide) rfl q922 q923 q173 (by decide) (by decide) (fun ad => [(5, .int r130), (4, .int r124), (3, .int r117), (2, .int r110), (0, .ref (ad u)), (1, .ref (ad w1))]) (fun ad => [.ref (ad w1)]) (fun ad2 h2 => by have e0 := h2 u (Or.inl (gz_nn (xs_dyn hu))); have e1 := h2 w1 (Or.inl (gz_nn (xs_dyn ⟨gp_90 hw1n, hw1⟩))); exact ⟨by first | rfl | simp only [e0, e1], by first | rfl | simp only [e0, e1]⟩) dX7_fair_130 (fun hgr hj137 hj137n => ?_)
          have hu := gp_up hgr hu
          have hw1 := hgr _ _ hw1
          intro ad hI
          refine gz_dupa hX dX7_fair_133 ?_
          refine gz_iload_n (q := 3) hX dX7_fair_134 rfl rfl ?_
          refine gz_iload_n (q := 2) hX dX7_fair_135 rfl rfl ?_
          refine gz_iload (q := 1) hX dX7_fair_136 rfl ?_
          refine gz_iload (q := 0) hX dX7_fair_138 rfl ?_
          refine gz_aload_n (q := 4) hX dX7_fair_140 rfl rfl ?_
          refine gz_bipush (v := 14) hX dX7_fair_141 gl_b_14 ?_
          refine gz_iconst (v := 1) hX dX7_fair_143 gl_c_1 ?_
          refine gz_bipush (v := 9) hX dX7_fair_144 gl_b_9 ?_
          refine gp_call (ci := 7) (n := u) (As := [.int 14, .int 1, .int 9]) hX hE hI h (fun o1 e1 hc1 => (c_x7_behind hE.2.2.2.2.1 hI.1 hc1 hu hnu e1)) (lw_x7_behind_ q918) nn_x7_behind ⟨Nat.le_of_ble_eq_true rfl, Nat.le_of_ble_eq_true rfl⟩ (by decide) rfl (xs_dyn hu) rfl (fun ad => [(5, .int r130), (4, .int r124), (3, .int r117), (2, .int r110), (0, .ref (ad u)), (1, .ref (ad w1))]) (fun ad => [.int r130, .int r124, .int r117, .int r110, .ref (ad (98, c129, 0)), .ref (ad (98, c129, 0)), .ref (ad w1)]) rfl (Nat.le_of_ble_eq_true rfl) (fun ad2 h2 => by have e0 := h2 u (Or.inl (gz_nn (xs_dyn hu))); have e1 := h2 w1 (Or.inl (gz_nn (xs_dyn ⟨gp_90 hw1n, hw1⟩))); have e2 := h2 (98, c129, 0) (Or.inl (gz_nn (xs_dyn ⟨gp_90 hj137n, hj137⟩))); exact ⟨by first | rfl | simp only [e0, e1, e2], by first | rfl | simp only [e0, e1, e2]⟩) dX7_fair_146 (fun Ds138 Df139 V140 c141 r142 h hgr hP143 => ?_)
          have hu := gp_up hgr hu
          have hw1 := hgr _ _ hw1
          have hj137 := hgr _ _ hj137
          intro ad hI
          obtain ⟨V144, e145, h⟩ := gz_let_o h
          refine gp_ini (V1 := V144) (Df1 := Df139) (n := (98, c129, 0)) (As := [.int r110, .int r117, .int r124, .int r130, .int r142]) (rest := [.ref (ad (98, c129, 0)), .ref (ad w1)]) hX hE hI (by rw [← e145]; exact (c_x15_init (xs_dyn ⟨gp_90 hj137n, hj137⟩) (gp_n0 hj137n))) (lw_meth q926) q173 q924 q925 rfl rfl rfl nn_x15_init ⟨Nat.le_of_ble_eq_true rfl, Nat.le_of_ble_eq_true rfl⟩ rfl rfl (Nat.le_of_ble_eq_true rfl) dX7_fair_149 rfl ?_
          have hI := hI.wV (V2 := V144) hj137n (fun a ha => by rw [← e145]; simp only [gz_up_ne ha])
          refine gp_call (ci := 18) (n := w1) (As := [.ref (ad (98, c129, 0))]) hX hE hI h (fun o1 e1 hc1 => (c_j2_add hE.2.2.2.2.1 hI.1 hc1 hw1 hw1n (gp_elX15 hj137n hj137) hBc e1)) (lw_j2_add_ q847) nn_j2_add ⟨Nat.le_of_ble_eq_true rfl, Nat.le_of_ble_eq_true rfl⟩ (by decide) rfl (xs_dyn ⟨gp_90 hw1n, hw1⟩) rfl (fun ad => [(5, .int r130), (4, .int r124), (3, .int r117), (2, .int r110), (0, .ref (ad u)), (1, .ref (ad w1))]) (fun ad => []) rfl (Nat.le_of_ble_eq_true rfl) (fun ad2 h2 => by have e0 := h2 u (Or.inl (gz_nn (xs_dyn hu))); have e1 := h2 w1 (Or.inl (gz_nn (xs_dyn ⟨gp_90 hw1n, hw1⟩))); exact ⟨by first | rfl | simp only [e0, e1], by first | rfl | simp only [e0, e1]⟩) dX7_fair_152 (fun Ds146 Df147 V148 c149 r150 h hgr hP151 => ?_)
          have hu := gp_up hgr hu
          have hw1 := hgr _ _ hw1
          intro ad hI
          refine gz_pop hX dX7_fair_155 rfl ?_
          refine gz_aload_n (q := 4) hX dX7_fair_156 rfl rfl ?_
          refine gz_bipush (v := 59) hX dX7_fair_157 gl_b_59 ?_
          refine gp_call (ci := 7) (n := u) (As := [.int 59]) hX hE hI h (fun o1 e1 hc1 => (c_x7_must hE.2.2.2.2.1 hI.1 hc1 hu hnu e1)) (lw_x7_must_ q824) nn_x7_must ⟨Nat.le_of_ble_eq_true rfl, Nat.le_of_ble_eq_true rfl⟩ (by decide) rfl (xs_dyn hu) rfl (fun ad => [(5, .int r130), (4, .int r124), (3, .int r117), (2, .int r110), (0, .ref (ad u)), (1, .ref (ad w1))]) (fun ad => []) rfl (Nat.le_of_ble_eq_true rfl) (fun ad2 h2 => by have e0 := h2 u (Or.inl (gz_nn (xs_dyn hu))); have e1 := h2 w1 (Or.inl (gz_nn (xs_dyn ⟨gp_90 hw1n, hw1⟩))); exact ⟨by first | rfl | simp only [e0, e1], by first | rfl | simp only [e0, e1]⟩) dX7_fair_159 (fun Ds152 Df153 V154 c155 _ h hgr hP157 => ?_)
          have hu := gp_up hgr hu
          have hw1 := hgr _ _ hw1
          intro ad hI
          refine gz_goto (tgt := 12) hX dX7_fair_162 (by decide) ?_
          exact gz_lv [4, 5] rfl (ih hu hw1 hw1n h ad hI)
        · have h := gz_ifp c_103 h
          exact gp_throw (q0 := 0) hX hE hI hu h rfl ⟨Nat.le_of_ble_eq_true rfl, Nat.le_of_ble_eq_true rfl⟩ dX7_fair_50 dX7_fair_53 dX7_fair_54 (by decide) dX7_fair_55 dX7_fair_56 dX7_fair_59 dX7_fair_62
      · have h := gz_ifn c_102 h
        exact gp_throw (q0 := 0) hX hE hI hu h rfl ⟨Nat.le_of_ble_eq_true rfl, Nat.le_of_ble_eq_true rfl⟩ dX7_fair_28 dX7_fair_31 dX7_fair_32 (by decide) dX7_fair_33 dX7_fair_34 dX7_fair_37 dX7_fair_40
noncomputable def x7_fair (N : Nat) (Bc : Nat) (Ds : gz_S) (Df : gz_R) (V : gz_V) (c : Nat) (u : gz_N) : gp_O gz_N := gp_nw (18, 3) Ds Df V c (fun Ds1 Df2 V3 c4 => gz_let (gz_up V3 (98, c, 0) 0 0) (fun V7 => gz_let (gz_ur Df2 (98, c, 0) 1 (some (0, 0, 0))) (fun D9 => gz_bd (x7_next N Ds1 D9 V7 u) (fun V11 => x7_fair_L12 N Bc u N Ds1 D9 V11 c4 (98, c, 0)))))
theorem c_x7_fair {l : Launch} {D : va_G} {aC : Nat → ClassId} {ad : gz_A0} {N Bc : Nat} {Ds : gz_S} {Df : gz_R} {V : gz_V} {c : Nat} {u : gz_N} {B : gp_B} {o : gp_R gz_N} (htr : l.stackTraces = false) (hb : gp_ba B Ds Df V c ad) (hct : c ≤ gp_ct o) (hu : 90 ≤ u.1 ∧ Ds u = some (7, 9)) (hnu : gp_nn B u) (hBc : B.2.2.2.2 = Bc) (h : x7_fair N Bc Ds Df V c u = some o) : gp_Met l yX7_fair cX7_fair 6 (some (.object "java/util/ArrayList")) 14 300 D aC ad Ds Df V c [.ref (ad u)] B gp_pL gp_rA o := by
  refine gp_of (own := RX7) (mn := "fair") (lv := [(0, .ref (ad u))]) (by decide) rfl rfl (Nat.le_of_ble_eq_true rfl) rfl htr hb hct ?_
  intro X hX hE hI
  rw [x7_fair] at h
  obtain ⟨Ds1, Df2, V3, c4, e5, h⟩ := gp_nw_o h
  refine gp_new (ci := 18) hX hE hI e5 in_J2 tyJ2_ok (by decide) rfl q553 q257 q150 (by decide) (by decide) (fun ad => [(0, .ref (ad u))]) (fun ad => []) (fun ad2 h2 => by have e0 := h2 u (Or.inl (gz_nn (xs_dyn hu))); exact ⟨by first | rfl | simp only [e0], by first | rfl | simp only [e0]⟩) dX7_fair_0 (fun hgr hj6 hj6n => ?_)
  have hu := gp_up hgr hu
  intro ad hI
  refine gz_dupa hX dX7_fair_3 ?_
  obtain ⟨V7, e8, h⟩ := gz_let_o h
  obtain ⟨D9, e10, h⟩ := gz_let_o h
  refine gp_ini (V1 := V7) (Df1 := D9) (n := (98, c, 0)) (As := []) (rest := [.ref (ad (98, c, 0))]) hX hE hI (by rw [← e8]; exact (c_j2_init (xs_dyn ⟨gp_90 hj6n, hj6⟩) (gp_n0 hj6n))) (lw_meth q260) q150 q554 q259 rfl rfl rfl nn_j2_init ⟨Nat.le_of_ble_eq_true rfl, Nat.le_of_ble_eq_true rfl⟩ rfl rfl (Nat.le_of_ble_eq_true rfl) dX7_fair_4 (by rw [← e10, gp_xur (gp_90 hj6n)]) ?_
  have hI := hI.wV (V2 := V7) hj6n (fun a ha => by rw [← e8]; simp only [gz_up_ne ha])
  have hI := hI.wR (Df2 := D9) hj6n (fun a ha => by rw [← e10]; simp only [gz_ur_ne ha])
  refine gz_astore_n (lv2 := [(1, .ref (ad (98, c, 0))), (0, .ref (ad u))]) hX dX7_fair_7 rfl (by decide) rfl ?_
  refine gz_aload_n (q := 1) hX dX7_fair_8 rfl rfl ?_
  obtain ⟨V11, e12, h⟩ := gz_bd_o h
  refine gu_callV (ci := 7) (n := u) (As := []) hX (c_x7_next hu e12) (lw_x7_next_ q555) rfl rfl nn_x7_next ⟨Nat.le_of_ble_eq_true rfl, Nat.le_of_ble_eq_true rfl⟩ (gp_hf hX hE hI) (by decide) rfl (xs_dyn hu) rfl rfl (Nat.le_of_ble_eq_true rfl) dX7_fair_9 rfl ?_
  have hI := hI.next hnu e12
  exact gz_lv [1, 0] rfl (w_x7_fair_L12 hX hE hnu hBc N hu hj6 hj6n h ad hI)
theorem lw_x7_fair_ {o : String} {i : Nat} (hl : Cond.methodLink o i yX7_fair ∈ lw_all) : GoodIn lw_all (wsV o i RX7 yX7_fair (ws_ yX7_fair cX7_fair 6 (some (.object "java/util/ArrayList")))) := lw_V hl q915 q916 q157 q917
theorem nn_x7_fair : yX7_fair.cls = RX7 ∧ yX7_fair.cls ≠ "java/lang/invoke/MethodHandle" ∧ yX7_fair.cls ≠ "java/lang/invoke/VarHandle" ∧ (parseMethodDescriptor yX7_fair.desc).map (fun d => d.parameters.length) = some 0 := by decide +kernel
noncomputable def x7_habits_L12 (N : Nat) (Bc : Nat) (u : gz_N) : Nat → gz_S → gz_R → gz_V → Nat → gz_N → gp_O gz_N
  | 0, _, _, _, _, _ => none
  | n + 1, Ds, Df, V, c, w1 => (if (V u 4) = 0 then some (.inr (Ds, Df, V, c, w1)) else (if (V u 4) = 10 then (if (j2_size V w1) = 16 then some (.inl (3, V u 3, c + 1)) else gz_bd (x7_next N Ds Df V u) (fun V104 => gp_bx c (x7_number N Ds Df V104 c u 0 999) (fun Ds106 Df107 V108 c109 r110 => gp_bx c109 (x7_habit N Ds106 Df107 V108 c109 u r110) (fun Ds112 Df113 V114 c115 r116 => gp_bx c115 (j2_add Bc Ds112 Df113 V114 c115 w1 r116) (fun Ds118 Df119 V120 c121 r122 => gp_bx c121 (x7_must N Ds118 Df119 V120 c121 u 59) (fun Ds124 Df125 V126 c127 _ => x7_habits_L12 N Bc u n Ds124 Df125 V126 c127 w1)))))) else some (.inl (1, V u 3, c + 1))))
theorem w_x7_habits_L12 {X : gz_X} {B : gp_B} {E : gp_E} {N Bc q : Nat} {u : gz_N} {o : gp_R gz_N} (hX : gz_ok X cX7_habits RX7 "habits" 2 (gp_rm 14 300 q) (some (.object "java/util/ArrayList"))) (hE : gp_end X B E gp_pL gp_rA o 14 300) (hnu : gp_nn B u) (hBc : B.2.2.2.2 = Bc) : ∀ (n : Nat) {Ds : gz_S} {Df : gz_R} {V : gz_V} {c : Nat} {w1 : gz_N}, (90 ≤ u.1 ∧ Ds u = some (7, 9)) → Ds w1 = some (18, 3) → gp_nn B w1 → x7_habits_L12 N Bc u n Ds Df V c w1 = some o → gP X 2 B E Ds Df V c 12 (fun ad => [(0, .ref (ad u)), (1, .ref (ad w1))]) (fun _ => []) := by
  intro n
  induction n with
  | zero => intro Ds Df V c w1 hu hw1 hw1n h; rw [x7_habits_L12] at h; cases h
  | succ n ih =>
    intro Ds Df V c w1 hu hw1 hw1n h
    rw [x7_habits_L12] at h
    intro ad hI
    refine gz_aload_n (q := 0) hX dX7_habits_12 rfl rfl ?_
    refine xg_X7_121 hX (xs_dyn hu) dX7_habits_13 ?_
    refine gz_if_eq (tgt := 93) hX dX7_habits_16 (by decide) (fun c_101 => ?_) (fun c_101 => ?_)
    · have h := gz_ifp c_101 h
      refine gz_aload_n (q := 1) hX dX7_habits_93 rfl rfl ?_
      exact gp_aret hX hE hI rfl (Or.inl ⟨_, rfl⟩) (gp_lOf hw1n hw1) h dX7_habits_94
    · have h := gz_ifn c_101 h
      refine gz_aload_n (q := 0) hX dX7_habits_19 rfl rfl ?_
      refine xg_X7_121 hX (xs_dyn hu) dX7_habits_20 ?_
      refine gz_bipush (v := 10) hX dX7_habits_23 gl_b_10 ?_
      refine gz_icmp_eq (tgt := 41) hX dX7_habits_25 (by decide) (fun c_102 => ?_) (fun c_102 => ?_)
      · have h := gz_ifp c_102 h
        refine gz_aload_n (q := 1) hX dX7_habits_41 rfl rfl ?_
        refine gu_callV (ci := 18) (n := w1) (As := []) hX (c_j2_size ⟨gp_90 hw1n, hw1⟩ rfl) (lw_j2_size_ q739) rfl rfl nn_j2_size ⟨Nat.le_of_ble_eq_true rfl, Nat.le_of_ble_eq_true rfl⟩ (gp_hf hX hE hI) (by decide) rfl (xs_dyn ⟨gp_90 hw1n, hw1⟩) rfl rfl (Nat.le_of_ble_eq_true rfl) dX7_habits_42 rfl ?_
        refine gz_bipush (v := 16) hX dX7_habits_45 gl_b_16 ?_
        refine gz_icmp_ne (tgt := 63) hX dX7_habits_47 (by decide) (fun c_103 => ?_) (fun c_103 => ?_)
        · have h := gz_ifn c_103 h
          refine gz_aload_n (q := 0) hX dX7_habits_63 rfl rfl ?_
          obtain ⟨V104, e105, h⟩ := gz_bd_o h
          refine gu_callV (ci := 7) (n := u) (As := []) hX (c_x7_next hu e105) (lw_x7_next_ q555) rfl rfl nn_x7_next ⟨Nat.le_of_ble_eq_true rfl, Nat.le_of_ble_eq_true rfl⟩ (gp_hf hX hE hI) (by decide) rfl (xs_dyn hu) rfl rfl (Nat.le_of_ble_eq_true rfl) dX7_habits_64 rfl ?_
          have hI := hI.next hnu e105
          refine gz_aload_n (q := 1) hX dX7_habits_67 rfl rfl ?_
          refine gz_aload_n (q := 0) hX dX7_habits_68 rfl rfl ?_
          refine gz_aload_n (q := 0) hX dX7_habits_69 rfl rfl ?_
          refine gz_iconst (v := 0) hX dX7_habits_70 gl_c_0 ?_
          refine gz_sipush (v := 999) hX dX7_habits_71 gl_s_999 ?_
          refine gp_call (ci := 7) (n := u) (As := [.int 0, .int 999]) hX hE hI h (fun o1 e1 hc1 => (c_x7_number hE.2.2.2.2.1 hI.1 hc1 hu hnu e1)) (lw_x7_number_ q757) nn_x7_number ⟨Nat.le_of_ble_eq_true rfl, Nat.le_of_ble_eq_true rfl⟩ (by decide) rfl (xs_dyn hu) rfl (fun ad => [(0, .ref (ad u)), (1, .ref (ad w1))]) (fun ad => [.ref (ad u), .ref (ad w1)]) rfl (Nat.le_of_ble_eq_true rfl) (fun ad2 h2 => by have e0 := h2 u (Or.inl (gz_nn (xs_dyn hu))); have e1 := h2 w1 (Or.inl (gz_nn (xs_dyn ⟨gp_90 hw1n, hw1⟩))); exact ⟨by first | rfl | simp only [e0, e1], by first | rfl | simp only [e0, e1]⟩) dX7_habits_74 (fun Ds106 Df107 V108 c109 r110 h hgr hP111 => ?_)
          have hu := gp_up hgr hu
          have hw1 := hgr _ _ hw1
          intro ad hI
          refine gp_call (ci := 7) (n := u) (As := [.int r110]) hX hE hI h (fun o1 e1 hc1 => (c_x7_habit hE.2.2.2.2.1 hI.1 hc1 hu hnu e1)) (lw_x7_habit_ q957) nn_x7_habit ⟨Nat.le_of_ble_eq_true rfl, Nat.le_of_ble_eq_true rfl⟩ (by decide) rfl (xs_dyn hu) rfl (fun ad => [(0, .ref (ad u)), (1, .ref (ad w1))]) (fun ad => [.ref (ad w1)]) rfl (Nat.le_of_ble_eq_true rfl) (fun ad2 h2 => by have e0 := h2 u (Or.inl (gz_nn (xs_dyn hu))); have e1 := h2 w1 (Or.inl (gz_nn (xs_dyn ⟨gp_90 hw1n, hw1⟩))); exact ⟨by first | rfl | simp only [e0, e1], by first | rfl | simp only [e0, e1]⟩) dX7_habits_77 (fun Ds112 Df113 V114 c115 r116 h hgr hP117 => ?_)
          have hu := gp_up hgr hu
          have hw1 := hgr _ _ hw1
          intro ad hI
          refine gp_call (ci := 18) (n := w1) (As := [.ref (ad r116)]) hX hE hI h (fun o1 e1 hc1 => (c_j2_add hE.2.2.2.2.1 hI.1 hc1 hw1 hw1n (gp_elH hP117) hBc e1)) (lw_j2_add_ q847) nn_j2_add ⟨Nat.le_of_ble_eq_true rfl, Nat.le_of_ble_eq_true rfl⟩ (by decide) rfl (xs_dyn ⟨gp_90 hw1n, hw1⟩) rfl (fun ad => [(0, .ref (ad u)), (1, .ref (ad w1))]) (fun ad => []) rfl (Nat.le_of_ble_eq_true rfl) (fun ad2 h2 => by have e0 := h2 u (Or.inl (gz_nn (xs_dyn hu))); have e1 := h2 w1 (Or.inl (gz_nn (xs_dyn ⟨gp_90 hw1n, hw1⟩))); exact ⟨by first | rfl | simp only [e0, e1], by first | rfl | simp only [e0, e1]⟩) dX7_habits_80 (fun Ds118 Df119 V120 c121 r122 h hgr hP123 => ?_)
          have hu := gp_up hgr hu
          have hw1 := hgr _ _ hw1
          intro ad hI
          refine gz_pop hX dX7_habits_83 rfl ?_
          refine gz_aload_n (q := 0) hX dX7_habits_84 rfl rfl ?_
          refine gz_bipush (v := 59) hX dX7_habits_85 gl_b_59 ?_
          refine gp_call (ci := 7) (n := u) (As := [.int 59]) hX hE hI h (fun o1 e1 hc1 => (c_x7_must hE.2.2.2.2.1 hI.1 hc1 hu hnu e1)) (lw_x7_must_ q824) nn_x7_must ⟨Nat.le_of_ble_eq_true rfl, Nat.le_of_ble_eq_true rfl⟩ (by decide) rfl (xs_dyn hu) rfl (fun ad => [(0, .ref (ad u)), (1, .ref (ad w1))]) (fun ad => []) rfl (Nat.le_of_ble_eq_true rfl) (fun ad2 h2 => by have e0 := h2 u (Or.inl (gz_nn (xs_dyn hu))); have e1 := h2 w1 (Or.inl (gz_nn (xs_dyn ⟨gp_90 hw1n, hw1⟩))); exact ⟨by first | rfl | simp only [e0, e1], by first | rfl | simp only [e0, e1]⟩) dX7_habits_87 (fun Ds124 Df125 V126 c127 _ h hgr hP129 => ?_)
          have hu := gp_up hgr hu
          have hw1 := hgr _ _ hw1
          intro ad hI
          refine gz_goto (tgt := 12) hX dX7_habits_90 (by decide) ?_
          exact gz_lv [0, 1] rfl (ih hu hw1 hw1n h ad hI)
        · have h := gz_ifp c_103 h
          exact gp_throw (q0 := 0) hX hE hI hu h rfl ⟨Nat.le_of_ble_eq_true rfl, Nat.le_of_ble_eq_true rfl⟩ dX7_habits_50 dX7_habits_53 dX7_habits_54 (by decide) dX7_habits_55 dX7_habits_56 dX7_habits_59 dX7_habits_62
      · have h := gz_ifn c_102 h
        exact gp_throw (q0 := 0) hX hE hI hu h rfl ⟨Nat.le_of_ble_eq_true rfl, Nat.le_of_ble_eq_true rfl⟩ dX7_habits_28 dX7_habits_31 dX7_habits_32 (by decide) dX7_habits_33 dX7_habits_34 dX7_habits_37 dX7_habits_40
noncomputable def x7_habits (N : Nat) (Bc : Nat) (Ds : gz_S) (Df : gz_R) (V : gz_V) (c : Nat) (u : gz_N) : gp_O gz_N := gp_nw (18, 3) Ds Df V c (fun Ds1 Df2 V3 c4 => gz_let (gz_up V3 (98, c, 0) 0 0) (fun V7 => gz_let (gz_ur Df2 (98, c, 0) 1 (some (0, 0, 0))) (fun D9 => gz_bd (x7_next N Ds1 D9 V7 u) (fun V11 => x7_habits_L12 N Bc u N Ds1 D9 V11 c4 (98, c, 0)))))
theorem c_x7_habits {l : Launch} {D : va_G} {aC : Nat → ClassId} {ad : gz_A0} {N Bc : Nat} {Ds : gz_S} {Df : gz_R} {V : gz_V} {c : Nat} {u : gz_N} {B : gp_B} {o : gp_R gz_N} (htr : l.stackTraces = false) (hb : gp_ba B Ds Df V c ad) (hct : c ≤ gp_ct o) (hu : 90 ≤ u.1 ∧ Ds u = some (7, 9)) (hnu : gp_nn B u) (hBc : B.2.2.2.2 = Bc) (h : x7_habits N Bc Ds Df V c u = some o) : gp_Met l yX7_habits cX7_habits 2 (some (.object "java/util/ArrayList")) 14 300 D aC ad Ds Df V c [.ref (ad u)] B gp_pL gp_rA o := by
  refine gp_of (own := RX7) (mn := "habits") (lv := [(0, .ref (ad u))]) (by decide) rfl rfl (Nat.le_of_ble_eq_true rfl) rfl htr hb hct ?_
  intro X hX hE hI
  rw [x7_habits] at h
  obtain ⟨Ds1, Df2, V3, c4, e5, h⟩ := gp_nw_o h
  refine gp_new (ci := 18) hX hE hI e5 in_J2 tyJ2_ok (by decide) rfl q553 q257 q150 (by decide) (by decide) (fun ad => [(0, .ref (ad u))]) (fun ad => []) (fun ad2 h2 => by have e0 := h2 u (Or.inl (gz_nn (xs_dyn hu))); exact ⟨by first | rfl | simp only [e0], by first | rfl | simp only [e0]⟩) dX7_habits_0 (fun hgr hj6 hj6n => ?_)
  have hu := gp_up hgr hu
  intro ad hI
  refine gz_dupa hX dX7_habits_3 ?_
  obtain ⟨V7, e8, h⟩ := gz_let_o h
  obtain ⟨D9, e10, h⟩ := gz_let_o h
  refine gp_ini (V1 := V7) (Df1 := D9) (n := (98, c, 0)) (As := []) (rest := [.ref (ad (98, c, 0))]) hX hE hI (by rw [← e8]; exact (c_j2_init (xs_dyn ⟨gp_90 hj6n, hj6⟩) (gp_n0 hj6n))) (lw_meth q260) q150 q554 q259 rfl rfl rfl nn_j2_init ⟨Nat.le_of_ble_eq_true rfl, Nat.le_of_ble_eq_true rfl⟩ rfl rfl (Nat.le_of_ble_eq_true rfl) dX7_habits_4 (by rw [← e10, gp_xur (gp_90 hj6n)]) ?_
  have hI := hI.wV (V2 := V7) hj6n (fun a ha => by rw [← e8]; simp only [gz_up_ne ha])
  have hI := hI.wR (Df2 := D9) hj6n (fun a ha => by rw [← e10]; simp only [gz_ur_ne ha])
  refine gz_astore_n (lv2 := [(1, .ref (ad (98, c, 0))), (0, .ref (ad u))]) hX dX7_habits_7 rfl (by decide) rfl ?_
  refine gz_aload_n (q := 1) hX dX7_habits_8 rfl rfl ?_
  obtain ⟨V11, e12, h⟩ := gz_bd_o h
  refine gu_callV (ci := 7) (n := u) (As := []) hX (c_x7_next hu e12) (lw_x7_next_ q555) rfl rfl nn_x7_next ⟨Nat.le_of_ble_eq_true rfl, Nat.le_of_ble_eq_true rfl⟩ (gp_hf hX hE hI) (by decide) rfl (xs_dyn hu) rfl rfl (Nat.le_of_ble_eq_true rfl) dX7_habits_9 rfl ?_
  have hI := hI.next hnu e12
  exact gz_lv [1, 0] rfl (w_x7_habits_L12 hX hE hnu hBc N hu hj6 hj6n h ad hI)
theorem lw_x7_habits_ {o : String} {i : Nat} (hl : Cond.methodLink o i yX7_habits ∈ lw_all) : GoodIn lw_all (wsV o i RX7 yX7_habits (ws_ yX7_habits cX7_habits 2 (some (.object "java/util/ArrayList")))) := lw_V hl q954 q955 q157 q956
theorem nn_x7_habits : yX7_habits.cls = RX7 ∧ yX7_habits.cls ≠ "java/lang/invoke/MethodHandle" ∧ yX7_habits.cls ≠ "java/lang/invoke/VarHandle" ∧ (parseMethodDescriptor yX7_habits.desc).map (fun d => d.parameters.length) = some 0 := by decide +kernel
