/-! READER, its parser. Printed by wip/D-99505w/gen/mkx8.py -/
set_option maxRecDepth 100000
theorem gz_astoreN {X : gz_X} {cc : ByteArray} {own mn : String} {nL : Nat} {rm : Room} {ret : Option FieldType} {sh : gz_S} {Rf : gz_R} {ad : gz_A0} {V : gz_V} {ce sl pc : Nat} {lv lv2 : List (Nat × Value)} {st : List Value} (hX : gz_ok X cc own mn nL rm ret) {i : Nat} (hdg : decode cc pc = .ok (.astore i, 2)) (hn : i < nL) (hf : (i, Value.null) :: lv.filter (fun q => !(q.1 == i) && !(q.1 + 1 == i && q.2.category == 2)) = lv2) (k : gW X nL sh Rf ad V ce sl (pc + 2) lv2 st) : gW X nL sh Rf ad V ce sl pc lv (.null :: st) := fun H locs ls hw hS hl => lv_astoreN hX.1 hX.2.1 hdg hl hn hf (fun ls2 hl2 => k H locs ls2 hw hS hl2)
theorem nn_j2_init : yJ2_init.cls ≠ "java/lang/invoke/MethodHandle" ∧ yJ2_init.cls ≠ "java/lang/invoke/VarHandle" ∧ (parseMethodDescriptor yJ2_init.desc).map (fun d => d.parameters.length) = some 0 := by decide +kernel
theorem nn_x14_init : yX14_init.cls ≠ "java/lang/invoke/MethodHandle" ∧ yX14_init.cls ≠ "java/lang/invoke/VarHandle" ∧ (parseMethodDescriptor yX14_init.desc).map (fun d => d.parameters.length) = some 3 := by decide +kernel
noncomputable def x7_law_L12 (N : Nat) (Bc : Nat) (u : gz_N) : Nat → gz_S → gz_R → gz_V → Nat → gz_N → gp_O gz_N
  | 0, _, _, _, _, _ => none
  | n + 1, Ds, Df, V, c, w1 => (if (V u 4) = 0 then some (.inr (Ds, Df, V, c, w1)) else (if (x0_isIn (V u 4) 7 9) = 0 then some (.inl (1, V u 3, c + 1)) else (if (j2_size V w1) = 16 then some (.inl (3, V u 3, c + 1)) else gz_let ((V u 4)) (fun x104 => gz_let (gz_up V u 6 0) (fun V106 => gz_bd (x7_next N Ds Df V106 u) (fun V108 => gp_bx c (x7_sum N Ds Df V108 c u) (fun Ds110 Df111 V112 c113 r114 => (if (V112 u 4) = 3 then gz_bd (x7_next N Ds110 Df111 V112 u) (fun V139 => gp_bx c113 (x7_any (x7_one N 9) N Ds110 Df111 V139 c113 u) (fun Ds141 Df142 V143 c144 r145 => gp_bx c144 (x7_must N Ds141 Df142 V143 c144 u 59) (fun Ds147 Df148 V149 c150 _ => gp_nw (13, 3) Ds147 Df148 V149 c150 (fun Ds153 Df154 V155 c156 => gz_let (gz_up V155 (98, c150, 0) 0 x104) (fun V159 => gz_let (gz_ur (gz_ur Df154 (98, c150, 0) 1 (some r114)) (98, c150, 0) 2 (some r145)) (fun D161 => gp_bx c156 (j2_add Bc Ds153 D161 V159 c156 w1 (98, c150, 0)) (fun Ds163 Df164 V165 c166 r167 => x7_law_L12 N Bc u n Ds163 Df164 V165 c166 w1))))))) else gp_bx c113 (x7_must N Ds110 Df111 V112 c113 u 59) (fun Ds117 Df118 V119 c120 _ => gp_nw (13, 3) Ds117 Df118 V119 c120 (fun Ds123 Df124 V125 c126 => gz_let (gz_up V125 (98, c120, 0) 0 x104) (fun V129 => gz_let (gz_ur (gz_ur Df124 (98, c120, 0) 1 (some r114)) (98, c120, 0) 2 none) (fun D131 => gp_bx c126 (j2_add Bc Ds123 D131 V129 c126 w1 (98, c120, 0)) (fun Ds133 Df134 V135 c136 r137 => x7_law_L12 N Bc u n Ds133 Df134 V135 c136 w1)))))))))))))
theorem w_x7_law_L12 {X : gz_X} {B : gp_B} {E : gp_E} {N Bc q : Nat} {u : gz_N} {o : gp_R gz_N} (hX : gz_ok X cX7_law RX7 "law" 5 (gp_rm 44 930 q) (some (.object "java/util/ArrayList"))) (hE : gp_end X B E gp_pL gp_rA o 44 930) (hnu : gp_nn B u) (hBc : B.2.2.2.2 = Bc) : ∀ (n : Nat) {Ds : gz_S} {Df : gz_R} {V : gz_V} {c : Nat} {w1 : gz_N}, (90 ≤ u.1 ∧ Ds u = some (7, 9)) → Ds w1 = some (18, 3) → gp_nn B w1 → x7_law_L12 N Bc u n Ds Df V c w1 = some o → gP X 5 B E Ds Df V c 12 (fun ad => [(0, .ref (ad u)), (1, .ref (ad w1))]) (fun _ => []) := by
  intro n
  induction n with
  | zero => intro Ds Df V c w1 hu hw1 hw1n h; rw [x7_law_L12] at h; cases h
  | succ n ih =>
    intro Ds Df V c w1 hu hw1 hw1n h
    rw [x7_law_L12] at h
    intro ad hI
    refine gz_aload_n (q := 0) hX dX7_law_12 rfl rfl ?_
    refine xg_X7_121 hX (xs_dyn hu) dX7_law_13 ?_
    refine gz_if_eq (tgt := 133) hX dX7_law_16 (by decide) (fun c_101 => ?_) (fun c_101 => ?_)
    · have h := gz_ifp c_101 h
      refine gz_aload_n (q := 1) hX dX7_law_133 rfl rfl ?_
      exact gp_aret hX hE hI rfl (Or.inl ⟨_, rfl⟩) (gp_lOf hw1n hw1) h dX7_law_134
    · have h := gz_ifn c_101 h
      refine gz_aload_n (q := 0) hX dX7_law_19 rfl rfl ?_
      refine xg_X7_121 hX (xs_dyn hu) dX7_law_20 ?_
      refine gz_bipush (v := 7) hX dX7_law_23 gl_b_7 ?_
      refine gz_bipush (v := 9) hX dX7_law_25 gl_b_9 ?_
      refine gu_callSN (As := [.int (V u 4), .int 7, .int 9]) hX (c_x0_isIn rfl) q567 (lw_meth q504) q144 q503 rfl rfl nn_x0_isIn ⟨Nat.le_of_ble_eq_true rfl, Nat.le_of_ble_eq_true rfl⟩ (gp_hf hX hE hI) rfl rfl (Nat.le_of_ble_eq_true rfl) dX7_law_27 rfl ?_
      refine gz_if_ne (tgt := 46) hX dX7_law_30 (by decide) (fun c_102 => ?_) (fun c_102 => ?_)
      · have h := gz_ifn c_102 h
        refine gz_aload_n (q := 1) hX dX7_law_46 rfl rfl ?_
        refine gu_callV (ci := 18) (n := w1) (As := []) hX (c_j2_size ⟨gp_90 hw1n, hw1⟩ rfl) (lw_j2_size_ q739) rfl rfl nn_j2_size ⟨Nat.le_of_ble_eq_true rfl, Nat.le_of_ble_eq_true rfl⟩ (gp_hf hX hE hI) (by decide) rfl (xs_dyn ⟨gp_90 hw1n, hw1⟩) rfl rfl (Nat.le_of_ble_eq_true rfl) dX7_law_47 rfl ?_
        refine gz_bipush (v := 16) hX dX7_law_50 gl_b_16 ?_
        refine gz_icmp_ne (tgt := 68) hX dX7_law_52 (by decide) (fun c_103 => ?_) (fun c_103 => ?_)
        · have h := gz_ifn c_103 h
          refine gz_aload_n (q := 0) hX dX7_law_68 rfl rfl ?_
          refine xg_X7_121 hX (xs_dyn hu) dX7_law_69 ?_
          obtain ⟨x104, e105, h⟩ := gz_let_o h
          refine gz_nm e105 ?_
          refine gz_istore_n (lv2 := [(2, .int x104), (0, .ref (ad u)), (1, .ref (ad w1))]) hX dX7_law_72 rfl (by decide) rfl ?_
          refine gz_aload_n (q := 1) hX dX7_law_73 rfl rfl ?_
          refine gz_iconst (v := 0) hX dX7_law_74 gl_c_0 ?_
          obtain ⟨V106, e107, h⟩ := gz_let_o h
          refine xp_X7_166 hX (xs_dyn hu) (by have := (hu).1; omega) dX7_law_75 e107 ?_
          have hI := hI.up hnu e107
          refine gz_aload_n (q := 1) hX dX7_law_78 rfl rfl ?_
          obtain ⟨V108, e109, h⟩ := gz_bd_o h
          refine gu_callV (ci := 7) (n := u) (As := []) hX (c_x7_next hu e109) (lw_x7_next_ q555) rfl rfl nn_x7_next ⟨Nat.le_of_ble_eq_true rfl, Nat.le_of_ble_eq_true rfl⟩ (gp_hf hX hE hI) (by decide) rfl (xs_dyn hu) rfl rfl (Nat.le_of_ble_eq_true rfl) dX7_law_79 rfl ?_
          have hI := hI.next hnu e109
          refine gz_aload_n (q := 1) hX dX7_law_82 rfl rfl ?_
          refine gp_call (ci := 7) (n := u) (As := []) hX hE hI h (fun o1 e1 hc1 => (c_x7_sum hE.2.2.2.2.1 hI.1 hc1 hu hnu e1)) (lw_x7_sum_ q743) nn_x7_sum ⟨Nat.le_of_ble_eq_true rfl, Nat.le_of_ble_eq_true rfl⟩ (by decide) rfl (xs_dyn hu) rfl (fun ad => [(2, .int x104), (0, .ref (ad u)), (1, .ref (ad w1))]) (fun ad => []) rfl (Nat.le_of_ble_eq_true rfl) (fun ad2 h2 => by have e0 := h2 u (Or.inl (gz_nn (xs_dyn hu))); have e1 := h2 w1 (Or.inl (gz_nn (xs_dyn ⟨gp_90 hw1n, hw1⟩))); exact ⟨by first | rfl | simp only [e0, e1], by first | rfl | simp only [e0, e1]⟩) dX7_law_83 (fun Ds110 Df111 V112 c113 r114 h hgr hP115 => ?_)
          have hu := gp_up hgr hu
          have hw1 := hgr _ _ hw1
          intro ad hI
          refine gz_astore_n (lv2 := [(3, .ref (ad r114)), (2, .int x104), (0, .ref (ad u)), (1, .ref (ad w1))]) hX dX7_law_86 rfl (by decide) rfl ?_
          refine gz_null hX dX7_law_87 ?_
          refine gz_astoreN (lv2 := [(4, .null), (3, .ref (ad r114)), (2, .int x104), (0, .ref (ad u)), (1, .ref (ad w1))]) hX dX7_law_88 (by decide) rfl ?_
          refine gz_aload_n (q := 3) hX dX7_law_90 rfl rfl ?_
          refine xg_X7_121 hX (xs_dyn hu) dX7_law_91 ?_
          refine gz_iconst (v := 3) hX dX7_law_94 gl_c_3 ?_
          refine gz_icmp_ne (tgt := 108) hX dX7_law_95 (by decide) (fun c_116 => ?_) (fun c_116 => ?_)
          · have h := gz_ifn c_116 h
            refine gz_aload_n (q := 3) hX dX7_law_108 rfl rfl ?_
            refine gz_bipush (v := 59) hX dX7_law_109 gl_b_59 ?_
            refine gp_call (ci := 7) (n := u) (As := [.int 59]) hX hE hI h (fun o1 e1 hc1 => (c_x7_must hE.2.2.2.2.1 hI.1 hc1 hu hnu e1)) (lw_x7_must_ q824) nn_x7_must ⟨Nat.le_of_ble_eq_true rfl, Nat.le_of_ble_eq_true rfl⟩ (by decide) rfl (xs_dyn hu) rfl (fun ad => [(4, .null), (3, .ref (ad r114)), (2, .int x104), (0, .ref (ad u)), (1, .ref (ad w1))]) (fun ad => []) rfl (Nat.le_of_ble_eq_true rfl) (fun ad2 h2 => by have e0 := h2 r114 (Or.inl (gp_nnT hP115)); have e1 := h2 u (Or.inl (gz_nn (xs_dyn hu))); have e2 := h2 w1 (Or.inl (gz_nn (xs_dyn ⟨gp_90 hw1n, hw1⟩))); exact ⟨by first | rfl | simp only [e0, e1, e2], by first | rfl | simp only [e0, e1, e2]⟩) dX7_law_111 (fun Ds117 Df118 V119 c120 _ h hgr hP122 => ?_)
            have hP115 := gp_upT hgr hP115
            have hu := gp_up hgr hu
            have hw1 := hgr _ _ hw1
            intro ad hI
            refine gz_aload_n (q := 4) hX dX7_law_114 rfl rfl ?_
            obtain ⟨Ds123, Df124, V125, c126, e127, h⟩ := gp_nw_o h
            refine gp_new (ci := 13) hX hE hI e127 in_X14 tyX14_ok (by decide) rfl q828 q829 q169 (by decide) (by decide) (fun ad => [(4, .null), (3, .ref (ad r114)), (2, .int x104), (0, .ref (ad u)), (1, .ref (ad w1))]) (fun ad => [.ref (ad w1)]) (fun ad2 h2 => by have e0 := h2 r114 (Or.inl (gp_nnT hP115)); have e1 := h2 u (Or.inl (gz_nn (xs_dyn hu))); have e2 := h2 w1 (Or.inl (gz_nn (xs_dyn ⟨gp_90 hw1n, hw1⟩))); exact ⟨by first | rfl | simp only [e0, e1, e2], by first | rfl | simp only [e0, e1, e2]⟩) dX7_law_115 (fun hgr hj128 hj128n => ?_)
            have hP115 := gp_upT hgr hP115
            have hu := gp_up hgr hu
            have hw1 := hgr _ _ hw1
            intro ad hI
            refine gz_dupa hX dX7_law_118 ?_
            refine gz_iload_n (q := 2) hX dX7_law_119 rfl rfl ?_
            refine gz_aload_n (q := 1) hX dX7_law_120 rfl rfl ?_
            refine gz_aloadN (q := 0) hX dX7_law_121 rfl ?_
            obtain ⟨V129, e130, h⟩ := gz_let_o h
            obtain ⟨D131, e132, h⟩ := gz_let_o h
            refine gp_ini (V1 := V129) (Df1 := D131) (n := (98, c120, 0)) (As := [.int x104, .ref (ad r114), .null]) (rest := [.ref (ad (98, c120, 0)), .ref (ad w1)]) hX hE hI (by rw [← e130]; exact (c_x14_init_0 (xs_dyn ⟨gp_90 hj128n, hj128⟩) (gp_n0 hj128n) (gp_nnT hP115))) (lw_meth q832) q169 q830 q831 rfl rfl rfl nn_x14_init ⟨Nat.le_of_ble_eq_true rfl, Nat.le_of_ble_eq_true rfl⟩ rfl rfl (Nat.le_of_ble_eq_true rfl) dX7_law_123 (by rw [← e132, gp_xur (gp_90 hj128n), gp_xur (gp_90 hj128n)]) ?_
            have hI := hI.wV (V2 := V129) hj128n (fun a ha => by rw [← e130]; simp only [gz_up_ne ha])
            have hI := hI.wR (Df2 := D131) hj128n (fun a ha => by rw [← e132]; simp only [gz_ur_ne ha])
            refine gp_call (ci := 18) (n := w1) (As := [.ref (ad (98, c120, 0))]) hX hE hI h (fun o1 e1 hc1 => (c_j2_add hE.2.2.2.2.1 hI.1 hc1 hw1 hw1n (gp_elX14 hj128n hj128) hBc e1)) (lw_j2_add_ q847) nn_j2_add ⟨Nat.le_of_ble_eq_true rfl, Nat.le_of_ble_eq_true rfl⟩ (by decide) rfl (xs_dyn ⟨gp_90 hw1n, hw1⟩) rfl (fun ad => [(4, .null), (3, .ref (ad r114)), (2, .int x104), (0, .ref (ad u)), (1, .ref (ad w1))]) (fun ad => []) rfl (Nat.le_of_ble_eq_true rfl) (fun ad2 h2 => by have e0 := h2 r114 (Or.inl (gp_nnT hP115)); have e1 := h2 u (Or.inl (gz_nn (xs_dyn hu))); have e2 := h2 w1 (Or.inl (gz_nn (xs_dyn ⟨gp_90 hw1n, hw1⟩))); exact ⟨by first | rfl | simp only [e0, e1, e2], by first | rfl | simp only [e0, e1, e2]⟩) dX7_law_126 (fun Ds133 Df134 V135 c136 r137 h hgr hP138 => ?_)
            have hP115 := gp_upT hgr hP115
            have hu := gp_up hgr hu
            have hw1 := hgr _ _ hw1
            intro ad hI
            refine gz_pop hX dX7_law_129 rfl ?_
            refine gz_goto (tgt := 12) hX dX7_law_130 (by decide) ?_
            exact gz_lv [3, 4] rfl (ih hu hw1 hw1n h ad hI)
          · have h := gz_ifp c_116 h
            refine gz_aload_n (q := 3) hX dX7_law_98 rfl rfl ?_
            obtain ⟨V139, e140, h⟩ := gz_bd_o h
            refine gu_callV (ci := 7) (n := u) (As := []) hX (c_x7_next hu e140) (lw_x7_next_ q555) rfl rfl nn_x7_next ⟨Nat.le_of_ble_eq_true rfl, Nat.le_of_ble_eq_true rfl⟩ (gp_hf hX hE hI) (by decide) rfl (xs_dyn hu) rfl rfl (Nat.le_of_ble_eq_true rfl) dX7_law_99 rfl ?_
            have hI := hI.next hnu e140
            refine gz_aload_n (q := 3) hX dX7_law_102 rfl rfl ?_
            refine gp_call (ci := 7) (n := u) (As := []) hX hE hI h (fun o1 e1 hc1 => (c_x7_any (d := 9) (fun a1 a2 a3 a4 a5 a6 => c_x7_one 9 a1 a2 a3 a4 a5 a6) hE.2.2.2.2.1 hI.1 hc1 hu hnu e1)) (lw_x7_any_ q798) nn_x7_any ⟨Nat.le_of_ble_eq_true rfl, Nat.le_of_ble_eq_true rfl⟩ (by decide) rfl (xs_dyn hu) rfl (fun ad => [(4, .null), (3, .ref (ad r114)), (2, .int x104), (0, .ref (ad u)), (1, .ref (ad w1))]) (fun ad => []) rfl (Nat.le_of_ble_eq_true rfl) (fun ad2 h2 => by have e0 := h2 r114 (Or.inl (gp_nnT hP115)); have e1 := h2 u (Or.inl (gz_nn (xs_dyn hu))); have e2 := h2 w1 (Or.inl (gz_nn (xs_dyn ⟨gp_90 hw1n, hw1⟩))); exact ⟨by first | rfl | simp only [e0, e1, e2], by first | rfl | simp only [e0, e1, e2]⟩) dX7_law_103 (fun Ds141 Df142 V143 c144 r145 h hgr hP146 => ?_)
            have hP115 := gp_upT hgr hP115
            have hu := gp_up hgr hu
            have hw1 := hgr _ _ hw1
            intro ad hI
            refine gz_astore (lv2 := [(4, .ref (ad r145)), (3, .ref (ad r114)), (2, .int x104), (0, .ref (ad u)), (1, .ref (ad w1))]) hX dX7_law_106 (by decide) rfl ?_
            refine gz_aload_n (q := 3) hX dX7_law_108 rfl rfl ?_
            refine gz_bipush (v := 59) hX dX7_law_109 gl_b_59 ?_
            refine gp_call (ci := 7) (n := u) (As := [.int 59]) hX hE hI h (fun o1 e1 hc1 => (c_x7_must hE.2.2.2.2.1 hI.1 hc1 hu hnu e1)) (lw_x7_must_ q824) nn_x7_must ⟨Nat.le_of_ble_eq_true rfl, Nat.le_of_ble_eq_true rfl⟩ (by decide) rfl (xs_dyn hu) rfl (fun ad => [(4, .ref (ad r145)), (3, .ref (ad r114)), (2, .int x104), (0, .ref (ad u)), (1, .ref (ad w1))]) (fun ad => []) rfl (Nat.le_of_ble_eq_true rfl) (fun ad2 h2 => by have e0 := h2 r145 (Or.inl (gp_nnT hP146)); have e1 := h2 r114 (Or.inl (gp_nnT hP115)); have e2 := h2 u (Or.inl (gz_nn (xs_dyn hu))); have e3 := h2 w1 (Or.inl (gz_nn (xs_dyn ⟨gp_90 hw1n, hw1⟩))); exact ⟨by first | rfl | simp only [e0, e1, e2, e3], by first | rfl | simp only [e0, e1, e2, e3]⟩) dX7_law_111 (fun Ds147 Df148 V149 c150 _ h hgr hP152 => ?_)
            have hP146 := gp_upT hgr hP146
            have hP115 := gp_upT hgr hP115
            have hu := gp_up hgr hu
            have hw1 := hgr _ _ hw1
            intro ad hI
            refine gz_aload_n (q := 4) hX dX7_law_114 rfl rfl ?_
            obtain ⟨Ds153, Df154, V155, c156, e157, h⟩ := gp_nw_o h
            refine gp_new (ci := 13) hX hE hI e157 in_X14 tyX14_ok (by decide) rfl q828 q829 q169 (by decide) (by decide) (fun ad => [(4, .ref (ad r145)), (3, .ref (ad r114)), (2, .int x104), (0, .ref (ad u)), (1, .ref (ad w1))]) (fun ad => [.ref (ad w1)]) (fun ad2 h2 => by have e0 := h2 r145 (Or.inl (gp_nnT hP146)); have e1 := h2 r114 (Or.inl (gp_nnT hP115)); have e2 := h2 u (Or.inl (gz_nn (xs_dyn hu))); have e3 := h2 w1 (Or.inl (gz_nn (xs_dyn ⟨gp_90 hw1n, hw1⟩))); exact ⟨by first | rfl | simp only [e0, e1, e2, e3], by first | rfl | simp only [e0, e1, e2, e3]⟩) dX7_law_115 (fun hgr hj158 hj158n => ?_)
            have hP146 := gp_upT hgr hP146
            have hP115 := gp_upT hgr hP115
            have hu := gp_up hgr hu
            have hw1 := hgr _ _ hw1
            intro ad hI
            refine gz_dupa hX dX7_law_118 ?_
            refine gz_iload_n (q := 2) hX dX7_law_119 rfl rfl ?_
            refine gz_aload_n (q := 1) hX dX7_law_120 rfl rfl ?_
            refine gz_aload (q := 0) hX dX7_law_121 rfl ?_
            obtain ⟨V159, e160, h⟩ := gz_let_o h
            obtain ⟨D161, e162, h⟩ := gz_let_o h
            refine gp_ini (V1 := V159) (Df1 := D161) (n := (98, c150, 0)) (As := [.int x104, .ref (ad r114), .ref (ad r145)]) (rest := [.ref (ad (98, c150, 0)), .ref (ad w1)]) hX hE hI (by rw [← e160]; exact (c_x14_init (xs_dyn ⟨gp_90 hj158n, hj158⟩) (gp_n0 hj158n) (gp_nnT hP115) (gp_nnT hP146))) (lw_meth q832) q169 q830 q831 rfl rfl rfl nn_x14_init ⟨Nat.le_of_ble_eq_true rfl, Nat.le_of_ble_eq_true rfl⟩ rfl rfl (Nat.le_of_ble_eq_true rfl) dX7_law_123 (by rw [← e162, gp_xur (gp_90 hj158n), gp_xur (gp_90 hj158n)]) ?_
            have hI := hI.wV (V2 := V159) hj158n (fun a ha => by rw [← e160]; simp only [gz_up_ne ha])
            have hI := hI.wR (Df2 := D161) hj158n (fun a ha => by rw [← e162]; simp only [gz_ur_ne ha])
            refine gp_call (ci := 18) (n := w1) (As := [.ref (ad (98, c150, 0))]) hX hE hI h (fun o1 e1 hc1 => (c_j2_add hE.2.2.2.2.1 hI.1 hc1 hw1 hw1n (gp_elX14 hj158n hj158) hBc e1)) (lw_j2_add_ q847) nn_j2_add ⟨Nat.le_of_ble_eq_true rfl, Nat.le_of_ble_eq_true rfl⟩ (by decide) rfl (xs_dyn ⟨gp_90 hw1n, hw1⟩) rfl (fun ad => [(4, .ref (ad r145)), (3, .ref (ad r114)), (2, .int x104), (0, .ref (ad u)), (1, .ref (ad w1))]) (fun ad => []) rfl (Nat.le_of_ble_eq_true rfl) (fun ad2 h2 => by have e0 := h2 r145 (Or.inl (gp_nnT hP146)); have e1 := h2 r114 (Or.inl (gp_nnT hP115)); have e2 := h2 u (Or.inl (gz_nn (xs_dyn hu))); have e3 := h2 w1 (Or.inl (gz_nn (xs_dyn ⟨gp_90 hw1n, hw1⟩))); exact ⟨by first | rfl | simp only [e0, e1, e2, e3], by first | rfl | simp only [e0, e1, e2, e3]⟩) dX7_law_126 (fun Ds163 Df164 V165 c166 r167 h hgr hP168 => ?_)
            have hP146 := gp_upT hgr hP146
            have hP115 := gp_upT hgr hP115
            have hu := gp_up hgr hu
            have hw1 := hgr _ _ hw1
            intro ad hI
            refine gz_pop hX dX7_law_129 rfl ?_
            refine gz_goto (tgt := 12) hX dX7_law_130 (by decide) ?_
            exact gz_lv [3, 4] rfl (ih hu hw1 hw1n h ad hI)
        · have h := gz_ifp c_103 h
          exact gp_throw (q0 := 0) hX hE hI hu h rfl ⟨Nat.le_of_ble_eq_true rfl, Nat.le_of_ble_eq_true rfl⟩ dX7_law_55 dX7_law_58 dX7_law_59 (by decide) dX7_law_60 dX7_law_61 dX7_law_64 dX7_law_67
      · have h := gz_ifp c_102 h
        exact gp_throw (q0 := 0) hX hE hI hu h rfl ⟨Nat.le_of_ble_eq_true rfl, Nat.le_of_ble_eq_true rfl⟩ dX7_law_33 dX7_law_36 dX7_law_37 (by decide) dX7_law_38 dX7_law_39 dX7_law_42 dX7_law_45
noncomputable def x7_law (N : Nat) (Bc : Nat) (Ds : gz_S) (Df : gz_R) (V : gz_V) (c : Nat) (u : gz_N) : gp_O gz_N := gp_nw (18, 3) Ds Df V c (fun Ds1 Df2 V3 c4 => gz_let (gz_up V3 (98, c, 0) 0 0) (fun V7 => gz_let (gz_ur Df2 (98, c, 0) 1 (some (0, 0, 0))) (fun D9 => gz_bd (x7_next N Ds1 D9 V7 u) (fun V11 => x7_law_L12 N Bc u N Ds1 D9 V11 c4 (98, c, 0)))))
theorem c_x7_law {l : Launch} {D : va_G} {aC : Nat → ClassId} {ad : gz_A0} {N Bc : Nat} {Ds : gz_S} {Df : gz_R} {V : gz_V} {c : Nat} {u : gz_N} {B : gp_B} {o : gp_R gz_N} (htr : l.stackTraces = false) (hb : gp_ba B Ds Df V c ad) (hct : c ≤ gp_ct o) (hu : 90 ≤ u.1 ∧ Ds u = some (7, 9)) (hnu : gp_nn B u) (hBc : B.2.2.2.2 = Bc) (h : x7_law N Bc Ds Df V c u = some o) : gp_Met l yX7_law cX7_law 5 (some (.object "java/util/ArrayList")) 44 930 D aC ad Ds Df V c [.ref (ad u)] B gp_pL gp_rA o := by
  refine gp_of (own := RX7) (mn := "law") (lv := [(0, .ref (ad u))]) (by decide) rfl rfl (Nat.le_of_ble_eq_true rfl) rfl htr hb hct ?_
  intro X hX hE hI
  rw [x7_law] at h
  obtain ⟨Ds1, Df2, V3, c4, e5, h⟩ := gp_nw_o h
  refine gp_new (ci := 18) hX hE hI e5 in_J2 tyJ2_ok (by decide) rfl q553 q257 q150 (by decide) (by decide) (fun ad => [(0, .ref (ad u))]) (fun ad => []) (fun ad2 h2 => by have e0 := h2 u (Or.inl (gz_nn (xs_dyn hu))); exact ⟨by first | rfl | simp only [e0], by first | rfl | simp only [e0]⟩) dX7_law_0 (fun hgr hj6 hj6n => ?_)
  have hu := gp_up hgr hu
  intro ad hI
  refine gz_dupa hX dX7_law_3 ?_
  obtain ⟨V7, e8, h⟩ := gz_let_o h
  obtain ⟨D9, e10, h⟩ := gz_let_o h
  refine gp_ini (V1 := V7) (Df1 := D9) (n := (98, c, 0)) (As := []) (rest := [.ref (ad (98, c, 0))]) hX hE hI (by rw [← e8]; exact (c_j2_init (xs_dyn ⟨gp_90 hj6n, hj6⟩) (gp_n0 hj6n))) (lw_meth q260) q150 q554 q259 rfl rfl rfl nn_j2_init ⟨Nat.le_of_ble_eq_true rfl, Nat.le_of_ble_eq_true rfl⟩ rfl rfl (Nat.le_of_ble_eq_true rfl) dX7_law_4 (by rw [← e10, gp_xur (gp_90 hj6n)]) ?_
  have hI := hI.wV (V2 := V7) hj6n (fun a ha => by rw [← e8]; simp only [gz_up_ne ha])
  have hI := hI.wR (Df2 := D9) hj6n (fun a ha => by rw [← e10]; simp only [gz_ur_ne ha])
  refine gz_astore_n (lv2 := [(1, .ref (ad (98, c, 0))), (0, .ref (ad u))]) hX dX7_law_7 rfl (by decide) rfl ?_
  refine gz_aload_n (q := 1) hX dX7_law_8 rfl rfl ?_
  obtain ⟨V11, e12, h⟩ := gz_bd_o h
  refine gu_callV (ci := 7) (n := u) (As := []) hX (c_x7_next hu e12) (lw_x7_next_ q555) rfl rfl nn_x7_next ⟨Nat.le_of_ble_eq_true rfl, Nat.le_of_ble_eq_true rfl⟩ (gp_hf hX hE hI) (by decide) rfl (xs_dyn hu) rfl rfl (Nat.le_of_ble_eq_true rfl) dX7_law_9 rfl ?_
  have hI := hI.next hnu e12
  exact gz_lv [1, 0] rfl (w_x7_law_L12 hX hE hnu hBc N hu hj6 hj6n h ad hI)
theorem lw_x7_law_ {o : String} {i : Nat} (hl : Cond.methodLink o i yX7_law ∈ lw_all) : GoodIn lw_all (wsV o i RX7 yX7_law (ws_ yX7_law cX7_law 5 (some (.object "java/util/ArrayList")))) := lw_V hl q550 q551 q157 q552
theorem nn_x7_law : yX7_law.cls = RX7 ∧ yX7_law.cls ≠ "java/lang/invoke/MethodHandle" ∧ yX7_law.cls ≠ "java/lang/invoke/VarHandle" ∧ (parseMethodDescriptor yX7_law.desc).map (fun d => d.parameters.length) = some 0 := by decide +kernel
