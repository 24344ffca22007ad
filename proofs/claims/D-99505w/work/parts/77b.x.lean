/-! READER, its parser. Printed by wip/D-99505w/gen/mkx8.py -/
set_option maxRecDepth 100000
theorem nn_x13_init : yX13_init.cls ≠ "java/lang/invoke/MethodHandle" ∧ yX13_init.cls ≠ "java/lang/invoke/VarHandle" ∧ (parseMethodDescriptor yX13_init.desc).map (fun d => d.parameters.length) = some 1 := by decide +kernel
theorem lw_x7_all_ {o : String} {i : Nat} (hl : Cond.methodLink o i yX7_all ∈ lw_all) : GoodIn lw_all (wsV o i RX7 yX7_all (ws_ yX7_all cX7_all 2 (some (.object "ClaspedFair$Term")))) := lw_V hl q804 qs19 q157 q805
theorem nn_x7_all : yX7_all.cls = RX7 ∧ yX7_all.cls ≠ "java/lang/invoke/MethodHandle" ∧ yX7_all.cls ≠ "java/lang/invoke/VarHandle" ∧ (parseMethodDescriptor yX7_all.desc).map (fun d => d.parameters.length) = some 0 := by decide +kernel
theorem lw_x7_any_ {o : String} {i : Nat} (hl : Cond.methodLink o i yX7_any ∈ lw_all) : GoodIn lw_all (wsV o i RX7 yX7_any (ws_ yX7_any cX7_any 2 (some (.object "ClaspedFair$Term")))) := lw_V hl q800 qs18 q157 q801
theorem nn_x7_any : yX7_any.cls = RX7 ∧ yX7_any.cls ≠ "java/lang/invoke/MethodHandle" ∧ yX7_any.cls ≠ "java/lang/invoke/VarHandle" ∧ (parseMethodDescriptor yX7_any.desc).map (fun d => d.parameters.length) = some 0 := by decide +kernel
theorem lw_x7_one_ {o : String} {i : Nat} (hl : Cond.methodLink o i yX7_one ∈ lw_all) : GoodIn lw_all (wsV o i RX7 yX7_one (ws_ yX7_one cX7_one 3 (some (.object "ClaspedFair$Term")))) := lw_V hl q808 qs20 q157 q809
theorem nn_x7_one : yX7_one.cls = RX7 ∧ yX7_one.cls ≠ "java/lang/invoke/MethodHandle" ∧ yX7_one.cls ≠ "java/lang/invoke/VarHandle" ∧ (parseMethodDescriptor yX7_one.desc).map (fun d => d.parameters.length) = some 0 := by decide +kernel
noncomputable def x7_all_L5 (rc : gz_S → gz_R → gz_V → Nat → gz_N → gp_O gz_N) (N : Nat) (u : gz_N) : Nat → gz_S → gz_R → gz_V → Nat → gz_N → gp_O gz_N
  | 0, _, _, _, _, _ => none
  | n + 1, Ds, Df, V, c, w1 => (if (V u 4) = 5 then gz_bd (x7_next N Ds Df V u) (fun V102 => gp_nw (11, 3) Ds Df V102 c (fun Ds104 Df105 V106 c107 => gp_bx c107 (rc Ds104 Df105 V106 c107 u) (fun Ds110 Df111 V112 c113 r114 => gz_let (gz_up V112 (98, c, 0) 2 5) (fun V116 => gz_let (gz_ur (gz_ur Df111 (98, c, 0) 0 (some w1)) (98, c, 0) 1 (some r114)) (fun D118 => x7_all_L5 rc N u n Ds110 D118 V116 c113 (98, c, 0)))))) else some (.inr (Ds, Df, V, c, w1)))
theorem w_x7_all_L5 {X : gz_X} {B : gp_B} {E : gp_E} {d : Nat} {rc : gz_S → gz_R → gz_V → Nat → gz_N → gp_O gz_N} {N q : Nat} {u : gz_N} {o : gp_R gz_N} (hrc : ∀ {l : Launch} {D : va_G} {aC : Nat → ClassId} {ad : gz_A0} {Ds : gz_S} {Df : gz_R} {V : gz_V} {c : Nat} {u : gz_N} {B : gp_B} {o : gp_R gz_N}, l.stackTraces = false → gp_ba B Ds Df V c ad → c ≤ gp_ct o → (90 ≤ u.1 ∧ Ds u = some (7, 9)) → gp_nn B u → rc Ds Df V c u = some o → gp_Met l yX7_one cX7_one 3 (some (.object "ClaspedFair$Term")) (3 * d + 13) (64 * d + 276) D aC ad Ds Df V c [.ref (ad u)] B gp_pT gp_rA o) (hX : gz_ok X cX7_all RX7 "all" 2 (gp_rm (3 * d + 14) (64 * d + 298) q) (some (.object "ClaspedFair$Term"))) (hE : gp_end X B E gp_pT gp_rA o (3 * d + 14) (64 * d + 298)) (hnu : gp_nn B u) : ∀ (n : Nat) {Ds : gz_S} {Df : gz_R} {V : gz_V} {c : Nat} {w1 : gz_N}, (90 ≤ u.1 ∧ Ds u = some (7, 9)) → gp_pT Ds w1 → x7_all_L5 rc N u n Ds Df V c w1 = some o → gP X 2 B E Ds Df V c 5 (fun ad => [(0, .ref (ad u)), (1, .ref (ad w1))]) (fun _ => []) := by
  intro n
  induction n with
  | zero => intro Ds Df V c w1 hu hw1 h; rw [x7_all_L5] at h; cases h
  | succ n ih =>
    intro Ds Df V c w1 hu hw1 h
    rw [x7_all_L5] at h
    intro ad hI
    refine gz_aload_n (q := 0) hX dX7_all_5 rfl rfl ?_
    refine xg_X7_121 hX (xs_dyn hu) dX7_all_6 ?_
    refine gz_iconst (v := 5) hX dX7_all_9 gl_c_5 ?_
    refine gz_icmp_ne (tgt := 34) hX dX7_all_10 (by decide) (fun c_101 => ?_) (fun c_101 => ?_)
    · have h := gz_ifn c_101 h
      refine gz_aload_n (q := 1) hX dX7_all_34 rfl rfl ?_
      exact gp_aret hX hE hI rfl (Or.inl ⟨_, rfl⟩) hw1 h dX7_all_35
    · have h := gz_ifp c_101 h
      refine gz_aload_n (q := 0) hX dX7_all_13 rfl rfl ?_
      obtain ⟨V102, e103, h⟩ := gz_bd_o h
      refine gu_callV (ci := 7) (n := u) (As := []) hX (c_x7_next hu e103) (lw_x7_next_ q555) rfl rfl nn_x7_next ⟨by simp only [gp_rm, rm_x7_next]; omega, by simp only [gp_rm, rm_x7_next]; omega⟩ (gp_hf hX hE hI) (by decide) rfl (xs_dyn hu) rfl rfl (Nat.le_of_ble_eq_true rfl) dX7_all_14 rfl ?_
      have hI := hI.next hnu e103
      obtain ⟨Ds104, Df105, V106, c107, e108, h⟩ := gp_nw_o h
      refine gp_new (ci := 11) hX hE hI e108 in_X12 tyX12_ok (by decide) rfl q782 q783 q167 (by decide) (by decide) (fun ad => [(0, .ref (ad u)), (1, .ref (ad w1))]) (fun ad => []) (fun ad2 h2 => by have e0 := h2 u (Or.inl (gz_nn (xs_dyn hu))); have e1 := h2 w1 (Or.inl (gp_nnT hw1)); exact ⟨by first | rfl | simp only [e0, e1], by first | rfl | simp only [e0, e1]⟩) dX7_all_17 (fun hgr hj109 hj109n => ?_)
      have hu := gp_up hgr hu
      have hw1 := gp_upT hgr hw1
      intro ad hI
      refine gz_dupa hX dX7_all_20 ?_
      refine gz_aload_n (q := 1) hX dX7_all_21 rfl rfl ?_
      refine gz_iconst (v := 5) hX dX7_all_22 gl_c_5 ?_
      refine gz_aload_n (q := 0) hX dX7_all_23 rfl rfl ?_
      refine gp_call (ci := 7) (n := u) (As := []) hX hE hI h (fun o1 e1 hc1 => (hrc hE.2.2.2.2.1 hI.1 hc1 hu hnu e1)) (lw_x7_one_ q806) nn_x7_one ⟨by omega, by omega⟩ (by decide) rfl (xs_dyn hu) rfl (fun ad => [(0, .ref (ad u)), (1, .ref (ad w1))]) (fun ad => [.int 5, .ref (ad w1), .ref (ad (98, c, 0)), .ref (ad (98, c, 0))]) rfl (Nat.le_of_ble_eq_true rfl) (fun ad2 h2 => by have e0 := h2 u (Or.inl (gz_nn (xs_dyn hu))); have e1 := h2 w1 (Or.inl (gp_nnT hw1)); have e2 := h2 (98, c, 0) (Or.inl (gz_nn (xs_dyn ⟨gp_90 hj109n, hj109⟩))); exact ⟨by first | rfl | simp only [e0, e1, e2], by first | rfl | simp only [e0, e1, e2]⟩) dX7_all_24 (fun Ds110 Df111 V112 c113 r114 h hgr hP115 => ?_)
      have hu := gp_up hgr hu
      have hw1 := gp_upT hgr hw1
      have hj109 := hgr _ _ hj109
      intro ad hI
      obtain ⟨V116, e117, h⟩ := gz_let_o h
      obtain ⟨D118, e119, h⟩ := gz_let_o h
      refine gp_ini (V1 := V116) (Df1 := D118) (n := (98, c, 0)) (As := [.ref (ad w1), .int 5, .ref (ad r114)]) (rest := [.ref (ad (98, c, 0))]) hX hE hI (by rw [← e117]; exact (c_x12_init (xs_dyn ⟨gp_90 hj109n, hj109⟩) (gp_n0 hj109n) (gp_nnT hw1) (gp_nnT hP115))) (lw_meth q786) q167 q784 q785 rfl rfl rfl nn_x12_init ⟨by simp only [rm_x12_init]; omega, by simp only [rm_x12_init]; omega⟩ rfl rfl (Nat.le_of_ble_eq_true rfl) dX7_all_27 (by rw [← e119, gp_xur (gp_90 hj109n), gp_xur (gp_90 hj109n)]) ?_
      have hI := hI.wV (V2 := V116) hj109n (fun a ha => by rw [← e117]; simp only [gz_up_ne ha])
      have hI := hI.wR (Df2 := D118) hj109n (fun a ha => by rw [← e119]; simp only [gz_ur_ne ha])
      have ht120 := gp_tOf hj109n hj109
      refine gz_astore_n (lv2 := [(1, .ref (ad (98, c, 0))), (0, .ref (ad u))]) hX dX7_all_30 rfl (by decide) rfl ?_
      refine gz_goto (tgt := 5) hX dX7_all_31 (by decide) ?_
      exact gz_lv [1, 0] rfl (ih hu ht120 h ad hI)
noncomputable def x7_all (rc : gz_S → gz_R → gz_V → Nat → gz_N → gp_O gz_N) (N : Nat) (Ds : gz_S) (Df : gz_R) (V : gz_V) (c : Nat) (u : gz_N) : gp_O gz_N := gp_bx c (rc Ds Df V c u) (fun Ds1 Df2 V3 c4 r5 => x7_all_L5 rc N u N Ds1 Df2 V3 c4 r5)
theorem c_x7_all {l : Launch} {D : va_G} {aC : Nat → ClassId} {ad : gz_A0} {d : Nat} {rc : gz_S → gz_R → gz_V → Nat → gz_N → gp_O gz_N} {N : Nat} {Ds : gz_S} {Df : gz_R} {V : gz_V} {c : Nat} {u : gz_N} {B : gp_B} {o : gp_R gz_N} (hrc : ∀ {l : Launch} {D : va_G} {aC : Nat → ClassId} {ad : gz_A0} {Ds : gz_S} {Df : gz_R} {V : gz_V} {c : Nat} {u : gz_N} {B : gp_B} {o : gp_R gz_N}, l.stackTraces = false → gp_ba B Ds Df V c ad → c ≤ gp_ct o → (90 ≤ u.1 ∧ Ds u = some (7, 9)) → gp_nn B u → rc Ds Df V c u = some o → gp_Met l yX7_one cX7_one 3 (some (.object "ClaspedFair$Term")) (3 * d + 13) (64 * d + 276) D aC ad Ds Df V c [.ref (ad u)] B gp_pT gp_rA o) (htr : l.stackTraces = false) (hb : gp_ba B Ds Df V c ad) (hct : c ≤ gp_ct o) (hu : 90 ≤ u.1 ∧ Ds u = some (7, 9)) (hnu : gp_nn B u) (h : x7_all rc N Ds Df V c u = some o) : gp_Met l yX7_all cX7_all 2 (some (.object "ClaspedFair$Term")) (3 * d + 14) (64 * d + 298) D aC ad Ds Df V c [.ref (ad u)] B gp_pT gp_rA o := by
  refine gp_of (own := RX7) (mn := "all") (lv := [(0, .ref (ad u))]) (by decide) rfl rfl (Nat.le_of_ble_eq_true rfl) rfl htr hb hct ?_
  intro X hX hE hI
  rw [x7_all] at h
  refine gz_aload_n (q := 0) hX dX7_all_0 rfl rfl ?_
  refine gp_call (ci := 7) (n := u) (As := []) hX hE hI h (fun o1 e1 hc1 => (hrc hE.2.2.2.2.1 hI.1 hc1 hu hnu e1)) (lw_x7_one_ q806) nn_x7_one ⟨by omega, by omega⟩ (by decide) rfl (xs_dyn hu) rfl (fun ad => [(0, .ref (ad u))]) (fun ad => []) rfl (Nat.le_of_ble_eq_true rfl) (fun ad2 h2 => by have e0 := h2 u (Or.inl (gz_nn (xs_dyn hu))); exact ⟨by first | rfl | simp only [e0], by first | rfl | simp only [e0]⟩) dX7_all_1 (fun Ds1 Df2 V3 c4 r5 h hgr hP6 => ?_)
  have hu := gp_up hgr hu
  intro ad hI
  refine gz_astore_n (lv2 := [(1, .ref (ad r5)), (0, .ref (ad u))]) hX dX7_all_4 rfl (by decide) rfl ?_
  exact gz_lv [1, 0] rfl (w_x7_all_L5 hrc hX hE hnu N hu hP6 h ad hI)
noncomputable def x7_any_L5 (rc : gz_S → gz_R → gz_V → Nat → gz_N → gp_O gz_N) (N : Nat) (u : gz_N) : Nat → gz_S → gz_R → gz_V → Nat → gz_N → gp_O gz_N
  | 0, _, _, _, _, _ => none
  | n + 1, Ds, Df, V, c, w1 => (if (V u 4) = 4 then gz_bd (x7_next N Ds Df V u) (fun V102 => gp_nw (11, 3) Ds Df V102 c (fun Ds104 Df105 V106 c107 => gp_bx c107 (x7_all rc N Ds104 Df105 V106 c107 u) (fun Ds110 Df111 V112 c113 r114 => gz_let (gz_up V112 (98, c, 0) 2 4) (fun V116 => gz_let (gz_ur (gz_ur Df111 (98, c, 0) 0 (some w1)) (98, c, 0) 1 (some r114)) (fun D118 => x7_any_L5 rc N u n Ds110 D118 V116 c113 (98, c, 0)))))) else some (.inr (Ds, Df, V, c, w1)))
theorem w_x7_any_L5 {X : gz_X} {B : gp_B} {E : gp_E} {d : Nat} {rc : gz_S → gz_R → gz_V → Nat → gz_N → gp_O gz_N} {N q : Nat} {u : gz_N} {o : gp_R gz_N} (hrc : ∀ {l : Launch} {D : va_G} {aC : Nat → ClassId} {ad : gz_A0} {Ds : gz_S} {Df : gz_R} {V : gz_V} {c : Nat} {u : gz_N} {B : gp_B} {o : gp_R gz_N}, l.stackTraces = false → gp_ba B Ds Df V c ad → c ≤ gp_ct o → (90 ≤ u.1 ∧ Ds u = some (7, 9)) → gp_nn B u → rc Ds Df V c u = some o → gp_Met l yX7_one cX7_one 3 (some (.object "ClaspedFair$Term")) (3 * d + 13) (64 * d + 276) D aC ad Ds Df V c [.ref (ad u)] B gp_pT gp_rA o) (hX : gz_ok X cX7_any RX7 "any" 2 (gp_rm (3 * d + 15) (64 * d + 319) q) (some (.object "ClaspedFair$Term"))) (hE : gp_end X B E gp_pT gp_rA o (3 * d + 15) (64 * d + 319)) (hnu : gp_nn B u) : ∀ (n : Nat) {Ds : gz_S} {Df : gz_R} {V : gz_V} {c : Nat} {w1 : gz_N}, (90 ≤ u.1 ∧ Ds u = some (7, 9)) → gp_pT Ds w1 → x7_any_L5 rc N u n Ds Df V c w1 = some o → gP X 2 B E Ds Df V c 5 (fun ad => [(0, .ref (ad u)), (1, .ref (ad w1))]) (fun _ => []) := by
  intro n
  induction n with
  | zero => intro Ds Df V c w1 hu hw1 h; rw [x7_any_L5] at h; cases h
  | succ n ih =>
    intro Ds Df V c w1 hu hw1 h
    rw [x7_any_L5] at h
    intro ad hI
    refine gz_aload_n (q := 0) hX dX7_any_5 rfl rfl ?_
    refine xg_X7_121 hX (xs_dyn hu) dX7_any_6 ?_
    refine gz_iconst (v := 4) hX dX7_any_9 gl_c_4 ?_
    refine gz_icmp_ne (tgt := 34) hX dX7_any_10 (by decide) (fun c_101 => ?_) (fun c_101 => ?_)
    · have h := gz_ifn c_101 h
      refine gz_aload_n (q := 1) hX dX7_any_34 rfl rfl ?_
      exact gp_aret hX hE hI rfl (Or.inl ⟨_, rfl⟩) hw1 h dX7_any_35
    · have h := gz_ifp c_101 h
      refine gz_aload_n (q := 0) hX dX7_any_13 rfl rfl ?_
      obtain ⟨V102, e103, h⟩ := gz_bd_o h
      refine gu_callV (ci := 7) (n := u) (As := []) hX (c_x7_next hu e103) (lw_x7_next_ q555) rfl rfl nn_x7_next ⟨by simp only [gp_rm, rm_x7_next]; omega, by simp only [gp_rm, rm_x7_next]; omega⟩ (gp_hf hX hE hI) (by decide) rfl (xs_dyn hu) rfl rfl (Nat.le_of_ble_eq_true rfl) dX7_any_14 rfl ?_
      have hI := hI.next hnu e103
      obtain ⟨Ds104, Df105, V106, c107, e108, h⟩ := gp_nw_o h
      refine gp_new (ci := 11) hX hE hI e108 in_X12 tyX12_ok (by decide) rfl q782 q783 q167 (by decide) (by decide) (fun ad => [(0, .ref (ad u)), (1, .ref (ad w1))]) (fun ad => []) (fun ad2 h2 => by have e0 := h2 u (Or.inl (gz_nn (xs_dyn hu))); have e1 := h2 w1 (Or.inl (gp_nnT hw1)); exact ⟨by first | rfl | simp only [e0, e1], by first | rfl | simp only [e0, e1]⟩) dX7_any_17 (fun hgr hj109 hj109n => ?_)
      have hu := gp_up hgr hu
      have hw1 := gp_upT hgr hw1
      intro ad hI
      refine gz_dupa hX dX7_any_20 ?_
      refine gz_aload_n (q := 1) hX dX7_any_21 rfl rfl ?_
      refine gz_iconst (v := 4) hX dX7_any_22 gl_c_4 ?_
      refine gz_aload_n (q := 0) hX dX7_any_23 rfl rfl ?_
      refine gp_call (ci := 7) (n := u) (As := []) hX hE hI h (fun o1 e1 hc1 => (c_x7_all hrc hE.2.2.2.2.1 hI.1 hc1 hu hnu e1)) (lw_x7_all_ q802) nn_x7_all ⟨by omega, by omega⟩ (by decide) rfl (xs_dyn hu) rfl (fun ad => [(0, .ref (ad u)), (1, .ref (ad w1))]) (fun ad => [.int 4, .ref (ad w1), .ref (ad (98, c, 0)), .ref (ad (98, c, 0))]) rfl (Nat.le_of_ble_eq_true rfl) (fun ad2 h2 => by have e0 := h2 u (Or.inl (gz_nn (xs_dyn hu))); have e1 := h2 w1 (Or.inl (gp_nnT hw1)); have e2 := h2 (98, c, 0) (Or.inl (gz_nn (xs_dyn ⟨gp_90 hj109n, hj109⟩))); exact ⟨by first | rfl | simp only [e0, e1, e2], by first | rfl | simp only [e0, e1, e2]⟩) dX7_any_24 (fun Ds110 Df111 V112 c113 r114 h hgr hP115 => ?_)
      have hu := gp_up hgr hu
      have hw1 := gp_upT hgr hw1
      have hj109 := hgr _ _ hj109
      intro ad hI
      obtain ⟨V116, e117, h⟩ := gz_let_o h
      obtain ⟨D118, e119, h⟩ := gz_let_o h
      refine gp_ini (V1 := V116) (Df1 := D118) (n := (98, c, 0)) (As := [.ref (ad w1), .int 4, .ref (ad r114)]) (rest := [.ref (ad (98, c, 0))]) hX hE hI (by rw [← e117]; exact (c_x12_init (xs_dyn ⟨gp_90 hj109n, hj109⟩) (gp_n0 hj109n) (gp_nnT hw1) (gp_nnT hP115))) (lw_meth q786) q167 q784 q785 rfl rfl rfl nn_x12_init ⟨by simp only [rm_x12_init]; omega, by simp only [rm_x12_init]; omega⟩ rfl rfl (Nat.le_of_ble_eq_true rfl) dX7_any_27 (by rw [← e119, gp_xur (gp_90 hj109n), gp_xur (gp_90 hj109n)]) ?_
      have hI := hI.wV (V2 := V116) hj109n (fun a ha => by rw [← e117]; simp only [gz_up_ne ha])
      have hI := hI.wR (Df2 := D118) hj109n (fun a ha => by rw [← e119]; simp only [gz_ur_ne ha])
      have ht120 := gp_tOf hj109n hj109
      refine gz_astore_n (lv2 := [(1, .ref (ad (98, c, 0))), (0, .ref (ad u))]) hX dX7_any_30 rfl (by decide) rfl ?_
      refine gz_goto (tgt := 5) hX dX7_any_31 (by decide) ?_
      exact gz_lv [1, 0] rfl (ih hu ht120 h ad hI)
noncomputable def x7_any (rc : gz_S → gz_R → gz_V → Nat → gz_N → gp_O gz_N) (N : Nat) (Ds : gz_S) (Df : gz_R) (V : gz_V) (c : Nat) (u : gz_N) : gp_O gz_N := gp_bx c (x7_all rc N Ds Df V c u) (fun Ds1 Df2 V3 c4 r5 => x7_any_L5 rc N u N Ds1 Df2 V3 c4 r5)
theorem c_x7_any {l : Launch} {D : va_G} {aC : Nat → ClassId} {ad : gz_A0} {d : Nat} {rc : gz_S → gz_R → gz_V → Nat → gz_N → gp_O gz_N} {N : Nat} {Ds : gz_S} {Df : gz_R} {V : gz_V} {c : Nat} {u : gz_N} {B : gp_B} {o : gp_R gz_N} (hrc : ∀ {l : Launch} {D : va_G} {aC : Nat → ClassId} {ad : gz_A0} {Ds : gz_S} {Df : gz_R} {V : gz_V} {c : Nat} {u : gz_N} {B : gp_B} {o : gp_R gz_N}, l.stackTraces = false → gp_ba B Ds Df V c ad → c ≤ gp_ct o → (90 ≤ u.1 ∧ Ds u = some (7, 9)) → gp_nn B u → rc Ds Df V c u = some o → gp_Met l yX7_one cX7_one 3 (some (.object "ClaspedFair$Term")) (3 * d + 13) (64 * d + 276) D aC ad Ds Df V c [.ref (ad u)] B gp_pT gp_rA o) (htr : l.stackTraces = false) (hb : gp_ba B Ds Df V c ad) (hct : c ≤ gp_ct o) (hu : 90 ≤ u.1 ∧ Ds u = some (7, 9)) (hnu : gp_nn B u) (h : x7_any rc N Ds Df V c u = some o) : gp_Met l yX7_any cX7_any 2 (some (.object "ClaspedFair$Term")) (3 * d + 15) (64 * d + 319) D aC ad Ds Df V c [.ref (ad u)] B gp_pT gp_rA o := by
  refine gp_of (own := RX7) (mn := "any") (lv := [(0, .ref (ad u))]) (by decide) rfl rfl (Nat.le_of_ble_eq_true rfl) rfl htr hb hct ?_
  intro X hX hE hI
  rw [x7_any] at h
  refine gz_aload_n (q := 0) hX dX7_any_0 rfl rfl ?_
  refine gp_call (ci := 7) (n := u) (As := []) hX hE hI h (fun o1 e1 hc1 => (c_x7_all hrc hE.2.2.2.2.1 hI.1 hc1 hu hnu e1)) (lw_x7_all_ q802) nn_x7_all ⟨by omega, by omega⟩ (by decide) rfl (xs_dyn hu) rfl (fun ad => [(0, .ref (ad u))]) (fun ad => []) rfl (Nat.le_of_ble_eq_true rfl) (fun ad2 h2 => by have e0 := h2 u (Or.inl (gz_nn (xs_dyn hu))); exact ⟨by first | rfl | simp only [e0], by first | rfl | simp only [e0]⟩) dX7_any_1 (fun Ds1 Df2 V3 c4 r5 h hgr hP6 => ?_)
  have hu := gp_up hgr hu
  intro ad hI
  refine gz_astore_n (lv2 := [(1, .ref (ad r5)), (0, .ref (ad u))]) hX dX7_any_4 rfl (by decide) rfl ?_
  exact gz_lv [1, 0] rfl (w_x7_any_L5 hrc hX hE hnu N hu hP6 h ad hI)
noncomputable def x7_one_B (rc : gz_S → gz_R → gz_V → Nat → gz_N → gp_O gz_N) (N : Nat) (Ds : gz_S) (Df : gz_R) (V : gz_V) (c : Nat) (u : gz_N) : gp_O gz_N := (if (V u 4) = 6 then (if (V u 4) = 6 then gp_bx c (x7_opens N Ds Df V c u) (fun Ds23 Df24 V25 c26 _ => gp_nw (12, 1) Ds23 Df24 V25 c26 (fun Ds29 Df30 V31 c32 => gp_bx c32 (rc Ds29 Df30 V31 c32 u) (fun Ds35 Df36 V37 c38 r39 => gz_let (gz_ur Df36 (98, c26, 0) 0 (some r39)) (fun D41 => gz_let (gz_up V37 u 6 ((V37 u 6) - 1)) (fun V44 => some (.inr (Ds35, D41, V44, c38, (98, c26, 0)))))))) else gp_bx c (x7_opens N Ds Df V c u) (fun Ds3 Df4 V5 c6 _ => gp_bx c6 (x7_any rc N Ds3 Df4 V5 c6 u) (fun Ds9 Df10 V11 c12 r13 => gp_bx c12 (x7_must N Ds9 Df10 V11 c12 u 41) (fun Ds15 Df16 V17 c18 _ => gz_let (gz_up V17 u 6 ((V17 u 6) - 1)) (fun V21 => some (.inr (Ds15, Df16, V21, c18, r13))))))) else (if (V u 4) = 40 then (if (V u 4) = 6 then gp_bx c (x7_opens N Ds Df V c u) (fun Ds136 Df137 V138 c139 _ => gp_nw (12, 1) Ds136 Df137 V138 c139 (fun Ds142 Df143 V144 c145 => gp_bx c145 (rc Ds142 Df143 V144 c145 u) (fun Ds148 Df149 V150 c151 r152 => gz_let (gz_ur Df149 (98, c139, 0) 0 (some r152)) (fun D154 => gz_let (gz_up V150 u 6 ((V150 u 6) - 1)) (fun V157 => some (.inr (Ds148, D154, V157, c151, (98, c139, 0)))))))) else gp_bx c (x7_opens N Ds Df V c u) (fun Ds116 Df117 V118 c119 _ => gp_bx c119 (x7_any rc N Ds116 Df117 V118 c119 u) (fun Ds122 Df123 V124 c125 r126 => gp_bx c125 (x7_must N Ds122 Df123 V124 c125 u 41) (fun Ds128 Df129 V130 c131 _ => gz_let (gz_up V130 u 6 ((V130 u 6) - 1)) (fun V134 => some (.inr (Ds128, Df129, V134, c131, r126))))))) else gp_bx c (x7_sum N Ds Df V c u) (fun Ds47 Df48 V49 c50 r51 => gz_let ((V49 u 4)) (fun x53 => (if x53 = 60 then gz_bd (x7_next N Ds47 Df48 V49 u) (fun V56 => gp_nw (11, 3) Ds47 Df48 V56 c50 (fun Ds58 Df59 V60 c61 => gp_bx c61 (x7_sum N Ds58 Df59 V60 c61 u) (fun Ds64 Df65 V66 c67 r68 => gz_let (gz_up V66 (98, c50, 0) 2 x53) (fun V70 => gz_let (gz_ur (gz_ur Df65 (98, c50, 0) 0 (some r51)) (98, c50, 0) 1 (some r68)) (fun D72 => some (.inr (Ds64, D72, V70, c67, (98, c50, 0)))))))) else (if x53 = 61 then gz_bd (x7_next N Ds47 Df48 V49 u) (fun V76 => gp_nw (11, 3) Ds47 Df48 V76 c50 (fun Ds78 Df79 V80 c81 => gp_bx c81 (x7_sum N Ds78 Df79 V80 c81 u) (fun Ds84 Df85 V86 c87 r88 => gz_let (gz_up V86 (98, c50, 0) 2 x53) (fun V90 => gz_let (gz_ur (gz_ur Df85 (98, c50, 0) 0 (some r51)) (98, c50, 0) 1 (some r88)) (fun D92 => some (.inr (Ds84, D92, V90, c87, (98, c50, 0)))))))) else (if x53 = 62 then gz_bd (x7_next N Ds47 Df48 V49 u) (fun V96 => gp_nw (11, 3) Ds47 Df48 V96 c50 (fun Ds98 Df99 V100 c101 => gp_bx c101 (x7_sum N Ds98 Df99 V100 c101 u) (fun Ds104 Df105 V106 c107 r108 => gz_let (gz_up V106 (98, c50, 0) 2 x53) (fun V110 => gz_let (gz_ur (gz_ur Df105 (98, c50, 0) 0 (some r51)) (98, c50, 0) 1 (some r108)) (fun D112 => some (.inr (Ds104, D112, V110, c107, (98, c50, 0)))))))) else some (.inl (1, V49 u 3, c50 + 1)))))))))
theorem c_x7_one_B {l : Launch} {D : va_G} {aC : Nat → ClassId} {ad : gz_A0} {d : Nat} {rc : gz_S → gz_R → gz_V → Nat → gz_N → gp_O gz_N} {N : Nat} {Ds : gz_S} {Df : gz_R} {V : gz_V} {c : Nat} {u : gz_N} {B : gp_B} {o : gp_R gz_N} (hrc : ∀ {l : Launch} {D : va_G} {aC : Nat → ClassId} {ad : gz_A0} {Ds : gz_S} {Df : gz_R} {V : gz_V} {c : Nat} {u : gz_N} {B : gp_B} {o : gp_R gz_N}, l.stackTraces = false → gp_ba B Ds Df V c ad → c ≤ gp_ct o → (90 ≤ u.1 ∧ Ds u = some (7, 9)) → gp_nn B u → rc Ds Df V c u = some o → gp_Met l yX7_one cX7_one 3 (some (.object "ClaspedFair$Term")) (3 * d + 13) (64 * d + 276) D aC ad Ds Df V c [.ref (ad u)] B gp_pT gp_rA o) (htr : l.stackTraces = false) (hb : gp_ba B Ds Df V c ad) (hct : c ≤ gp_ct o) (hu : 90 ≤ u.1 ∧ Ds u = some (7, 9)) (hnu : gp_nn B u) (h : x7_one_B rc N Ds Df V c u = some o) : gp_Met l yX7_one cX7_one 3 (some (.object "ClaspedFair$Term")) (3 * (d + 1) + 13) (64 * (d + 1) + 276) D aC ad Ds Df V c [.ref (ad u)] B gp_pT gp_rA o := by
  refine gp_of (own := RX7) (mn := "one") (lv := [(0, .ref (ad u))]) (by decide) rfl rfl (Nat.le_of_ble_eq_true rfl) rfl htr hb hct ?_
  intro X hX hE hI
  rw [x7_one_B] at h
  refine gz_aload_n (q := 0) hX dX7_one_0 rfl rfl ?_
  refine xg_X7_121 hX (xs_dyn hu) dX7_one_1 ?_
  refine gz_bipush (v := 6) hX dX7_one_4 gl_b_6 ?_
  refine gz_icmp_eq (tgt := 18) hX dX7_one_6 (by decide) (fun c_1 => ?_) (fun c_1 => ?_)
  · have h := gz_ifp c_1 h
    refine gz_aload_n (q := 0) hX dX7_one_18 rfl rfl ?_
    refine xg_X7_121 hX (xs_dyn hu) dX7_one_19 ?_
    refine gz_bipush (v := 6) hX dX7_one_22 gl_b_6 ?_
    refine gz_icmp_ne (tgt := 31) hX dX7_one_24 (by decide) (fun c_2 => ?_) (fun c_2 => ?_)
    · have h := gz_ifn c_2 h
      refine gz_iconst (v := 0) hX dX7_one_31 gl_c_0 ?_
      refine gz_istore_n (lv2 := [(1, .int 0), (0, .ref (ad u))]) hX dX7_one_32 rfl (by decide) rfl ?_
      refine gz_aload_n (q := 1) hX dX7_one_33 rfl rfl ?_
      refine gp_call (ci := 7) (n := u) (As := []) hX hE hI h (fun o1 e1 hc1 => (c_x7_opens hE.2.2.2.2.1 hI.1 hc1 hu hnu e1)) (lw_x7_opens_ q810) nn_x7_opens ⟨by omega, by omega⟩ (by decide) rfl (xs_dyn hu) rfl (fun ad => [(1, .int 0), (0, .ref (ad u))]) (fun ad => []) rfl (Nat.le_of_ble_eq_true rfl) (fun ad2 h2 => by have e0 := h2 u (Or.inl (gz_nn (xs_dyn hu))); exact ⟨by first | rfl | simp only [e0], by first | rfl | simp only [e0]⟩) dX7_one_34 (fun Ds3 Df4 V5 c6 _ h hgr hP8 => ?_)
      have hu := gp_up hgr hu
      intro ad hI
      refine gz_iload_n (q := 0) hX dX7_one_37 rfl rfl ?_
      refine gz_if_eq (tgt := 55) hX dX7_one_38 (by decide) (fun _ => ?_) (fun z => absurd z (by decide))
      refine gz_aload_n (q := 1) hX dX7_one_55 rfl rfl ?_
      refine gp_call (ci := 7) (n := u) (As := []) hX hE hI h (fun o1 e1 hc1 => (c_x7_any hrc hE.2.2.2.2.1 hI.1 hc1 hu hnu e1)) (lw_x7_any_ q798) nn_x7_any ⟨by omega, by omega⟩ (by decide) rfl (xs_dyn hu) rfl (fun ad => [(1, .int 0), (0, .ref (ad u))]) (fun ad => []) rfl (Nat.le_of_ble_eq_true rfl) (fun ad2 h2 => by have e0 := h2 u (Or.inl (gz_nn (xs_dyn hu))); exact ⟨by first | rfl | simp only [e0], by first | rfl | simp only [e0]⟩) dX7_one_56 (fun Ds9 Df10 V11 c12 r13 h hgr hP14 => ?_)
      have hu := gp_up hgr hu
      intro ad hI
      refine gz_astore_n (lv2 := [(2, .ref (ad r13)), (1, .int 0), (0, .ref (ad u))]) hX dX7_one_59 rfl (by decide) rfl ?_
      refine gz_iload_n (q := 1) hX dX7_one_60 rfl rfl ?_
      refine gz_if_ne (tgt := 70) hX dX7_one_61 (by decide) (fun z => absurd z (by decide)) (fun _ => ?_)
      refine gz_aload_n (q := 2) hX dX7_one_64 rfl rfl ?_
      refine gz_bipush (v := 41) hX dX7_one_65 gl_b_41 ?_
      refine gp_call (ci := 7) (n := u) (As := [.int 41]) hX hE hI h (fun o1 e1 hc1 => (c_x7_must hE.2.2.2.2.1 hI.1 hc1 hu hnu e1)) (lw_x7_must_ q824) nn_x7_must ⟨by omega, by omega⟩ (by decide) rfl (xs_dyn hu) rfl (fun ad => [(2, .ref (ad r13)), (1, .int 0), (0, .ref (ad u))]) (fun ad => []) rfl (Nat.le_of_ble_eq_true rfl) (fun ad2 h2 => by have e0 := h2 r13 (Or.inl (gp_nnT hP14)); have e1 := h2 u (Or.inl (gz_nn (xs_dyn hu))); exact ⟨by first | rfl | simp only [e0, e1], by first | rfl | simp only [e0, e1]⟩) dX7_one_67 (fun Ds15 Df16 V17 c18 _ h hgr hP20 => ?_)
      have hP14 := gp_upT hgr hP14
      have hu := gp_up hgr hu
      intro ad hI
      refine gz_aload_n (q := 2) hX dX7_one_70 rfl rfl ?_
      refine gz_dupa hX dX7_one_71 ?_
      refine xg_X7_166 hX (xs_dyn hu) dX7_one_72 ?_
      refine gz_iconst (v := 1) hX dX7_one_75 gl_c_1 ?_
      refine gz_isub hX dX7_one_76 ?_
      obtain ⟨V21, e22, h⟩ := gz_let_o h
      refine xp_X7_166 hX (xs_dyn hu) (by have := (hu).1; omega) dX7_one_77 e22 ?_
      have hI := hI.up hnu e22
      refine gz_aload_n (q := 0) hX dX7_one_80 rfl rfl ?_
      exact gp_aret hX hE hI rfl (Or.inl ⟨_, rfl⟩) hP14 h dX7_one_81
    · have h := gz_ifp c_2 h
      refine gz_iconst (v := 1) hX dX7_one_27 gl_c_1 ?_
      refine gz_goto (tgt := 32) hX dX7_one_28 (by decide) ?_
      refine gz_istore_n (lv2 := [(1, .int 1), (0, .ref (ad u))]) hX dX7_one_32 rfl (by decide) rfl ?_
      refine gz_aload_n (q := 1) hX dX7_one_33 rfl rfl ?_
      refine gp_call (ci := 7) (n := u) (As := []) hX hE hI h (fun o1 e1 hc1 => (c_x7_opens hE.2.2.2.2.1 hI.1 hc1 hu hnu e1)) (lw_x7_opens_ q810) nn_x7_opens ⟨by omega, by omega⟩ (by decide) rfl (xs_dyn hu) rfl (fun ad => [(1, .int 1), (0, .ref (ad u))]) (fun ad => []) rfl (Nat.le_of_ble_eq_true rfl) (fun ad2 h2 => by have e0 := h2 u (Or.inl (gz_nn (xs_dyn hu))); exact ⟨by first | rfl | simp only [e0], by first | rfl | simp only [e0]⟩) dX7_one_34 (fun Ds23 Df24 V25 c26 _ h hgr hP28 => ?_)
      have hu := gp_up hgr hu
      intro ad hI
      refine gz_iload_n (q := 0) hX dX7_one_37 rfl rfl ?_
      refine gz_if_eq (tgt := 55) hX dX7_one_38 (by decide) (fun z => absurd z (by decide)) (fun _ => ?_)
      obtain ⟨Ds29, Df30, V31, c32, e33, h⟩ := gp_nw_o h
      refine gp_new (ci := 12) hX hE hI e33 in_X13 tyX13_ok (by decide) rfl q814 q815 q168 (by decide) (by decide) (fun ad => [(1, .int 1), (0, .ref (ad u))]) (fun ad => []) (fun ad2 h2 => by have e0 := h2 u (Or.inl (gz_nn (xs_dyn hu))); exact ⟨by first | rfl | simp only [e0], by first | rfl | simp only [e0]⟩) dX7_one_41 (fun hgr hj34 hj34n => ?_)
      have hu := gp_up hgr hu
      intro ad hI
      refine gz_dupa hX dX7_one_44 ?_
      refine gz_aload_n (q := 1) hX dX7_one_45 rfl rfl ?_
      refine gp_call (ci := 7) (n := u) (As := []) hX hE hI h (fun o1 e1 hc1 => (hrc hE.2.2.2.2.1 hI.1 hc1 hu hnu e1)) (lw_x7_one_ q806) nn_x7_one ⟨by omega, by omega⟩ (by decide) rfl (xs_dyn hu) rfl (fun ad => [(1, .int 1), (0, .ref (ad u))]) (fun ad => [.ref (ad (98, c26, 0)), .ref (ad (98, c26, 0))]) rfl (Nat.le_of_ble_eq_true rfl) (fun ad2 h2 => by have e0 := h2 u (Or.inl (gz_nn (xs_dyn hu))); have e1 := h2 (98, c26, 0) (Or.inl (gz_nn (xs_dyn ⟨gp_90 hj34n, hj34⟩))); exact ⟨by first | rfl | simp only [e0, e1], by first | rfl | simp only [e0, e1]⟩) dX7_one_46 (fun Ds35 Df36 V37 c38 r39 h hgr hP40 => ?_)
      have hu := gp_up hgr hu
      have hj34 := hgr _ _ hj34
      intro ad hI
      obtain ⟨D41, e42, h⟩ := gz_let_o h
      refine gp_ini (V1 := V37) (Df1 := D41) (n := (98, c26, 0)) (As := [.ref (ad r39)]) (rest := [.ref (ad (98, c26, 0))]) hX hE hI (by exact (c_x13_init (xs_dyn ⟨gp_90 hj34n, hj34⟩) (gp_n0 hj34n) (gp_nnT hP40))) (lw_meth q818) q168 q816 q817 rfl rfl rfl nn_x13_init ⟨by simp only [rm_x13_init]; omega, by simp only [rm_x13_init]; omega⟩ rfl rfl (Nat.le_of_ble_eq_true rfl) dX7_one_49 (by rw [← e42, gp_xur (gp_90 hj34n)]) ?_
      have hI := hI.wR (Df2 := D41) hj34n (fun a ha => by rw [← e42]; simp only [gz_ur_ne ha])
      have ht43 := gp_tOf hj34n hj34
      refine gz_goto (tgt := 59) hX dX7_one_52 (by decide) ?_
      refine gz_astore_n (lv2 := [(2, .ref (ad (98, c26, 0))), (1, .int 1), (0, .ref (ad u))]) hX dX7_one_59 rfl (by decide) rfl ?_
      refine gz_iload_n (q := 1) hX dX7_one_60 rfl rfl ?_
      refine gz_if_ne (tgt := 70) hX dX7_one_61 (by decide) (fun _ => ?_) (fun z => absurd z (by decide))
      refine gz_aload_n (q := 2) hX dX7_one_70 rfl rfl ?_
      refine gz_dupa hX dX7_one_71 ?_
      refine xg_X7_166 hX (xs_dyn hu) dX7_one_72 ?_
      refine gz_iconst (v := 1) hX dX7_one_75 gl_c_1 ?_
      refine gz_isub hX dX7_one_76 ?_
      obtain ⟨V44, e45, h⟩ := gz_let_o h
      refine xp_X7_166 hX (xs_dyn hu) (by have := (hu).1; omega) dX7_one_77 e45 ?_
      have hI := hI.up hnu e45
      refine gz_aload_n (q := 0) hX dX7_one_80 rfl rfl ?_
      exact gp_aret hX hE hI rfl (Or.inl ⟨_, rfl⟩) ht43 h dX7_one_81
  · have h := gz_ifn c_1 h
    refine gz_aload_n (q := 0) hX dX7_one_9 rfl rfl ?_
    refine xg_X7_121 hX (xs_dyn hu) dX7_one_10 ?_
    refine gz_bipush (v := 40) hX dX7_one_13 gl_b_40 ?_
    refine gz_icmp_ne (tgt := 82) hX dX7_one_15 (by decide) (fun c_46 => ?_) (fun c_46 => ?_)
    · have h := gz_ifn c_46 h
      refine gz_aload_n (q := 0) hX dX7_one_82 rfl rfl ?_
      refine gp_call (ci := 7) (n := u) (As := []) hX hE hI h (fun o1 e1 hc1 => (c_x7_sum hE.2.2.2.2.1 hI.1 hc1 hu hnu e1)) (lw_x7_sum_ q743) nn_x7_sum ⟨by omega, by omega⟩ (by decide) rfl (xs_dyn hu) rfl (fun ad => [(0, .ref (ad u))]) (fun ad => []) rfl (Nat.le_of_ble_eq_true rfl) (fun ad2 h2 => by have e0 := h2 u (Or.inl (gz_nn (xs_dyn hu))); exact ⟨by first | rfl | simp only [e0], by first | rfl | simp only [e0]⟩) dX7_one_83 (fun Ds47 Df48 V49 c50 r51 h hgr hP52 => ?_)
      have hu := gp_up hgr hu
      intro ad hI
      refine gz_astore_n (lv2 := [(1, .ref (ad r51)), (0, .ref (ad u))]) hX dX7_one_86 rfl (by decide) rfl ?_
      refine gz_aload_n (q := 1) hX dX7_one_87 rfl rfl ?_
      refine xg_X7_121 hX (xs_dyn hu) dX7_one_88 ?_
      obtain ⟨x53, e54, h⟩ := gz_let_o h
      refine gz_nm e54 ?_
      refine gz_istore_n (lv2 := [(2, .int x53), (1, .ref (ad r51)), (0, .ref (ad u))]) hX dX7_one_91 rfl (by decide) rfl ?_
      refine gz_iload_n (q := 0) hX dX7_one_92 rfl rfl ?_
      refine gz_bipush (v := 60) hX dX7_one_93 gl_b_60 ?_
      refine gz_icmp_eq (tgt := 123) hX dX7_one_95 (by decide) (fun c_55 => ?_) (fun c_55 => ?_)
      · have h := gz_ifp c_55 h
        refine gz_aload_n (q := 2) hX dX7_one_123 rfl rfl ?_
        obtain ⟨V56, e57, h⟩ := gz_bd_o h
        refine gu_callV (ci := 7) (n := u) (As := []) hX (c_x7_next hu e57) (lw_x7_next_ q555) rfl rfl nn_x7_next ⟨by simp only [gp_rm, rm_x7_next]; omega, by simp only [gp_rm, rm_x7_next]; omega⟩ (gp_hf hX hE hI) (by decide) rfl (xs_dyn hu) rfl rfl (Nat.le_of_ble_eq_true rfl) dX7_one_124 rfl ?_
        have hI := hI.next hnu e57
        obtain ⟨Ds58, Df59, V60, c61, e62, h⟩ := gp_nw_o h
        refine gp_new (ci := 11) hX hE hI e62 in_X12 tyX12_ok (by decide) rfl q782 q783 q167 (by decide) (by decide) (fun ad => [(2, .int x53), (1, .ref (ad r51)), (0, .ref (ad u))]) (fun ad => []) (fun ad2 h2 => by have e0 := h2 r51 (Or.inl (gp_nnT hP52)); have e1 := h2 u (Or.inl (gz_nn (xs_dyn hu))); exact ⟨by first | rfl | simp only [e0, e1], by first | rfl | simp only [e0, e1]⟩) dX7_one_127 (fun hgr hj63 hj63n => ?_)
        have hP52 := gp_upT hgr hP52
        have hu := gp_up hgr hu
        intro ad hI
        refine gz_dupa hX dX7_one_130 ?_
        refine gz_aload_n (q := 1) hX dX7_one_131 rfl rfl ?_
        refine gz_iload_n (q := 0) hX dX7_one_132 rfl rfl ?_
        refine gz_aload_n (q := 2) hX dX7_one_133 rfl rfl ?_
        refine gp_call (ci := 7) (n := u) (As := []) hX hE hI h (fun o1 e1 hc1 => (c_x7_sum hE.2.2.2.2.1 hI.1 hc1 hu hnu e1)) (lw_x7_sum_ q743) nn_x7_sum ⟨by omega, by omega⟩ (by decide) rfl (xs_dyn hu) rfl (fun ad => [(2, .int x53), (1, .ref (ad r51)), (0, .ref (ad u))]) (fun ad => [.int x53, .ref (ad r51), .ref (ad (98, c50, 0)), .ref (ad (98, c50, 0))]) rfl (Nat.le_of_ble_eq_true rfl) (fun ad2 h2 => by have e0 := h2 r51 (Or.inl (gp_nnT hP52)); have e1 := h2 u (Or.inl (gz_nn (xs_dyn hu))); have e2 := h2 (98, c50, 0) (Or.inl (gz_nn (xs_dyn ⟨gp_90 hj63n, hj63⟩))); exact ⟨by first | rfl | simp only [e0, e1, e2], by first | rfl | simp only [e0, e1, e2]⟩) dX7_one_134 (fun Ds64 Df65 V66 c67 r68 h hgr hP69 => ?_)
        have hP52 := gp_upT hgr hP52
        have hu := gp_up hgr hu
        have hj63 := hgr _ _ hj63
        intro ad hI
        obtain ⟨V70, e71, h⟩ := gz_let_o h
        obtain ⟨D72, e73, h⟩ := gz_let_o h
        refine gp_ini (V1 := V70) (Df1 := D72) (n := (98, c50, 0)) (As := [.ref (ad r51), .int x53, .ref (ad r68)]) (rest := [.ref (ad (98, c50, 0))]) hX hE hI (by rw [← e71]; exact (c_x12_init (xs_dyn ⟨gp_90 hj63n, hj63⟩) (gp_n0 hj63n) (gp_nnT hP52) (gp_nnT hP69))) (lw_meth q786) q167 q784 q785 rfl rfl rfl nn_x12_init ⟨by simp only [rm_x12_init]; omega, by simp only [rm_x12_init]; omega⟩ rfl rfl (Nat.le_of_ble_eq_true rfl) dX7_one_137 (by rw [← e73, gp_xur (gp_90 hj63n), gp_xur (gp_90 hj63n)]) ?_
        have hI := hI.wV (V2 := V70) hj63n (fun a ha => by rw [← e71]; simp only [gz_up_ne ha])
        have hI := hI.wR (Df2 := D72) hj63n (fun a ha => by rw [← e73]; simp only [gz_ur_ne ha])
        have ht74 := gp_tOf hj63n hj63
        exact gp_aret hX hE hI rfl (Or.inl ⟨_, rfl⟩) ht74 h dX7_one_140
      · have h := gz_ifn c_55 h
        refine gz_iload_n (q := 0) hX dX7_one_98 rfl rfl ?_
        refine gz_bipush (v := 61) hX dX7_one_99 gl_b_61 ?_
        refine gz_icmp_eq (tgt := 123) hX dX7_one_101 (by decide) (fun c_75 => ?_) (fun c_75 => ?_)
        · have h := gz_ifp c_75 h
          refine gz_aload_n (q := 2) hX dX7_one_123 rfl rfl ?_
          obtain ⟨V76, e77, h⟩ := gz_bd_o h
          refine gu_callV (ci := 7) (n := u) (As := []) hX (c_x7_next hu e77) (lw_x7_next_ q555) rfl rfl nn_x7_next ⟨by simp only [gp_rm, rm_x7_next]; omega, by simp only [gp_rm, rm_x7_next]; omega⟩ (gp_hf hX hE hI) (by decide) rfl (xs_dyn hu) rfl rfl (Nat.le_of_ble_eq_true rfl) dX7_one_124 rfl ?_
          have hI := hI.next hnu e77
          obtain ⟨Ds78, Df79, V80, c81, e82, h⟩ := gp_nw_o h
          refine gp_new (ci := 11) hX hE hI e82 in_X12 tyX12_ok (by decide) rfl q782 q783 q167 (by decide) (by decide) (fun ad => [(2, .int x53), (1, .ref (ad r51)), (0, .ref (ad u))]) (fun ad => []) (fun ad2 h2 => by have e0 := h2 r51 (Or.inl (gp_nnT hP52)); have e1 := h2 u (Or.inl (gz_nn (xs_dyn hu))); exact ⟨by first | rfl | simp only [e0, e1], by first | rfl | simp only [e0, e1]⟩) dX7_one_127 (fun hgr hj83 hj83n => ?_)
          have hP52 := gp_upT hgr hP52
          have hu := gp_up hgr hu
          intro ad hI
          refine gz_dupa hX dX7_one_130 ?_
          refine gz_aload_n (q := 1) hX dX7_one_131 rfl rfl ?_
          refine gz_iload_n (q := 0) hX dX7_one_132 rfl rfl ?_
          refine gz_aload_n (q := 2) hX dX7_one_133 rfl rfl ?_
          refine gp_call (ci := 7) (n := u) (As := []) hX hE hI h (fun o1 e1 hc1 => (c_x7_sum hE.2.2.2.2.1 hI.1 hc1 hu hnu e1)) (lw_x7_sum_ q743) nn_x7_sum ⟨by omega, by omega⟩ (by decide) rfl (xs_dyn hu) rfl (fun ad => [(2, .int x53), (1, .ref (ad r51)), (0, .ref (ad u))]) (fun ad => [.int x53, .ref (ad r51), .ref (ad (98, c50, 0)), .ref (ad (98, c50, 0))]) rfl (Nat.le_of_ble_eq_true rfl) (fun ad2 h2 => by have e0 := h2 r51 (Or.inl (gp_nnT hP52)); have e1 := h2 u (Or.inl (gz_nn (xs_dyn hu))); have e2 := h2 (98, c50, 0) (Or.inl (gz_nn (xs_dyn ⟨gp_90 hj83n, hj83⟩))); exact ⟨by first | rfl | simp only [e0, e1, e2], by first | rfl | simp only [e0, e1, e2]⟩) dX7_one_134 (fun Ds84 Df85 V86 c87 r88 h hgr hP89 => ?_)
          have hP52 := gp_upT hgr hP52
          have hu := gp_up hgr hu
          have hj83 := hgr _ _ hj83
          intro ad hI
          obtain ⟨V90, e91, h⟩ := gz_let_o h
          obtain ⟨D92, e93, h⟩ := gz_let_o h
          refine gp_ini (V1 := V90) (Df1 := D92) (n := (98, c50, 0)) (As := [.ref (ad r51), .int x53, .ref (ad r88)]) (rest := [.ref (ad (98, c50, 0))]) hX hE hI (by rw [← e91]; exact (c_x12_init (xs_dyn ⟨gp_90 hj83n, hj83⟩) (gp_n0 hj83n) (gp_nnT hP52) (gp_nnT hP89))) (lw_meth q786) q167 q784 q785 rfl rfl rfl nn_x12_init ⟨by simp only [rm_x12_init]; omega, by simp only [rm_x12_init]; omega⟩ rfl rfl (Nat.le_of_ble_eq_true rfl) dX7_one_137 (by rw [← e93, gp_xur (gp_90 hj83n), gp_xur (gp_90 hj83n)]) ?_
          have hI := hI.wV (V2 := V90) hj83n (fun a ha => by rw [← e91]; simp only [gz_up_ne ha])
          have hI := hI.wR (Df2 := D92) hj83n (fun a ha => by rw [← e93]; simp only [gz_ur_ne ha])
          have ht94 := gp_tOf hj83n hj83
          exact gp_aret hX hE hI rfl (Or.inl ⟨_, rfl⟩) ht94 h dX7_one_140
        · have h := gz_ifn c_75 h
          refine gz_iload_n (q := 0) hX dX7_one_104 rfl rfl ?_
          refine gz_bipush (v := 62) hX dX7_one_105 gl_b_62 ?_
          refine gz_icmp_eq (tgt := 123) hX dX7_one_107 (by decide) (fun c_95 => ?_) (fun c_95 => ?_)
          · have h := gz_ifp c_95 h
            refine gz_aload_n (q := 2) hX dX7_one_123 rfl rfl ?_
            obtain ⟨V96, e97, h⟩ := gz_bd_o h
            refine gu_callV (ci := 7) (n := u) (As := []) hX (c_x7_next hu e97) (lw_x7_next_ q555) rfl rfl nn_x7_next ⟨by simp only [gp_rm, rm_x7_next]; omega, by simp only [gp_rm, rm_x7_next]; omega⟩ (gp_hf hX hE hI) (by decide) rfl (xs_dyn hu) rfl rfl (Nat.le_of_ble_eq_true rfl) dX7_one_124 rfl ?_
            have hI := hI.next hnu e97
            obtain ⟨Ds98, Df99, V100, c101, e102, h⟩ := gp_nw_o h
            refine gp_new (ci := 11) hX hE hI e102 in_X12 tyX12_ok (by decide) rfl q782 q783 q167 (by decide) (by decide) (fun ad => [(2, .int x53), (1, .ref (ad r51)), (0, .ref (ad u))]) (fun ad => []) (fun ad2 h2 => by have e0 := h2 r51 (Or.inl (gp_nnT hP52)); have e1 := h2 u (Or.inl (gz_nn (xs_dyn hu))); exact ⟨by first | rfl | simp only [e0, e1], by first | rfl | simp only [e0, e1]⟩) dX7_one_127 (fun hgr hj103 hj103n => ?_)
            have hP52 := gp_upT hgr hP52
            have hu := gp_up hgr hu
            intro ad hI
            refine gz_dupa hX dX7_one_130 ?_
            refine gz_aload_n (q := 1) hX dX7_one_131 rfl rfl ?_
            refine gz_iload_n (q := 0) hX dX7_one_132 rfl rfl ?_
            refine gz_aload_n (q := 2) hX dX7_one_133 rfl rfl ?_
            refine gp_call (ci := 7) (n := u) (As := []) hX hE hI h (fun o1 e1 hc1 => (c_x7_sum hE.2.2.2.2.1 hI.1 hc1 hu hnu e1)) (lw_x7_sum_ q743) nn_x7_sum ⟨by omega, by omega⟩ (by decide) rfl (xs_dyn hu) rfl (fun ad => [(2, .int x53), (1, .ref (ad r51)), (0, .ref (ad u))]) (fun ad => [.int x53, .ref (ad r51), .ref (ad (98, c50, 0)), .ref (ad (98, c50, 0))]) rfl (Nat.le_of_ble_eq_true rfl) (fun ad2 h2 => by have e0 := h2 r51 (Or.inl (gp_nnT hP52)); have e1 := h2 u (Or.inl (gz_nn (xs_dyn hu))); have e2 := h2 (98, c50, 0) (Or.inl (gz_nn (xs_dyn ⟨gp_90 hj103n, hj103⟩))); exact ⟨by first | rfl | simp only [e0, e1, e2], by first | rfl | simp only [e0, e1, e2]⟩) dX7_one_134 (fun Ds104 Df105 V106 c107 r108 h hgr hP109 => ?_)
            have hP52 := gp_upT hgr hP52
            have hu := gp_up hgr hu
            have hj103 := hgr _ _ hj103
            intro ad hI
            obtain ⟨V110, e111, h⟩ := gz_let_o h
            obtain ⟨D112, e113, h⟩ := gz_let_o h
            refine gp_ini (V1 := V110) (Df1 := D112) (n := (98, c50, 0)) (As := [.ref (ad r51), .int x53, .ref (ad r108)]) (rest := [.ref (ad (98, c50, 0))]) hX hE hI (by rw [← e111]; exact (c_x12_init (xs_dyn ⟨gp_90 hj103n, hj103⟩) (gp_n0 hj103n) (gp_nnT hP52) (gp_nnT hP109))) (lw_meth q786) q167 q784 q785 rfl rfl rfl nn_x12_init ⟨by simp only [rm_x12_init]; omega, by simp only [rm_x12_init]; omega⟩ rfl rfl (Nat.le_of_ble_eq_true rfl) dX7_one_137 (by rw [← e113, gp_xur (gp_90 hj103n), gp_xur (gp_90 hj103n)]) ?_
            have hI := hI.wV (V2 := V110) hj103n (fun a ha => by rw [← e111]; simp only [gz_up_ne ha])
            have hI := hI.wR (Df2 := D112) hj103n (fun a ha => by rw [← e113]; simp only [gz_ur_ne ha])
            have ht114 := gp_tOf hj103n hj103
            exact gp_aret hX hE hI rfl (Or.inl ⟨_, rfl⟩) ht114 h dX7_one_140
          · have h := gz_ifn c_95 h
            exact gp_throw (q0 := 2) hX hE hI hu h rfl ⟨by omega, by omega⟩ dX7_one_110 dX7_one_113 dX7_one_114 (by decide) dX7_one_115 dX7_one_116 dX7_one_119 dX7_one_122
    · have h := gz_ifp c_46 h
      refine gz_aload_n (q := 0) hX dX7_one_18 rfl rfl ?_
      refine xg_X7_121 hX (xs_dyn hu) dX7_one_19 ?_
      refine gz_bipush (v := 6) hX dX7_one_22 gl_b_6 ?_
      refine gz_icmp_ne (tgt := 31) hX dX7_one_24 (by decide) (fun c_115 => ?_) (fun c_115 => ?_)
      · have h := gz_ifn c_115 h
        refine gz_iconst (v := 0) hX dX7_one_31 gl_c_0 ?_
        refine gz_istore_n (lv2 := [(1, .int 0), (0, .ref (ad u))]) hX dX7_one_32 rfl (by decide) rfl ?_
        refine gz_aload_n (q := 1) hX dX7_one_33 rfl rfl ?_
        refine gp_call (ci := 7) (n := u) (As := []) hX hE hI h (fun o1 e1 hc1 => (c_x7_opens hE.2.2.2.2.1 hI.1 hc1 hu hnu e1)) (lw_x7_opens_ q810) nn_x7_opens ⟨by omega, by omega⟩ (by decide) rfl (xs_dyn hu) rfl (fun ad => [(1, .int 0), (0, .ref (ad u))]) (fun ad => []) rfl (Nat.le_of_ble_eq_true rfl) (fun ad2 h2 => by have e0 := h2 u (Or.inl (gz_nn (xs_dyn hu))); exact ⟨by first | rfl | simp only [e0], by first | rfl | simp only [e0]⟩) dX7_one_34 (fun Ds116 Df117 V118 c119 _ h hgr hP121 => ?_)
        have hu := gp_up hgr hu
        intro ad hI
        refine gz_iload_n (q := 0) hX dX7_one_37 rfl rfl ?_
        refine gz_if_eq (tgt := 55) hX dX7_one_38 (by decide) (fun _ => ?_) (fun z => absurd z (by decide))
        refine gz_aload_n (q := 1) hX dX7_one_55 rfl rfl ?_
        refine gp_call (ci := 7) (n := u) (As := []) hX hE hI h (fun o1 e1 hc1 => (c_x7_any hrc hE.2.2.2.2.1 hI.1 hc1 hu hnu e1)) (lw_x7_any_ q798) nn_x7_any ⟨by omega, by omega⟩ (by decide) rfl (xs_dyn hu) rfl (fun ad => [(1, .int 0), (0, .ref (ad u))]) (fun ad => []) rfl (Nat.le_of_ble_eq_true rfl) (fun ad2 h2 => by have e0 := h2 u (Or.inl (gz_nn (xs_dyn hu))); exact ⟨by first | rfl | simp only [e0], by first | rfl | simp only [e0]⟩) dX7_one_56 (fun Ds122 Df123 V124 c125 r126 h hgr hP127 => ?_)
        have hu := gp_up hgr hu
        intro ad hI
        refine gz_astore_n (lv2 := [(2, .ref (ad r126)), (1, .int 0), (0, .ref (ad u))]) hX dX7_one_59 rfl (by decide) rfl ?_
        refine gz_iload_n (q := 1) hX dX7_one_60 rfl rfl ?_
        refine gz_if_ne (tgt := 70) hX dX7_one_61 (by decide) (fun z => absurd z (by decide)) (fun _ => ?_)
        refine gz_aload_n (q := 2) hX dX7_one_64 rfl rfl ?_
        refine gz_bipush (v := 41) hX dX7_one_65 gl_b_41 ?_
        refine gp_call (ci := 7) (n := u) (As := [.int 41]) hX hE hI h (fun o1 e1 hc1 => (c_x7_must hE.2.2.2.2.1 hI.1 hc1 hu hnu e1)) (lw_x7_must_ q824) nn_x7_must ⟨by omega, by omega⟩ (by decide) rfl (xs_dyn hu) rfl (fun ad => [(2, .ref (ad r126)), (1, .int 0), (0, .ref (ad u))]) (fun ad => []) rfl (Nat.le_of_ble_eq_true rfl) (fun ad2 h2 => by have e0 := h2 r126 (Or.inl (gp_nnT hP127)); have e1 := h2 u (Or.inl (gz_nn (xs_dyn hu))); exact ⟨by first | rfl | simp only [e0, e1], by first | rfl | simp only [e0, e1]⟩) dX7_one_67 (fun Ds128 Df129 V130 c131 _ h hgr hP133 => ?_)
        have hP127 := gp_upT hgr hP127
        have hu := gp_up hgr hu
        intro ad hI
        refine gz_aload_n (q := 2) hX dX7_one_70 rfl rfl ?_
        refine gz_dupa hX dX7_one_71 ?_
        refine xg_X7_166 hX (xs_dyn hu) dX7_one_72 ?_
        refine gz_iconst (v := 1) hX dX7_one_75 gl_c_1 ?_
        refine gz_isub hX dX7_one_76 ?_
        obtain ⟨V134, e135, h⟩ := gz_let_o h
        refine xp_X7_166 hX (xs_dyn hu) (by have := (hu).1; omega) dX7_one_77 e135 ?_
        have hI := hI.up hnu e135
        refine gz_aload_n (q := 0) hX dX7_one_80 rfl rfl ?_
        exact gp_aret hX hE hI rfl (Or.inl ⟨_, rfl⟩) hP127 h dX7_one_81
      · have h := gz_ifp c_115 h
        refine gz_iconst (v := 1) hX dX7_one_27 gl_c_1 ?_
        refine gz_goto (tgt := 32) hX dX7_one_28 (by decide) ?_
        refine gz_istore_n (lv2 := [(1, .int 1), (0, .ref (ad u))]) hX dX7_one_32 rfl (by decide) rfl ?_
        refine gz_aload_n (q := 1) hX dX7_one_33 rfl rfl ?_
        refine gp_call (ci := 7) (n := u) (As := []) hX hE hI h (fun o1 e1 hc1 => (c_x7_opens hE.2.2.2.2.1 hI.1 hc1 hu hnu e1)) (lw_x7_opens_ q810) nn_x7_opens ⟨by omega, by omega⟩ (by decide) rfl (xs_dyn hu) rfl (fun ad => [(1, .int 1), (0, .ref (ad u))]) (fun ad => []) rfl (Nat.le_of_ble_eq_true rfl) (fun ad2 h2 => by have e0 := h2 u (Or.inl (gz_nn (xs_dyn hu))); exact ⟨by first | rfl | simp only [e0], by first | rfl | simp only [e0]⟩) dX7_one_34 (fun Ds136 Df137 V138 c139 _ h hgr hP141 => ?_)
        have hu := gp_up hgr hu
        intro ad hI
        refine gz_iload_n (q := 0) hX dX7_one_37 rfl rfl ?_
        refine gz_if_eq (tgt := 55) hX dX7_one_38 (by decide) (fun z => absurd z (by decide)) (fun _ => ?_)
        obtain ⟨Ds142, Df143, V144, c145, e146, h⟩ := gp_nw_o h
        refine gp_new (ci := 12) hX hE hI e146 in_X13 tyX13_ok (by decide) rfl q814 q815 q168 (by decide) (by decide) (fun ad => [(1, .int 1), (0, .ref (ad u))]) (fun ad => []) (fun ad2 h2 => by have e0 := h2 u (Or.inl (gz_nn (xs_dyn hu))); exact ⟨by first | rfl | simp only [e0], by first | rfl | simp only [e0]⟩) dX7_one_41 (fun hgr hj147 hj147n => ?_)
        have hu := gp_up hgr hu
        intro ad hI
        refine gz_dupa hX dX7_one_44 ?_
        refine gz_aload_n (q := 1) hX dX7_one_45 rfl rfl ?_
        refine gp_call (ci := 7) (n := u) (As := []) hX hE hI h (fun o1 e1 hc1 => (hrc hE.2.2.2.2.1 hI.1 hc1 hu hnu e1)) (lw_x7_one_ q806) nn_x7_one ⟨by omega, by omega⟩ (by decide) rfl (xs_dyn hu) rfl (fun ad => [(1, .int 1), (0, .ref (ad u))]) (fun ad => [.ref (ad (98, c139, 0)), .ref (ad (98, c139, 0))]) rfl (Nat.le_of_ble_eq_true rfl) (fun ad2 h2 => by have e0 := h2 u (Or.inl (gz_nn (xs_dyn hu))); have e1 := h2 (98, c139, 0) (Or.inl (gz_nn (xs_dyn ⟨gp_90 hj147n, hj147⟩))); exact ⟨by first | rfl | simp only [e0, e1], by first | rfl | simp only [e0, e1]⟩) dX7_one_46 (fun Ds148 Df149 V150 c151 r152 h hgr hP153 => ?_)
        have hu := gp_up hgr hu
        have hj147 := hgr _ _ hj147
        intro ad hI
        obtain ⟨D154, e155, h⟩ := gz_let_o h
        refine gp_ini (V1 := V150) (Df1 := D154) (n := (98, c139, 0)) (As := [.ref (ad r152)]) (rest := [.ref (ad (98, c139, 0))]) hX hE hI (by exact (c_x13_init (xs_dyn ⟨gp_90 hj147n, hj147⟩) (gp_n0 hj147n) (gp_nnT hP153))) (lw_meth q818) q168 q816 q817 rfl rfl rfl nn_x13_init ⟨by simp only [rm_x13_init]; omega, by simp only [rm_x13_init]; omega⟩ rfl rfl (Nat.le_of_ble_eq_true rfl) dX7_one_49 (by rw [← e155, gp_xur (gp_90 hj147n)]) ?_
        have hI := hI.wR (Df2 := D154) hj147n (fun a ha => by rw [← e155]; simp only [gz_ur_ne ha])
        have ht156 := gp_tOf hj147n hj147
        refine gz_goto (tgt := 59) hX dX7_one_52 (by decide) ?_
        refine gz_astore_n (lv2 := [(2, .ref (ad (98, c139, 0))), (1, .int 1), (0, .ref (ad u))]) hX dX7_one_59 rfl (by decide) rfl ?_
        refine gz_iload_n (q := 1) hX dX7_one_60 rfl rfl ?_
        refine gz_if_ne (tgt := 70) hX dX7_one_61 (by decide) (fun _ => ?_) (fun z => absurd z (by decide))
        refine gz_aload_n (q := 2) hX dX7_one_70 rfl rfl ?_
        refine gz_dupa hX dX7_one_71 ?_
        refine xg_X7_166 hX (xs_dyn hu) dX7_one_72 ?_
        refine gz_iconst (v := 1) hX dX7_one_75 gl_c_1 ?_
        refine gz_isub hX dX7_one_76 ?_
        obtain ⟨V157, e158, h⟩ := gz_let_o h
        refine xp_X7_166 hX (xs_dyn hu) (by have := (hu).1; omega) dX7_one_77 e158 ?_
        have hI := hI.up hnu e158
        refine gz_aload_n (q := 0) hX dX7_one_80 rfl rfl ?_
        exact gp_aret hX hE hI rfl (Or.inl ⟨_, rfl⟩) ht156 h dX7_one_81
noncomputable def x7_one (N : Nat) : Nat → gz_S → gz_R → gz_V → Nat → gz_N → gp_O gz_N
  | 0 => fun _ _ _ _ _ => none
  | d + 1 => x7_one_B (x7_one N d) N
theorem c_x7_one {N : Nat} : ∀ (d : Nat) {l : Launch} {D : va_G} {aC : Nat → ClassId} {ad : gz_A0} {Ds : gz_S} {Df : gz_R} {V : gz_V} {c : Nat} {u : gz_N} {B : gp_B} {o : gp_R gz_N}, l.stackTraces = false → gp_ba B Ds Df V c ad → c ≤ gp_ct o → (90 ≤ u.1 ∧ Ds u = some (7, 9)) → gp_nn B u → x7_one N d Ds Df V c u = some o → gp_Met l yX7_one cX7_one 3 (some (.object "ClaspedFair$Term")) (3 * d + 13) (64 * d + 276) D aC ad Ds Df V c [.ref (ad u)] B gp_pT gp_rA o := by
  intro d
  induction d with
  | zero => intro l D aC ad Ds Df V c u B o h1 h2 h3 h4 h5 h; cases h
  | succ d ih => intro l D aC ad Ds Df V c u B o h1 h2 h3 h4 h5 h; exact c_x7_one_B (fun a1 a2 a3 a4 a5 a6 => ih a1 a2 a3 a4 a5 a6) h1 h2 h3 h4 h5 h
