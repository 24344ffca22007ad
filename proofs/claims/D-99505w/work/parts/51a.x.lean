/-! CLASPEDFAIR, walked (static part). Printed by wip/D-99505w/gen/mkx.py -/
set_option maxRecDepth 100000
noncomputable def x10_of (V : gz_V) (u1 : gz_N) (u2 : Nat) : Int32 := (V u1 0)
theorem c_x10_of {l : Launch} {D : va_G} {aC : Nat → ClassId} {ad : gz_A0} {d : Nat} {Ds : gz_S} {Df : gz_R} {V : gz_V} {u1 : gz_N} {u2 : Nat} {r : Int32} (hu1 : 90 ≤ u1.1 ∧ Ds u1 = some (9, 1)) (hu2 : u2 < 9) (h : x10_of V u1 u2 = r) : gz_Met l yX10_of cX10_of 2 (some .int) (rm_xd (d + 1)) D aC ad (xw_s Ds) V (xw_c Df) [.ref (ad u1), .ref (ad (20, u2, 0))] (gz_F1 (xw_s Ds) (xw_c Df) ad V (some (.int r))) 0 0 := by
  refine gu_ofW (own := RX10) (mn := "of") (lv := [(0, .ref (ad u1)), (1, .ref (ad (20, u2, 0)))]) (by decide) rfl rfl (Nat.le_of_ble_eq_true rfl) rfl ?_
  intro X hX hZ hF
  rw [x10_of] at h
  refine gz_aload_n (q := 0) hX dX10_of_0 rfl rfl ?_
  refine xg_X10_7 hX (xs_dyn hu1) dX10_of_1 ?_
  exact gu_iret hX hZ hF rfl rfl h dX10_of_4
noncomputable def x11_of (Ds : gz_S) (Df : gz_R) (V : gz_V) (u1 : gz_N) (u2 : Nat) : Option (Int32) := gz_bd (x1_fact Ds Df V u2 (V u1 0)) (fun r1 => some r1)
theorem c_x11_of {l : Launch} {D : va_G} {aC : Nat → ClassId} {ad : gz_A0} {d : Nat} {Ds : gz_S} {Df : gz_R} {V : gz_V} {u1 : gz_N} {u2 : Nat} {r : Int32} (hu1 : 90 ≤ u1.1 ∧ Ds u1 = some (10, 1)) (hu2 : u2 < 9) (h : x11_of Ds Df V u1 u2 = some r) : gz_Met l yX11_of cX11_of 2 (some .int) (rm_xd (d + 1)) D aC ad (xw_s Ds) V (xw_c Df) [.ref (ad u1), .ref (ad (20, u2, 0))] (gz_F1 (xw_s Ds) (xw_c Df) ad V (some (.int r))) 0 0 := by
  refine gu_ofW (own := RX11) (mn := "of") (lv := [(0, .ref (ad u1)), (1, .ref (ad (20, u2, 0)))]) (by decide) rfl rfl (Nat.le_of_ble_eq_true rfl) rfl ?_
  intro X hX hZ hF
  rw [x11_of] at h
  refine gz_aload_n (q := 1) hX dX11_of_0 rfl rfl ?_
  refine gz_aload_n (q := 0) hX dX11_of_1 rfl rfl ?_
  refine xg_X11_7 hX (xs_dyn hu1) dX11_of_2 ?_
  obtain ⟨r1, e2, h⟩ := gz_bd_o h
  refine gu_fact (k := u2) hX e2 hu2 ⟨by simp only [rm_xd, rm_x1_fact]; omega, by simp only [rm_xd, rm_x1_fact]; omega⟩ dX11_of_5 ?_
  exact gu_iret hX hZ hF rfl rfl (gz_in1 h) dX11_of_10
noncomputable def x12_of (rc : gz_N → Option Int32) (Ds : gz_S) (Df : gz_R) (V : gz_V) (u1 : gz_N) (u2 : Nat) : Option (Int32) := gz_bd (Df u1 0) (fun n1 => gz_bd (rc n1) (fun r3 => gz_bd (Df u1 1) (fun n5 => gz_bd (rc n5) (fun r7 => (if (V u1 2) = 5 then some (r3 &&& r7) else if (V u1 2) = 42 then some (r3 * r7) else if (V u1 2) = 43 then some (r3 + r7) else if (V u1 2) = 45 then some (r3 - r7) else if (V u1 2) = 47 then gz_gd (¬ r7 = 0) (some (r3 / r7)) else if (V u1 2) = 60 then (if r7 ≤ r3 then some 0 else some 1) else if (V u1 2) = 61 then (if r3 = r7 then some 1 else some 0) else if (V u1 2) = 62 then (if r3 ≤ r7 then some 0 else some 1) else some (r3 ||| r7))))))
theorem c_x12_of {l : Launch} {D : va_G} {aC : Nat → ClassId} {ad : gz_A0} {d : Nat} {rc : gz_N → Option Int32} {Ds : gz_S} {Df : gz_R} {V : gz_V} {u1 : gz_N} {u2 : Nat} {r : Int32} (hu1 : 90 ≤ u1.1 ∧ Ds u1 = some (11, 3)) (hu2 : u2 < 9) (hrc : ∀ {l : Launch} {D : va_G} {aC : Nat → ClassId} {ad : gz_A0} {n : gz_N} {r : Int32}, rc n = some r → xd_met l D aC ad Ds Df V u2 (rm_xd d) n r) (h : x12_of rc Ds Df V u1 u2 = some r) : gz_Met l yX12_of cX12_of 4 (some .int) (rm_xd (d + 1)) D aC ad (xw_s Ds) V (xw_c Df) [.ref (ad u1), .ref (ad (20, u2, 0))] (gz_F1 (xw_s Ds) (xw_c Df) ad V (some (.int r))) 0 0 := by
  refine gu_ofW (own := RX12) (mn := "of") (lv := [(0, .ref (ad u1)), (1, .ref (ad (20, u2, 0)))]) (by decide) rfl rfl (Nat.le_of_ble_eq_true rfl) rfl ?_
  intro X hX hZ hF
  rw [x12_of] at h
  refine gz_aload_n (q := 0) hX dX12_of_0 rfl rfl ?_
  obtain ⟨n1, e2, h⟩ := gz_bd_o h
  refine xg_X12_9 (n2 := n1) hX (xs_dyn hu1) ((xr_dyn (hu1).1).trans e2) dX12_of_1 ?_
  refine gz_aload_n (q := 1) hX dX12_of_4 rfl rfl ?_
  obtain ⟨r3, e4, h⟩ := gz_bd_o h
  refine gu_of (k := u2) (n := n1) hX q1130 (hrc e4) ⟨by simp only [rm_xd]; omega, by simp only [rm_xd]; omega⟩ (Nat.le_of_ble_eq_true rfl) dX12_of_5 ?_
  refine gz_istore_n (lv2 := [(2, .int r3), (0, .ref (ad u1)), (1, .ref (ad (20, u2, 0)))]) hX dX12_of_8 rfl (by decide) rfl ?_
  refine gz_aload_n (q := 1) hX dX12_of_9 rfl rfl ?_
  obtain ⟨n5, e6, h⟩ := gz_bd_o h
  refine xg_X12_19 (n2 := n5) hX (xs_dyn hu1) ((xr_dyn (hu1).1).trans e6) dX12_of_10 ?_
  refine gz_aload_n (q := 2) hX dX12_of_13 rfl rfl ?_
  obtain ⟨r7, e8, h⟩ := gz_bd_o h
  refine gu_of (k := u2) (n := n5) hX q1130 (hrc e8) ⟨by simp only [rm_xd]; omega, by simp only [rm_xd]; omega⟩ (Nat.le_of_ble_eq_true rfl) dX12_of_14 ?_
  refine gz_istore_n (lv2 := [(3, .int r7), (2, .int r3), (0, .ref (ad u1)), (1, .ref (ad (20, u2, 0)))]) hX dX12_of_17 rfl (by decide) rfl ?_
  refine gz_aload_n (q := 2) hX dX12_of_18 rfl rfl ?_
  refine xg_X12_15 hX (xs_dyn hu1) dX12_of_19 ?_
  by_cases c9 : (V u1 2) = 5
  · have h := gz_ifp c9 h
    refine gz_look (tgt := 145) (off := 123) hX dX12_of_22 rfl (by rw [c9]; rfl) (by decide) ?_
    refine gz_iload_n (q := 1) hX dX12_of_145 rfl rfl ?_
    refine gz_iload_n (q := 0) hX dX12_of_146 rfl rfl ?_
    refine gz_iand hX dX12_of_147 ?_
    exact gu_iret hX hZ hF rfl rfl (gz_in1 h) dX12_of_148
  · have h := gz_ifn c9 h
    by_cases c10 : (V u1 2) = 42
    · have h := gz_ifp c10 h
      refine gz_look (tgt := 104) (off := 82) hX dX12_of_22 rfl (by rw [c10]; rfl) (by decide) ?_
      refine gz_iload_n (q := 1) hX dX12_of_104 rfl rfl ?_
      refine gz_iload_n (q := 0) hX dX12_of_105 rfl rfl ?_
      refine gz_imul hX dX12_of_106 ?_
      exact gu_iret hX hZ hF rfl rfl (gz_in1 h) dX12_of_107
    · have h := gz_ifn c10 h
      by_cases c11 : (V u1 2) = 43
      · have h := gz_ifp c11 h
        refine gz_look (tgt := 96) (off := 74) hX dX12_of_22 rfl (by rw [c11]; rfl) (by decide) ?_
        refine gz_iload_n (q := 1) hX dX12_of_96 rfl rfl ?_
        refine gz_iload_n (q := 0) hX dX12_of_97 rfl rfl ?_
        refine gz_iadd hX dX12_of_98 ?_
        exact gu_iret hX hZ hF rfl rfl (gz_in1 h) dX12_of_99
      · have h := gz_ifn c11 h
        by_cases c12 : (V u1 2) = 45
        · have h := gz_ifp c12 h
          refine gz_look (tgt := 100) (off := 78) hX dX12_of_22 rfl (by rw [c12]; rfl) (by decide) ?_
          refine gz_iload_n (q := 1) hX dX12_of_100 rfl rfl ?_
          refine gz_iload_n (q := 0) hX dX12_of_101 rfl rfl ?_
          refine gz_isub hX dX12_of_102 ?_
          exact gu_iret hX hZ hF rfl rfl (gz_in1 h) dX12_of_103
        · have h := gz_ifn c12 h
          by_cases c13 : (V u1 2) = 47
          · have h := gz_ifp c13 h
            refine gz_look (tgt := 108) (off := 86) hX dX12_of_22 rfl (by rw [c13]; rfl) (by decide) ?_
            refine gz_iload_n (q := 1) hX dX12_of_108 rfl rfl ?_
            refine gz_iload_n (q := 0) hX dX12_of_109 rfl rfl ?_
            obtain ⟨b14, h⟩ := gz_gd_o h
            refine gz_idiv hX dX12_of_110 b14 ?_
            exact gu_iret hX hZ hF rfl rfl (gz_in1 h) dX12_of_111
          · have h := gz_ifn c13 h
            by_cases c15 : (V u1 2) = 60
            · have h := gz_ifp c15 h
              refine gz_look (tgt := 112) (off := 90) hX dX12_of_22 rfl (by rw [c15]; rfl) (by decide) ?_
              refine gz_iload_n (q := 1) hX dX12_of_112 rfl rfl ?_
              refine gz_iload_n (q := 0) hX dX12_of_113 rfl rfl ?_
              refine gz_icmp_ge (tgt := 121) hX dX12_of_114 (by decide) (fun c16 => ?_) (fun c16 => ?_)
              · have h := gz_ifp c16 h
                refine gz_iconst (v := 0) hX dX12_of_121 gl_c_0 ?_
                exact gu_iret hX hZ hF rfl rfl (gz_in1 h) dX12_of_122
              · have h := gz_ifn c16 h
                refine gz_iconst (v := 1) hX dX12_of_117 gl_c_1 ?_
                refine gz_goto (tgt := 122) hX dX12_of_118 (by decide) ?_
                exact gu_iret hX hZ hF rfl rfl (gz_in1 h) dX12_of_122
            · have h := gz_ifn c15 h
              by_cases c17 : (V u1 2) = 61
              · have h := gz_ifp c17 h
                refine gz_look (tgt := 123) (off := 101) hX dX12_of_22 rfl (by rw [c17]; rfl) (by decide) ?_
                refine gz_iload_n (q := 1) hX dX12_of_123 rfl rfl ?_
                refine gz_iload_n (q := 0) hX dX12_of_124 rfl rfl ?_
                refine gz_icmp_ne (tgt := 132) hX dX12_of_125 (by decide) (fun c18 => ?_) (fun c18 => ?_)
                · have h := gz_ifn c18 h
                  refine gz_iconst (v := 0) hX dX12_of_132 gl_c_0 ?_
                  exact gu_iret hX hZ hF rfl rfl (gz_in1 h) dX12_of_133
                · have h := gz_ifp c18 h
                  refine gz_iconst (v := 1) hX dX12_of_128 gl_c_1 ?_
                  refine gz_goto (tgt := 133) hX dX12_of_129 (by decide) ?_
                  exact gu_iret hX hZ hF rfl rfl (gz_in1 h) dX12_of_133
              · have h := gz_ifn c17 h
                by_cases c19 : (V u1 2) = 62
                · have h := gz_ifp c19 h
                  refine gz_look (tgt := 134) (off := 112) hX dX12_of_22 rfl (by rw [c19]; rfl) (by decide) ?_
                  refine gz_iload_n (q := 1) hX dX12_of_134 rfl rfl ?_
                  refine gz_iload_n (q := 0) hX dX12_of_135 rfl rfl ?_
                  refine gz_icmp_le (tgt := 143) hX dX12_of_136 (by decide) (fun c20 => ?_) (fun c20 => ?_)
                  · have h := gz_ifp c20 h
                    refine gz_iconst (v := 0) hX dX12_of_143 gl_c_0 ?_
                    exact gu_iret hX hZ hF rfl rfl (gz_in1 h) dX12_of_144
                  · have h := gz_ifn c20 h
                    refine gz_iconst (v := 1) hX dX12_of_139 gl_c_1 ?_
                    refine gz_goto (tgt := 144) hX dX12_of_140 (by decide) ?_
                    exact gu_iret hX hZ hF rfl rfl (gz_in1 h) dX12_of_144
                · have h := gz_ifn c19 h
                  refine gz_look (tgt := 149) (off := 127) hX dX12_of_22 rfl (by refine (lv_osw c9 rfl).trans ?_; refine (lv_osw c10 rfl).trans ?_; refine (lv_osw c11 rfl).trans ?_; refine (lv_osw c12 rfl).trans ?_; refine (lv_osw c13 rfl).trans ?_; refine (lv_osw c15 rfl).trans ?_; refine (lv_osw c17 rfl).trans ?_; refine (lv_osw c19 rfl).trans ?_; rfl) (by decide) ?_
                  refine gz_iload_n (q := 1) hX dX12_of_149 rfl rfl ?_
                  refine gz_iload_n (q := 0) hX dX12_of_150 rfl rfl ?_
                  refine gz_ior hX dX12_of_151 ?_
                  exact gu_iret hX hZ hF rfl rfl (gz_in1 h) dX12_of_152
noncomputable def x13_of (rc : gz_N → Option Int32) (Ds : gz_S) (Df : gz_R) (V : gz_V) (u1 : gz_N) (u2 : Nat) : Option (Int32) := gz_bd (Df u1 0) (fun n1 => gz_bd (rc n1) (fun r3 => some (1 - r3)))
theorem c_x13_of {l : Launch} {D : va_G} {aC : Nat → ClassId} {ad : gz_A0} {d : Nat} {rc : gz_N → Option Int32} {Ds : gz_S} {Df : gz_R} {V : gz_V} {u1 : gz_N} {u2 : Nat} {r : Int32} (hu1 : 90 ≤ u1.1 ∧ Ds u1 = some (12, 1)) (hu2 : u2 < 9) (hrc : ∀ {l : Launch} {D : va_G} {aC : Nat → ClassId} {ad : gz_A0} {n : gz_N} {r : Int32}, rc n = some r → xd_met l D aC ad Ds Df V u2 (rm_xd d) n r) (h : x13_of rc Ds Df V u1 u2 = some r) : gz_Met l yX13_of cX13_of 2 (some .int) (rm_xd (d + 1)) D aC ad (xw_s Ds) V (xw_c Df) [.ref (ad u1), .ref (ad (20, u2, 0))] (gz_F1 (xw_s Ds) (xw_c Df) ad V (some (.int r))) 0 0 := by
  refine gu_ofW (own := RX13) (mn := "of") (lv := [(0, .ref (ad u1)), (1, .ref (ad (20, u2, 0)))]) (by decide) rfl rfl (Nat.le_of_ble_eq_true rfl) rfl ?_
  intro X hX hZ hF
  rw [x13_of] at h
  refine gz_iconst (v := 1) hX dX13_of_0 gl_c_1 ?_
  refine gz_aload_n (q := 0) hX dX13_of_1 rfl rfl ?_
  obtain ⟨n1, e2, h⟩ := gz_bd_o h
  refine xg_X13_7 (n2 := n1) hX (xs_dyn hu1) ((xr_dyn (hu1).1).trans e2) dX13_of_2 ?_
  refine gz_aload_n (q := 1) hX dX13_of_5 rfl rfl ?_
  obtain ⟨r3, e4, h⟩ := gz_bd_o h
  refine gu_of (k := u2) (n := n1) hX q1146 (hrc e4) ⟨by simp only [rm_xd]; omega, by simp only [rm_xd]; omega⟩ (Nat.le_of_ble_eq_true rfl) dX13_of_6 ?_
  refine gz_isub hX dX13_of_9 ?_
  exact gu_iret hX hZ hF rfl rfl (gz_in1 h) dX13_of_10
