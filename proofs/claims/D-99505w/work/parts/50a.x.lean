/-! CLASPEDFAIR, walked (static part). Printed by wip/D-99505w/gen/mkx.py -/
set_option maxRecDepth 100000
theorem gl_b_8 : (Int8.ofInt 8).toInt32 = 8 := by decide
theorem gl_b_16 : (Int8.ofInt 16).toInt32 = 16 := by decide
theorem gl_b_63 : (Int8.ofInt 63).toInt32 = 63 := by decide
theorem gl_c_1 : Int32.ofInt 1 = 1 := by decide
theorem gl_c_2 : Int32.ofInt 2 = 2 := by decide
theorem gl_c_4 : Int32.ofInt 4 = 4 := by decide
def rm_j13_bitCount : Room := { frames := 0, cells := 0, slots := 0, locals := 0 }
noncomputable def j13_bitCount (a1 : Int32) : Int32 := gz_let ((a1 - ((a1.toUInt32 >>> ((1 : Int32).toUInt32 &&& Int32.toUInt32 31)).toInt32 &&& 1431655765))) (fun x1 => gz_let (((x1 &&& 858993459) + ((x1.toUInt32 >>> ((2 : Int32).toUInt32 &&& Int32.toUInt32 31)).toInt32 &&& 858993459))) (fun x3 => gz_let (((x3 + (x3.toUInt32 >>> ((4 : Int32).toUInt32 &&& Int32.toUInt32 31)).toInt32) &&& 252645135)) (fun x5 => gz_let ((x5 + (x5.toUInt32 >>> ((8 : Int32).toUInt32 &&& Int32.toUInt32 31)).toInt32)) (fun x7 => gz_let ((x7 + (x7.toUInt32 >>> ((16 : Int32).toUInt32 &&& Int32.toUInt32 31)).toInt32)) (fun x9 => (x9 &&& 63))))))
theorem c_j13_bitCount {l : Launch} {D : va_G} {aC : Nat → ClassId} {ad : gz_A0} {sh : gz_S} {Rf : gz_R} {V : gz_V} {a1 : Int32} {r : Int32} (h : j13_bitCount a1 = r) : gz_Met l yJ13_bitCount cJ13_bitCount 1 (some .int) rm_j13_bitCount D aC ad sh V Rf [.int a1] (gz_F1 sh Rf ad V (some (.int r))) 0 0 := by
  refine gu_ofW (own := RJ13) (mn := "bitCount") (lv := [(0, .int a1)]) (by decide) rfl rfl (Nat.le_of_ble_eq_true rfl) rfl ?_
  intro X hX hZ hF
  rw [j13_bitCount] at h
  refine gz_iload_n (q := 0) hX dJ13_bitCount_0 rfl rfl ?_
  refine gz_iload_n (q := 0) hX dJ13_bitCount_1 rfl rfl ?_
  refine gz_iconst (v := 1) hX dJ13_bitCount_2 gl_c_1 ?_
  refine gz_iushr hX dJ13_bitCount_3 ?_
  refine gz_ldcw (v := 1431655765) hX q1371 dJ13_bitCount_4 ?_
  refine gz_iand hX dJ13_bitCount_7 ?_
  refine gz_isub hX dJ13_bitCount_8 ?_
  obtain ⟨x1, e2, h⟩ := gz_let_o h
  refine gz_nm e2 ?_
  refine gz_istore_n (lv2 := [(0, .int x1)]) hX dJ13_bitCount_9 rfl (by decide) rfl ?_
  refine gz_iload_n (q := 0) hX dJ13_bitCount_10 rfl rfl ?_
  refine gz_ldcw (v := 858993459) hX q1372 dJ13_bitCount_11 ?_
  refine gz_iand hX dJ13_bitCount_14 ?_
  refine gz_iload_n (q := 0) hX dJ13_bitCount_15 rfl rfl ?_
  refine gz_iconst (v := 2) hX dJ13_bitCount_16 gl_c_2 ?_
  refine gz_iushr hX dJ13_bitCount_17 ?_
  refine gz_ldcw (v := 858993459) hX q1372 dJ13_bitCount_18 ?_
  refine gz_iand hX dJ13_bitCount_21 ?_
  refine gz_iadd hX dJ13_bitCount_22 ?_
  obtain ⟨x3, e4, h⟩ := gz_let_o h
  refine gz_nm e4 ?_
  refine gz_istore_n (lv2 := [(0, .int x3)]) hX dJ13_bitCount_23 rfl (by decide) rfl ?_
  refine gz_iload_n (q := 0) hX dJ13_bitCount_24 rfl rfl ?_
  refine gz_iload_n (q := 0) hX dJ13_bitCount_25 rfl rfl ?_
  refine gz_iconst (v := 4) hX dJ13_bitCount_26 gl_c_4 ?_
  refine gz_iushr hX dJ13_bitCount_27 ?_
  refine gz_iadd hX dJ13_bitCount_28 ?_
  refine gz_ldcw (v := 252645135) hX q1373 dJ13_bitCount_29 ?_
  refine gz_iand hX dJ13_bitCount_32 ?_
  obtain ⟨x5, e6, h⟩ := gz_let_o h
  refine gz_nm e6 ?_
  refine gz_istore_n (lv2 := [(0, .int x5)]) hX dJ13_bitCount_33 rfl (by decide) rfl ?_
  refine gz_iload_n (q := 0) hX dJ13_bitCount_34 rfl rfl ?_
  refine gz_iload_n (q := 0) hX dJ13_bitCount_35 rfl rfl ?_
  refine gz_bipush (v := 8) hX dJ13_bitCount_36 gl_b_8 ?_
  refine gz_iushr hX dJ13_bitCount_38 ?_
  refine gz_iadd hX dJ13_bitCount_39 ?_
  obtain ⟨x7, e8, h⟩ := gz_let_o h
  refine gz_nm e8 ?_
  refine gz_istore_n (lv2 := [(0, .int x7)]) hX dJ13_bitCount_40 rfl (by decide) rfl ?_
  refine gz_iload_n (q := 0) hX dJ13_bitCount_41 rfl rfl ?_
  refine gz_iload_n (q := 0) hX dJ13_bitCount_42 rfl rfl ?_
  refine gz_bipush (v := 16) hX dJ13_bitCount_43 gl_b_16 ?_
  refine gz_iushr hX dJ13_bitCount_45 ?_
  refine gz_iadd hX dJ13_bitCount_46 ?_
  obtain ⟨x9, e10, h⟩ := gz_let_o h
  refine gz_nm e10 ?_
  refine gz_istore_n (lv2 := [(0, .int x9)]) hX dJ13_bitCount_47 rfl (by decide) rfl ?_
  refine gz_iload_n (q := 0) hX dJ13_bitCount_48 rfl rfl ?_
  refine gz_bipush (v := 63) hX dJ13_bitCount_49 gl_b_63 ?_
  refine gz_iand hX dJ13_bitCount_51 ?_
  exact gu_iret hX hZ hF rfl rfl h dJ13_bitCount_52
theorem lw_j13_bitCount_ {o : String} {i : Nat} (hl : Cond.methodLink o i yJ13_bitCount ∈ lw_all) : GoodIn lw_all (va_wsS o i yJ13_bitCount (ws_ yJ13_bitCount cJ13_bitCount 1 (some .int))) := lw_S hl q1369 q178 q1370
theorem nn_j13_bitCount : yJ13_bitCount.cls ≠ "java/lang/invoke/MethodHandle" ∧ yJ13_bitCount.cls ≠ "java/lang/invoke/VarHandle" ∧ (parseMethodDescriptor yJ13_bitCount.desc).map (fun d => d.parameters.length) = some 1 := by decide +kernel
theorem gl_b_32 : (Int8.ofInt 32).toInt32 = 32 := by decide
theorem gl_c_m1 : Int32.ofInt (-1) = (-1) := by decide
theorem gl_c_8 : Int32.ofInt 8 = 8 := by decide
theorem gl_c_16 : Int32.ofInt 16 = 16 := by decide
theorem gl_s_256 : (Int16.ofInt 256).toInt32 = 256 := by decide
def rm_j13_numberOfTrailingZeros : Room := { frames := 0, cells := 0, slots := 0, locals := 0 }
noncomputable def j13_numberOfTrailingZeros (a1 : Int32) : Int32 := gz_let (((a1 ^^^ (-1)) &&& (a1 - 1))) (fun x1 => (if 0 < x1 then gz_t2 (if x1 ≤ 65536 then (x1, (1 : Int32)) else gz_let ((x1.toUInt32 >>> ((16 : Int32).toUInt32 &&& Int32.toUInt32 31)).toInt32) (fun x9 => (x9, (1 + 16)))) (fun y4 y5 => gz_t2 (if y4 ≤ 256 then (y4, y5) else gz_let ((y4.toUInt32 >>> ((8 : Int32).toUInt32 &&& Int32.toUInt32 31)).toInt32) (fun x16 => (x16, (y5 + 8)))) (fun y11 y12 => gz_t2 (if y11 ≤ 16 then (y11, y12) else gz_let ((y11.toUInt32 >>> ((4 : Int32).toUInt32 &&& Int32.toUInt32 31)).toInt32) (fun x23 => (x23, (y12 + 4)))) (fun y18 y19 => gz_t2 (if y18 ≤ 4 then (y18, y19) else gz_let ((y18.toUInt32 >>> ((2 : Int32).toUInt32 &&& Int32.toUInt32 31)).toInt32) (fun x30 => (x30, (y19 + 2)))) (fun y25 y26 => (y26 + (y25.toUInt32 >>> ((1 : Int32).toUInt32 &&& Int32.toUInt32 31)).toInt32))))) else (x1 &&& 32)))
theorem c_j13_numberOfTrailingZeros {l : Launch} {D : va_G} {aC : Nat → ClassId} {ad : gz_A0} {sh : gz_S} {Rf : gz_R} {V : gz_V} {a1 : Int32} {r : Int32} (h : j13_numberOfTrailingZeros a1 = r) : gz_Met l yJ13_numberOfTrailingZeros cJ13_numberOfTrailingZeros 2 (some .int) rm_j13_numberOfTrailingZeros D aC ad sh V Rf [.int a1] (gz_F1 sh Rf ad V (some (.int r))) 0 0 := by
  refine gu_ofW (own := RJ13) (mn := "numberOfTrailingZeros") (lv := [(0, .int a1)]) (by decide) rfl rfl (Nat.le_of_ble_eq_true rfl) rfl ?_
  intro X hX hZ hF
  rw [j13_numberOfTrailingZeros] at h
  refine gz_iload_n (q := 0) hX dJ13_numberOfTrailingZeros_0 rfl rfl ?_
  refine gz_iconst (v := (-1)) hX dJ13_numberOfTrailingZeros_1 gl_c_m1 ?_
  refine gz_ixor hX dJ13_numberOfTrailingZeros_2 ?_
  refine gz_iload_n (q := 0) hX dJ13_numberOfTrailingZeros_3 rfl rfl ?_
  refine gz_iconst (v := 1) hX dJ13_numberOfTrailingZeros_4 gl_c_1 ?_
  refine gz_isub hX dJ13_numberOfTrailingZeros_5 ?_
  refine gz_iand hX dJ13_numberOfTrailingZeros_6 ?_
  obtain ⟨x1, e2, h⟩ := gz_let_o h
  refine gz_nm e2 ?_
  refine gz_istore_n (lv2 := [(0, .int x1)]) hX dJ13_numberOfTrailingZeros_7 rfl (by decide) rfl ?_
  refine gz_iload_n (q := 0) hX dJ13_numberOfTrailingZeros_8 rfl rfl ?_
  refine gz_if_gt (tgt := 17) hX dJ13_numberOfTrailingZeros_9 (by decide) (fun c3 => ?_) (fun c3 => ?_)
  · have h := gz_ifp c3 h
    refine gz_iconst (v := 1) hX dJ13_numberOfTrailingZeros_17 gl_c_1 ?_
    refine gz_istore_n (lv2 := [(1, .int 1), (0, .int x1)]) hX dJ13_numberOfTrailingZeros_18 rfl (by decide) rfl ?_
    refine gz_iload_n (q := 1) hX dJ13_numberOfTrailingZeros_19 rfl rfl ?_
    refine gz_ldcw (v := 65536) hX q1347 dJ13_numberOfTrailingZeros_20 ?_
    obtain ⟨y4, y5, g6, h⟩ := gz_t2_o h
    have J7 : gW X 2 sh Rf ad V 0 0 34 [(0, .int y4), (1, .int y5)] [] := by
      refine gz_iload_n (q := 0) hX dJ13_numberOfTrailingZeros_34 rfl rfl ?_
      refine gz_sipush (v := 256) hX dJ13_numberOfTrailingZeros_35 gl_s_256 ?_
      obtain ⟨y11, y12, g13, h⟩ := gz_t2_o h
      have J14 : gW X 2 sh Rf ad V 0 0 49 [(0, .int y11), (1, .int y12)] [] := by
        refine gz_iload_n (q := 0) hX dJ13_numberOfTrailingZeros_49 rfl rfl ?_
        refine gz_bipush (v := 16) hX dJ13_numberOfTrailingZeros_50 gl_b_16 ?_
        obtain ⟨y18, y19, g20, h⟩ := gz_t2_o h
        have J21 : gW X 2 sh Rf ad V 0 0 62 [(0, .int y18), (1, .int y19)] [] := by
          refine gz_iload_n (q := 0) hX dJ13_numberOfTrailingZeros_62 rfl rfl ?_
          refine gz_iconst (v := 4) hX dJ13_numberOfTrailingZeros_63 gl_c_4 ?_
          obtain ⟨y25, y26, g27, h⟩ := gz_t2_o h
          have J28 : gW X 2 sh Rf ad V 0 0 74 [(0, .int y25), (1, .int y26)] [] := by
            refine gz_iload_n (q := 1) hX dJ13_numberOfTrailingZeros_74 rfl rfl ?_
            refine gz_iload_n (q := 0) hX dJ13_numberOfTrailingZeros_75 rfl rfl ?_
            refine gz_iconst (v := 1) hX dJ13_numberOfTrailingZeros_76 gl_c_1 ?_
            refine gz_iushr hX dJ13_numberOfTrailingZeros_77 ?_
            refine gz_iadd hX dJ13_numberOfTrailingZeros_78 ?_
            exact gu_iret hX hZ hF rfl rfl h dJ13_numberOfTrailingZeros_79
          refine gz_icmp_le (tgt := 74) hX dJ13_numberOfTrailingZeros_64 (by decide) (fun c29 => ?_) (fun c29 => ?_)
          · have g27 := gz_ifp c29 g27
            obtain ⟨rfl, rfl⟩ := gz_it2 g27
            exact gz_lv [0, 1] rfl J28
          · have g27 := gz_ifn c29 g27
            refine gz_iinc (q := 1) (lv2 := [(1, .int (y19 + 2)), (0, .int y18)]) hX dJ13_numberOfTrailingZeros_67 rfl gl_c_2 (by decide) rfl ?_
            refine gz_iload_n (q := 1) hX dJ13_numberOfTrailingZeros_70 rfl rfl ?_
            refine gz_iconst (v := 2) hX dJ13_numberOfTrailingZeros_71 gl_c_2 ?_
            refine gz_iushr hX dJ13_numberOfTrailingZeros_72 ?_
            obtain ⟨x30, e31, g27⟩ := gz_let_o g27
            refine gz_nm e31 ?_
            refine gz_istore_n (lv2 := [(0, .int x30), (1, .int (y19 + 2))]) hX dJ13_numberOfTrailingZeros_73 rfl (by decide) rfl ?_
            obtain ⟨rfl, rfl⟩ := gz_it2 g27
            exact gz_lv [0, 1] rfl J28
        refine gz_icmp_le (tgt := 62) hX dJ13_numberOfTrailingZeros_52 (by decide) (fun c22 => ?_) (fun c22 => ?_)
        · have g20 := gz_ifp c22 g20
          obtain ⟨rfl, rfl⟩ := gz_it2 g20
          exact gz_lv [0, 1] rfl J21
        · have g20 := gz_ifn c22 g20
          refine gz_iinc (q := 1) (lv2 := [(1, .int (y12 + 4)), (0, .int y11)]) hX dJ13_numberOfTrailingZeros_55 rfl gl_c_4 (by decide) rfl ?_
          refine gz_iload_n (q := 1) hX dJ13_numberOfTrailingZeros_58 rfl rfl ?_
          refine gz_iconst (v := 4) hX dJ13_numberOfTrailingZeros_59 gl_c_4 ?_
          refine gz_iushr hX dJ13_numberOfTrailingZeros_60 ?_
          obtain ⟨x23, e24, g20⟩ := gz_let_o g20
          refine gz_nm e24 ?_
          refine gz_istore_n (lv2 := [(0, .int x23), (1, .int (y12 + 4))]) hX dJ13_numberOfTrailingZeros_61 rfl (by decide) rfl ?_
          obtain ⟨rfl, rfl⟩ := gz_it2 g20
          exact gz_lv [0, 1] rfl J21
      refine gz_icmp_le (tgt := 49) hX dJ13_numberOfTrailingZeros_38 (by decide) (fun c15 => ?_) (fun c15 => ?_)
      · have g13 := gz_ifp c15 g13
        obtain ⟨rfl, rfl⟩ := gz_it2 g13
        exact gz_lv [0, 1] rfl J14
      · have g13 := gz_ifn c15 g13
        refine gz_iinc (q := 1) (lv2 := [(1, .int (y5 + 8)), (0, .int y4)]) hX dJ13_numberOfTrailingZeros_41 rfl gl_c_8 (by decide) rfl ?_
        refine gz_iload_n (q := 1) hX dJ13_numberOfTrailingZeros_44 rfl rfl ?_
        refine gz_bipush (v := 8) hX dJ13_numberOfTrailingZeros_45 gl_b_8 ?_
        refine gz_iushr hX dJ13_numberOfTrailingZeros_47 ?_
        obtain ⟨x16, e17, g13⟩ := gz_let_o g13
        refine gz_nm e17 ?_
        refine gz_istore_n (lv2 := [(0, .int x16), (1, .int (y5 + 8))]) hX dJ13_numberOfTrailingZeros_48 rfl (by decide) rfl ?_
        obtain ⟨rfl, rfl⟩ := gz_it2 g13
        exact gz_lv [0, 1] rfl J14
    refine gz_icmp_le (tgt := 34) hX dJ13_numberOfTrailingZeros_23 (by decide) (fun c8 => ?_) (fun c8 => ?_)
    · have g6 := gz_ifp c8 g6
      obtain ⟨rfl, rfl⟩ := gz_it2 g6
      exact gz_lv [1, 0] rfl J7
    · have g6 := gz_ifn c8 g6
      refine gz_iinc (q := 0) (lv2 := [(1, .int (1 + 16)), (0, .int x1)]) hX dJ13_numberOfTrailingZeros_26 rfl gl_c_16 (by decide) rfl ?_
      refine gz_iload_n (q := 1) hX dJ13_numberOfTrailingZeros_29 rfl rfl ?_
      refine gz_bipush (v := 16) hX dJ13_numberOfTrailingZeros_30 gl_b_16 ?_
      refine gz_iushr hX dJ13_numberOfTrailingZeros_32 ?_
      obtain ⟨x9, e10, g6⟩ := gz_let_o g6
      refine gz_nm e10 ?_
      refine gz_istore_n (lv2 := [(0, .int x9), (1, .int (1 + 16))]) hX dJ13_numberOfTrailingZeros_33 rfl (by decide) rfl ?_
      obtain ⟨rfl, rfl⟩ := gz_it2 g6
      exact gz_lv [0, 1] rfl J7
  · have h := gz_ifn c3 h
    refine gz_iload_n (q := 0) hX dJ13_numberOfTrailingZeros_12 rfl rfl ?_
    refine gz_bipush (v := 32) hX dJ13_numberOfTrailingZeros_13 gl_b_32 ?_
    refine gz_iand hX dJ13_numberOfTrailingZeros_15 ?_
    exact gu_iret hX hZ hF rfl rfl h dJ13_numberOfTrailingZeros_16
theorem lw_j13_numberOfTrailingZeros_ {o : String} {i : Nat} (hl : Cond.methodLink o i yJ13_numberOfTrailingZeros ∈ lw_all) : GoodIn lw_all (va_wsS o i yJ13_numberOfTrailingZeros (ws_ yJ13_numberOfTrailingZeros cJ13_numberOfTrailingZeros 2 (some .int))) := lw_S hl q1345 q178 q1346
theorem nn_j13_numberOfTrailingZeros : yJ13_numberOfTrailingZeros.cls ≠ "java/lang/invoke/MethodHandle" ∧ yJ13_numberOfTrailingZeros.cls ≠ "java/lang/invoke/VarHandle" ∧ (parseMethodDescriptor yJ13_numberOfTrailingZeros.desc).map (fun d => d.parameters.length) = some 1 := by decide +kernel
def rm_j2_elementData : Room := { frames := 0, cells := 0, slots := 0, locals := 0 }
noncomputable def j2_elementData (Ds : gz_S) (Df : gz_R) (u1 : gz_N) (a1 : Int32) : Option (gz_N) := gz_bd (Df u1 1) (fun n1 => gz_gd (90 ≤ n1.1) (gz_bd (gz_q114 (Ds n1)) (fun L4 => gz_gd (gz_inb a1 L4 = true) (gz_bd (Df n1 a1.toNatClampNeg) (fun n7 => some n7)))))
theorem c_j2_elementData {l : Launch} {D : va_G} {aC : Nat → ClassId} {ad : gz_A0} {Ds : gz_S} {Df : gz_R} {V : gz_V} {u1 : gz_N} {a1 : Int32} {r : gz_N} (hu1 : 90 ≤ u1.1 ∧ Ds u1 = some (18, 3)) (h : j2_elementData Ds Df u1 a1 = some r) : gz_Met l yJ2_elementData cJ2_elementData 2 (some (.object "java/lang/Object")) rm_j2_elementData D aC ad (xw_s Ds) V (xw_c Df) [.ref (ad u1), .int a1] (gz_F1 (xw_s Ds) (xw_c Df) ad V (some (.ref (ad r)))) 0 0 := by
  refine gu_ofW (own := RJ2) (mn := "elementData") (lv := [(0, .ref (ad u1)), (1, .int a1)]) (by decide) rfl rfl (Nat.le_of_ble_eq_true rfl) rfl ?_
  intro X hX hZ hF
  rw [j2_elementData] at h
  refine gz_aload_n (q := 0) hX dJ2_elementData_0 rfl rfl ?_
  obtain ⟨n1, e2, h⟩ := gz_bd_o h
  obtain ⟨b3, h⟩ := gz_gd_o h
  obtain ⟨L4, e5, h⟩ := gz_bd_o h
  refine xg_J2_9 (n2 := n1) hX (xs_dyn hu1) ((xr_dyn (hu1).1).trans e2) dJ2_elementData_1 ?_
  refine gz_iload_n (q := 1) hX dJ2_elementData_4 rfl rfl ?_
  obtain ⟨b6, h⟩ := gz_gd_o h
  obtain ⟨n7, e8, h⟩ := gz_bd_o h
  refine gz_aald (L := L4) (t := 114) (t0 := 7) (ty := (.object "java/lang/Object")) (n2 := n7) hX (by decide) (by decide) (fun _ => rfl) rfl (xs_dyn (And.intro b3 (gz_q114_o e5))) (gz_inb_o b6) ((xr_dyn ((And.intro b3 (gz_q114_o e5))).1).trans e8) dJ2_elementData_5 ?_
  exact gu_aretN hX hZ rfl hF rfl rfl (gz_in1 h) dJ2_elementData_6
theorem lw_j2_elementData_ {o : String} {i : Nat} (hl : Cond.methodLink o i yJ2_elementData ∈ lw_all) : GoodIn lw_all (wsV o i RJ2 yJ2_elementData (ws_ yJ2_elementData cJ2_elementData 2 (some (.object "java/lang/Object")))) := lw_V hl q1117 q1118 q150 q1119
theorem nn_j2_elementData : yJ2_elementData.cls = RJ2 ∧ yJ2_elementData.cls ≠ "java/lang/invoke/MethodHandle" ∧ yJ2_elementData.cls ≠ "java/lang/invoke/VarHandle" ∧ (parseMethodDescriptor yJ2_elementData.desc).map (fun d => d.parameters.length) = some 1 := by decide +kernel
def rm_j4_checkIndex : Room := { frames := 0, cells := 0, slots := 0, locals := 0 }
noncomputable def j4_checkIndex (a1 : Int32) (a2 : Int32) : Option (Int32) := (if a1 < 0 then none else (if a1 < a2 then some a1 else none))
theorem c_j4_checkIndex {l : Launch} {D : va_G} {aC : Nat → ClassId} {ad : gz_A0} {sh : gz_S} {Rf : gz_R} {V : gz_V} {a1 : Int32} {a2 : Int32} {r : Int32} (h : j4_checkIndex a1 a2 = some r) : gz_Met l yJ4_checkIndex cJ4_checkIndex 3 (some .int) rm_j4_checkIndex D aC ad sh V Rf [.int a1, .int a2, .null] (gz_F1 sh Rf ad V (some (.int r))) 0 0 := by
  refine gu_ofW (own := RJ4) (mn := "checkIndex") (lv := [(0, .int a1), (1, .int a2), (2, .null)]) (by decide) rfl rfl (Nat.le_of_ble_eq_true rfl) rfl ?_
  intro X hX hZ hF
  rw [j4_checkIndex] at h
  refine gz_iload_n (q := 0) hX dJ4_checkIndex_0 rfl rfl ?_
  refine gz_if_lt (tgt := 9) hX dJ4_checkIndex_1 (by decide) (fun c1 => ?_) (fun c1 => ?_)
  · have h := gz_ifp c1 h
    refine gz_aload_nN (q := 2) hX dJ4_checkIndex_9 rfl rfl ?_
    refine gz_iload_n (q := 0) hX dJ4_checkIndex_10 rfl rfl ?_
    refine gz_iload_n (q := 1) hX dJ4_checkIndex_11 rfl rfl ?_
    cases h
  · have h := gz_ifn c1 h
    refine gz_iload_n (q := 0) hX dJ4_checkIndex_4 rfl rfl ?_
    refine gz_iload_n (q := 1) hX dJ4_checkIndex_5 rfl rfl ?_
    refine gz_icmp_lt (tgt := 16) hX dJ4_checkIndex_6 (by decide) (fun c2 => ?_) (fun c2 => ?_)
    · have h := gz_ifp c2 h
      refine gz_iload_n (q := 0) hX dJ4_checkIndex_16 rfl rfl ?_
      exact gu_iret hX hZ hF rfl rfl (gz_in1 h) dJ4_checkIndex_17
    · have h := gz_ifn c2 h
      refine gz_aload_nN (q := 2) hX dJ4_checkIndex_9 rfl rfl ?_
      refine gz_iload_n (q := 0) hX dJ4_checkIndex_10 rfl rfl ?_
      refine gz_iload_n (q := 1) hX dJ4_checkIndex_11 rfl rfl ?_
      cases h
theorem lw_j4_checkIndex_ {o : String} {i : Nat} (hl : Cond.methodLink o i yJ4_checkIndex ∈ lw_all) : GoodIn lw_all (va_wsS o i yJ4_checkIndex (ws_ yJ4_checkIndex cJ4_checkIndex 3 (some .int))) := lw_S hl q608 q155 q609
theorem nn_j4_checkIndex : yJ4_checkIndex.cls ≠ "java/lang/invoke/MethodHandle" ∧ yJ4_checkIndex.cls ≠ "java/lang/invoke/VarHandle" ∧ (parseMethodDescriptor yJ4_checkIndex.desc).map (fun d => d.parameters.length) = some 3 := by decide +kernel
def rm_j3_checkIndex : Room := { frames := 1, cells := 0, slots := 0, locals := 22 }
noncomputable def j3_checkIndex (a1 : Int32) (a2 : Int32) : Option (Int32) := gz_bd (j4_checkIndex a1 a2) (fun r1 => some r1)
theorem c_j3_checkIndex {l : Launch} {D : va_G} {aC : Nat → ClassId} {ad : gz_A0} {sh : gz_S} {Rf : gz_R} {V : gz_V} {a1 : Int32} {a2 : Int32} {r : Int32} (h : j3_checkIndex a1 a2 = some r) : gz_Met l yJ3_checkIndex cJ3_checkIndex 2 (some .int) rm_j3_checkIndex D aC ad sh V Rf [.int a1, .int a2] (gz_F1 sh Rf ad V (some (.int r))) 0 0 := by
  refine gu_ofW (own := RJ3) (mn := "checkIndex") (lv := [(0, .int a1), (1, .int a2)]) (by decide) rfl rfl (Nat.le_of_ble_eq_true rfl) rfl ?_
  intro X hX hZ hF
  rw [j3_checkIndex] at h
  refine gz_iload_n (q := 0) hX dJ3_checkIndex_0 rfl rfl ?_
  refine gz_iload_n (q := 1) hX dJ3_checkIndex_1 rfl rfl ?_
  refine gz_null hX dJ3_checkIndex_2 ?_
  obtain ⟨r1, e2, h⟩ := gz_bd_o h
  refine gu_callS (As := [.int a1, .int a2, .null]) hX (c_j4_checkIndex e2) (lw_j4_checkIndex_ q1115) rfl rfl nn_j4_checkIndex ⟨Nat.le_of_ble_eq_true rfl, Nat.le_of_ble_eq_true rfl⟩ ⟨Nat.zero_le _, Nat.zero_le _⟩ rfl rfl (Nat.le_of_ble_eq_true rfl) dJ3_checkIndex_3 rfl ?_
  exact gu_iret hX hZ hF rfl rfl (gz_in1 h) dJ3_checkIndex_6
theorem lw_j3_checkIndex_ {o : String} {i : Nat} (hl : Cond.methodLink o i yJ3_checkIndex ∈ lw_all) : GoodIn lw_all (va_wsS o i yJ3_checkIndex (ws_ yJ3_checkIndex cJ3_checkIndex 2 (some .int))) := lw_S hl q1113 q154 q1114
theorem nn_j3_checkIndex : yJ3_checkIndex.cls ≠ "java/lang/invoke/MethodHandle" ∧ yJ3_checkIndex.cls ≠ "java/lang/invoke/VarHandle" ∧ (parseMethodDescriptor yJ3_checkIndex.desc).map (fun d => d.parameters.length) = some 2 := by decide +kernel
def rm_j2_get : Room := { frames := 2, cells := 0, slots := 0, locals := 43 }
noncomputable def j2_get (Ds : gz_S) (Df : gz_R) (V : gz_V) (u1 : gz_N) (a1 : Int32) : Option (gz_N) := gz_bd (j3_checkIndex a1 (V u1 2)) (fun r1 => gz_bd (j2_elementData Ds Df u1 a1) (fun n3 => some n3))
theorem c_j2_get {l : Launch} {D : va_G} {aC : Nat → ClassId} {ad : gz_A0} {Ds : gz_S} {Df : gz_R} {V : gz_V} {u1 : gz_N} {a1 : Int32} {r : gz_N} (hu1 : 90 ≤ u1.1 ∧ Ds u1 = some (18, 3)) (h : j2_get Ds Df V u1 a1 = some r) : gz_Met l yJ2_get cJ2_get 2 (some (.object "java/lang/Object")) rm_j2_get D aC ad (xw_s Ds) V (xw_c Df) [.ref (ad u1), .int a1] (gz_F1 (xw_s Ds) (xw_c Df) ad V (some (.ref (ad r)))) 0 0 := by
  refine gu_ofW (own := RJ2) (mn := "get") (lv := [(0, .ref (ad u1)), (1, .int a1)]) (by decide) rfl rfl (Nat.le_of_ble_eq_true rfl) rfl ?_
  intro X hX hZ hF
  rw [j2_get] at h
  refine gz_iload_n (q := 1) hX dJ2_get_0 rfl rfl ?_
  refine gz_aload_n (q := 0) hX dJ2_get_1 rfl rfl ?_
  refine xg_J2_48 hX (xs_dyn hu1) dJ2_get_2 ?_
  obtain ⟨r1, e2, h⟩ := gz_bd_o h
  refine gu_callS (As := [.int a1, .int (V u1 2)]) hX (c_j3_checkIndex e2) (lw_j3_checkIndex_ q1112) rfl rfl nn_j3_checkIndex ⟨Nat.le_of_ble_eq_true rfl, Nat.le_of_ble_eq_true rfl⟩ ⟨Nat.zero_le _, Nat.zero_le _⟩ rfl rfl (Nat.le_of_ble_eq_true rfl) dJ2_get_5 rfl ?_
  refine gz_pop hX dJ2_get_8 rfl ?_
  refine gz_aload_n (q := 0) hX dJ2_get_9 rfl rfl ?_
  refine gz_iload_n (q := 1) hX dJ2_get_10 rfl rfl ?_
  obtain ⟨n3, e4, h⟩ := gz_bd_o h
  refine gu_callV (ci := 18) (n := u1) (As := [.int a1]) hX (c_j2_elementData hu1 e4) (lw_j2_elementData_ q1116) rfl rfl nn_j2_elementData ⟨Nat.le_of_ble_eq_true rfl, Nat.le_of_ble_eq_true rfl⟩ ⟨Nat.zero_le _, Nat.zero_le _⟩ (by decide) rfl (xs_dyn hu1) rfl rfl (Nat.le_of_ble_eq_true rfl) dJ2_get_11 rfl ?_
  exact gu_aretN hX hZ rfl hF rfl rfl (gz_in1 h) dJ2_get_14
theorem lw_j2_get_ {o : String} {i : Nat} (hl : Cond.methodLink o i yJ2_get ∈ lw_all) : GoodIn lw_all (wsV o i RJ2 yJ2_get (ws_ yJ2_get cJ2_get 2 (some (.object "java/lang/Object")))) := lw_V hl q1109 q1110 q150 q1111
theorem nn_j2_get : yJ2_get.cls = RJ2 ∧ yJ2_get.cls ≠ "java/lang/invoke/MethodHandle" ∧ yJ2_get.cls ≠ "java/lang/invoke/VarHandle" ∧ (parseMethodDescriptor yJ2_get.desc).map (fun d => d.parameters.length) = some 1 := by decide +kernel
def rm_j2_size : Room := { frames := 0, cells := 0, slots := 0, locals := 0 }
noncomputable def j2_size (V : gz_V) (u1 : gz_N) : Int32 := (V u1 2)
theorem c_j2_size {l : Launch} {D : va_G} {aC : Nat → ClassId} {ad : gz_A0} {Ds : gz_S} {Df : gz_R} {V : gz_V} {u1 : gz_N} {r : Int32} (hu1 : 90 ≤ u1.1 ∧ Ds u1 = some (18, 3)) (h : j2_size V u1 = r) : gz_Met l yJ2_size cJ2_size 1 (some .int) rm_j2_size D aC ad (xw_s Ds) V (xw_c Df) [.ref (ad u1)] (gz_F1 (xw_s Ds) (xw_c Df) ad V (some (.int r))) 0 0 := by
  refine gu_ofW (own := RJ2) (mn := "size") (lv := [(0, .ref (ad u1))]) (by decide) rfl rfl (Nat.le_of_ble_eq_true rfl) rfl ?_
  intro X hX hZ hF
  rw [j2_size] at h
  refine gz_aload_n (q := 0) hX dJ2_size_0 rfl rfl ?_
  refine xg_J2_48 hX (xs_dyn hu1) dJ2_size_1 ?_
  exact gu_iret hX hZ hF rfl rfl h dJ2_size_4
theorem lw_j2_size_ {o : String} {i : Nat} (hl : Cond.methodLink o i yJ2_size ∈ lw_all) : GoodIn lw_all (wsV o i RJ2 yJ2_size (ws_ yJ2_size cJ2_size 1 (some .int))) := lw_V hl q740 q741 q150 q742
theorem nn_j2_size : yJ2_size.cls = RJ2 ∧ yJ2_size.cls ≠ "java/lang/invoke/MethodHandle" ∧ yJ2_size.cls ≠ "java/lang/invoke/VarHandle" ∧ (parseMethodDescriptor yJ2_size.desc).map (fun d => d.parameters.length) = some 0 := by decide +kernel
theorem gl_c_0 : Int32.ofInt 0 = 0 := by decide
def rm_x0_isIn : Room := { frames := 0, cells := 0, slots := 0, locals := 0 }
noncomputable def x0_isIn (a1 : Int32) (a2 : Int32) (a3 : Int32) : Int32 := (if a1 < a2 then 0 else (if a3 < a1 then 0 else 1))
theorem c_x0_isIn {l : Launch} {D : va_G} {aC : Nat → ClassId} {ad : gz_A0} {sh : gz_S} {Rf : gz_R} {V : gz_V} {a1 : Int32} {a2 : Int32} {a3 : Int32} {r : Int32} (h : x0_isIn a1 a2 a3 = r) : gz_Met l yX0_isIn cX0_isIn 3 (some .boolean) rm_x0_isIn D aC ad sh V Rf [.int a1, .int a2, .int a3] (gz_F1 sh Rf ad V (some (.int r))) 0 0 := by
  refine gu_ofW (own := RX0) (mn := "isIn") (lv := [(0, .int a1), (1, .int a2), (2, .int a3)]) (by decide) rfl rfl (Nat.le_of_ble_eq_true rfl) rfl ?_
  intro X hX hZ hF
  rw [x0_isIn] at h
  refine gz_iload_n (q := 0) hX dX0_isIn_0 rfl rfl ?_
  refine gz_iload_n (q := 1) hX dX0_isIn_1 rfl rfl ?_
  refine gz_icmp_lt (tgt := 14) hX dX0_isIn_2 (by decide) (fun c1 => ?_) (fun c1 => ?_)
  · have h := gz_ifp c1 h
    refine gz_iconst (v := 0) hX dX0_isIn_14 gl_c_0 ?_
    exact gu_zret hX hZ rfl hF rfl rfl h dX0_isIn_15
  · have h := gz_ifn c1 h
    refine gz_iload_n (q := 0) hX dX0_isIn_5 rfl rfl ?_
    refine gz_iload_n (q := 2) hX dX0_isIn_6 rfl rfl ?_
    refine gz_icmp_gt (tgt := 14) hX dX0_isIn_7 (by decide) (fun c2 => ?_) (fun c2 => ?_)
    · have h := gz_ifp c2 h
      refine gz_iconst (v := 0) hX dX0_isIn_14 gl_c_0 ?_
      exact gu_zret hX hZ rfl hF rfl rfl h dX0_isIn_15
    · have h := gz_ifn c2 h
      refine gz_iconst (v := 1) hX dX0_isIn_10 gl_c_1 ?_
      refine gz_goto (tgt := 15) hX dX0_isIn_11 (by decide) ?_
      exact gu_zret hX hZ rfl hF rfl rfl h dX0_isIn_15
theorem lw_x0_isIn_ {o : String} {i : Nat} (hl : Cond.methodLink o i yX0_isIn ∈ lw_all) : GoodIn lw_all (va_wsS o i yX0_isIn (ws_ yX0_isIn cX0_isIn 3 (some .boolean))) := lw_S hl q503 q144 q504
theorem nn_x0_isIn : yX0_isIn.cls ≠ "java/lang/invoke/MethodHandle" ∧ yX0_isIn.cls ≠ "java/lang/invoke/VarHandle" ∧ (parseMethodDescriptor yX0_isIn.desc).map (fun d => d.parameters.length) = some 3 := by decide +kernel
theorem b_x0_isIn {a1 : Int32} {a2 : Int32} {a3 : Int32} : x0_isIn a1 a2 a3 = 0 ∨ x0_isIn a1 a2 a3 = 1 := by
  unfold x0_isIn
  try simp only [gz_let]
  repeat' split
  all_goals first | exact Or.inl rfl | exact Or.inr rfl
def rm_x0_isPerson : Room := { frames := 1, cells := 0, slots := 0, locals := 22 }
noncomputable def x0_isPerson (V : gz_V) (a1 : Int32) : Int32 := (x0_isIn a1 0 ((V (20, 0, 0) 13) - 1))
theorem c_x0_isPerson {l : Launch} {D : va_G} {aC : Nat → ClassId} {ad : gz_A0} {Ds : gz_S} {Df : gz_R} {V : gz_V} {a1 : Int32} {r : Int32} (h : x0_isPerson V a1 = r) : gz_Met l yX0_isPerson cX0_isPerson 2 (some .boolean) rm_x0_isPerson D aC ad (xw_s Ds) V (xw_c Df) [.ref (ad (10, 0, 0)), .int a1] (gz_F1 (xw_s Ds) (xw_c Df) ad V (some (.int r))) 0 0 := by
  refine gu_ofW (own := RX0) (mn := "isPerson") (lv := [(0, .ref (ad (10, 0, 0))), (1, .int a1)]) (by decide) rfl rfl (Nat.le_of_ble_eq_true rfl) rfl ?_
  intro X hX hZ hF
  rw [x0_isPerson] at h
  refine gz_iload_n (q := 1) hX dX0_isPerson_0 rfl rfl ?_
  refine gz_iconst (v := 0) hX dX0_isPerson_1 gl_c_0 ?_
  refine gz_aload_n (q := 0) hX dX0_isPerson_2 rfl rfl ?_
  refine xg_X0_20 (n2 := (20, 0, 0)) hX xs_main rfl dX0_isPerson_3 ?_
  refine xg_X0_137 hX (xs_M (by decide)) dX0_isPerson_6 ?_
  refine gz_iconst (v := 1) hX dX0_isPerson_9 gl_c_1 ?_
  refine gz_isub hX dX0_isPerson_10 ?_
  refine gu_callS (As := [.int a1, .int 0, .int ((V (20, 0, 0) 13) - 1)]) hX (c_x0_isIn rfl) (lw_x0_isIn_ q502) rfl rfl nn_x0_isIn ⟨Nat.le_of_ble_eq_true rfl, Nat.le_of_ble_eq_true rfl⟩ ⟨Nat.zero_le _, Nat.zero_le _⟩ rfl rfl (Nat.le_of_ble_eq_true rfl) dX0_isPerson_11 rfl ?_
  exact gu_zret hX hZ (gz_nb b_x0_isIn) hF rfl rfl h dX0_isPerson_14
theorem lw_x0_isPerson_ {o : String} {i : Nat} (hl : Cond.methodLink o i yX0_isPerson ∈ lw_all) : GoodIn lw_all (wsV o i RX0 yX0_isPerson (ws_ yX0_isPerson cX0_isPerson 2 (some .boolean))) := lw_V hl q1061 qs31 q144 q1062
theorem nn_x0_isPerson : yX0_isPerson.cls = RX0 ∧ yX0_isPerson.cls ≠ "java/lang/invoke/MethodHandle" ∧ yX0_isPerson.cls ≠ "java/lang/invoke/VarHandle" ∧ (parseMethodDescriptor yX0_isPerson.desc).map (fun d => d.parameters.length) = some 1 := by decide +kernel
theorem b_x0_isPerson {V : gz_V} {a1 : Int32} : x0_isPerson V a1 = 0 ∨ x0_isPerson V a1 = 1 := by
  unfold x0_isPerson
  try simp only [gz_let]
  repeat' split
  all_goals first | exact Or.inl rfl | exact Or.inr rfl | exact b_x0_isIn
def rm_x0_at : Room := { frames := 0, cells := 0, slots := 0, locals := 0 }
noncomputable def x0_at (a1 : Int32) : Option (Nat) := gz_gd (gz_inb a1 12 = true) (some a1.toNatClampNeg)
theorem c_x0_at {l : Launch} {D : va_G} {aC : Nat → ClassId} {ad : gz_A0} {Ds : gz_S} {Df : gz_R} {V : gz_V} {a1 : Int32} {r : Nat} (h : x0_at a1 = some r) : gz_Met l yX0_at cX0_at 2 (some (.object "ClaspedFair$Person")) rm_x0_at D aC ad (xw_s Ds) V (xw_c Df) [.ref (ad (10, 0, 0)), .int a1] (gz_F1 (xw_s Ds) (xw_c Df) ad V (some (.ref (ad (40, 0, r))))) 0 0 := by
  refine gu_ofW (own := RX0) (mn := "at") (lv := [(0, .ref (ad (10, 0, 0))), (1, .int a1)]) (by decide) rfl rfl (Nat.le_of_ble_eq_true rfl) rfl ?_
  intro X hX hZ hF
  rw [x0_at] at h
  refine gz_aload_n (q := 0) hX dX0_at_0 rfl rfl ?_
  refine xg_X0_20 (n2 := (20, 0, 0)) hX xs_main rfl dX0_at_1 ?_
  refine xg_X0_143 (n2 := (21, 0, 0)) hX (xs_M (by decide)) rfl dX0_at_4 ?_
  refine gz_iload_n (q := 1) hX dX0_at_7 rfl rfl ?_
  obtain ⟨b1, h⟩ := gz_gd_o h
  refine gz_aald (L := 12) (t := 110) (t0 := 3) (ty := (.object "ClaspedFair$Person")) (n2 := (40, 0, a1.toNatClampNeg)) hX (by decide) (by decide) (fun _ => rfl) rfl (xs_PA (by decide)) (gz_inb_o b1) (xr_PA (gz_inb_lt b1)) dX0_at_8 ?_
  exact gu_aret hX hZ rfl hF rfl rfl (congrArg (fun z_ => ad (40, 0, z_)) (gz_in1 h)) dX0_at_9
theorem lw_x0_at_ {o : String} {i : Nat} (hl : Cond.methodLink o i yX0_at ∈ lw_all) : GoodIn lw_all (wsV o i RX0 yX0_at (ws_ yX0_at cX0_at 2 (some (.object "ClaspedFair$Person")))) := lw_V hl q1049 qs30 q144 q1050
theorem nn_x0_at : yX0_at.cls = RX0 ∧ yX0_at.cls ≠ "java/lang/invoke/MethodHandle" ∧ yX0_at.cls ≠ "java/lang/invoke/VarHandle" ∧ (parseMethodDescriptor yX0_at.desc).map (fun d => d.parameters.length) = some 1 := by decide +kernel
theorem b_x0_at {a1 : Int32} {r : Nat} (h : x0_at a1 = some r) : r < 12 := by
  unfold x0_at at h
  obtain ⟨b, h⟩ := gz_gd_o h
  rw [← gz_in1 h]
  exact gz_inb_lt b
theorem gl_c_5 : Int32.ofInt 5 = 5 := by decide
def rm_x4_apart : Room := { frames := 1, cells := 0, slots := 0, locals := 21 }
noncomputable def x4_apart_L4 (N : Nat) (V : gz_V) (u1 : Nat) (u2 : Nat) (u3 : Nat) (u4 : Nat) : Nat → Int32 → Int32 → Option (Int32)
  | 0, _, _ => none
  | n + 1, v2, v3 => (if 5 ≤ v3 then some v2 else gz_gd (gz_inb v3 5 = true) (gz_gd (gz_inb v3 5 = true) (gz_let ((v2 + (gz_abs ((V (41, u1, u2) v3.toNatClampNeg) - (V (41, u3, u4) v3.toNatClampNeg))))) (fun x4 => x4_apart_L4 N V u1 u2 u3 u4 n x4 (v3 + 1)))))
theorem w_x4_apart_L4 {X : gz_X} {ad : gz_A0} {N : Nat} {Ds : gz_S} {Df : gz_R} {V : gz_V} {u1 : Nat} {u2 : Nat} {u3 : Nat} {u4 : Nat} {o2 : Int32} (hX : gz_ok X cX4_apart RX4 "apart" 4 rm_x4_apart (some .int)) (hZ : gz_Z X) (hu1 : u1 < 9) (hu2 : u2 < 12) (hu3 : u3 < 9) (hu4 : u4 < 12) (k : gW X 4 (xw_s Ds) (xw_c Df) ad V 0 0 34 [(2, .int o2)] []) : ∀ (n : Nat) {v2 : Int32} {v3 : Int32}, x4_apart_L4 N V u1 u2 u3 u4 n v2 v3 = some o2 → gW X 4 (xw_s Ds) (xw_c Df) ad V 0 0 4 [(0, .ref (ad (40, u1, u2))), (1, .ref (ad (40, u3, u4))), (2, .int v2), (3, .int v3)] [] := by
  intro n
  induction n with
  | zero => intro v2 v3 h; rw [x4_apart_L4] at h; cases h
  | succ n ih =>
    intro v2 v3 h
    rw [x4_apart_L4] at h
    refine gz_iload_n (q := 3) hX dX4_apart_4 rfl rfl ?_
    refine gz_iconst (v := 5) hX dX4_apart_5 gl_c_5 ?_
    refine gz_icmp_ge (tgt := 34) hX dX4_apart_6 (by decide) (fun c1 => ?_) (fun c1 => ?_)
    · have h := gz_ifp c1 h
      obtain rfl := gz_in1 h
      exact gz_lv [2] rfl k
    · have h := gz_ifn c1 h
      refine gz_iload_n (q := 2) hX dX4_apart_9 rfl rfl ?_
      refine gz_aload_n (q := 0) hX dX4_apart_10 rfl rfl ?_
      refine xg_X4_9 (n2 := (41, u1, u2)) hX (xs_P hu1 hu2) rfl dX4_apart_11 ?_
      refine gz_iload_n (q := 3) hX dX4_apart_14 rfl rfl ?_
      obtain ⟨b2, h⟩ := gz_gd_o h
      refine gz_iald (L := 5) hX (xs_T hu1 hu2) (gz_inb_o b2) dX4_apart_15 ?_
      refine gz_aload_n (q := 1) hX dX4_apart_16 rfl rfl ?_
      refine xg_X4_9 (n2 := (41, u3, u4)) hX (xs_P hu3 hu4) rfl dX4_apart_17 ?_
      refine gz_iload_n (q := 3) hX dX4_apart_20 rfl rfl ?_
      obtain ⟨b3, h⟩ := gz_gd_o h
      refine gz_iald (L := 5) hX (xs_T hu3 hu4) (gz_inb_o b3) dX4_apart_21 ?_
      refine gz_isub hX dX4_apart_22 ?_
      refine gz_mabs hX q1405 q1406 q156 q1407 ⟨Nat.le_of_ble_eq_true rfl, Nat.le_of_ble_eq_true rfl, Nat.zero_le _, Nat.zero_le _⟩ (Nat.le_of_ble_eq_true rfl) dX4_apart_23 ?_
      refine gz_iadd hX dX4_apart_26 ?_
      obtain ⟨x4, e5, h⟩ := gz_let_o h
      refine gz_nm e5 ?_
      refine gz_istore_n (lv2 := [(2, .int x4), (0, .ref (ad (40, u1, u2))), (1, .ref (ad (40, u3, u4))), (3, .int v3)]) hX dX4_apart_27 rfl (by decide) rfl ?_
      refine gz_iinc (q := 3) (lv2 := [(3, .int (v3 + 1)), (2, .int x4), (0, .ref (ad (40, u1, u2))), (1, .ref (ad (40, u3, u4)))]) hX dX4_apart_28 rfl gl_c_1 (by decide) rfl ?_
      refine gz_goto (tgt := 4) hX dX4_apart_31 (by decide) ?_
      exact gz_lv [2, 3, 1, 0] rfl (ih h)
noncomputable def x4_apart (N : Nat) (V : gz_V) (u1 : Nat) (u2 : Nat) (u3 : Nat) (u4 : Nat) : Option (Int32) := gz_bd (x4_apart_L4 N V u1 u2 u3 u4 N 0 0) (fun x1 => some x1)
theorem c_x4_apart {l : Launch} {D : va_G} {aC : Nat → ClassId} {ad : gz_A0} {N : Nat} {Ds : gz_S} {Df : gz_R} {V : gz_V} {u1 : Nat} {u2 : Nat} {u3 : Nat} {u4 : Nat} {r : Int32} (hu1 : u1 < 9) (hu2 : u2 < 12) (hu3 : u3 < 9) (hu4 : u4 < 12) (h : x4_apart N V u1 u2 u3 u4 = some r) : gz_Met l yX4_apart cX4_apart 4 (some .int) rm_x4_apart D aC ad (xw_s Ds) V (xw_c Df) [.ref (ad (40, u1, u2)), .ref (ad (40, u3, u4))] (gz_F1 (xw_s Ds) (xw_c Df) ad V (some (.int r))) 0 0 := by
  refine gu_ofW (own := RX4) (mn := "apart") (lv := [(0, .ref (ad (40, u1, u2))), (1, .ref (ad (40, u3, u4)))]) (by decide) rfl rfl (Nat.le_of_ble_eq_true rfl) rfl ?_
  intro X hX hZ hF
  rw [x4_apart] at h
  refine gz_iconst (v := 0) hX dX4_apart_0 gl_c_0 ?_
  refine gz_istore_n (lv2 := [(2, .int 0), (0, .ref (ad (40, u1, u2))), (1, .ref (ad (40, u3, u4)))]) hX dX4_apart_1 rfl (by decide) rfl ?_
  refine gz_iconst (v := 0) hX dX4_apart_2 gl_c_0 ?_
  refine gz_istore_n (lv2 := [(3, .int 0), (2, .int 0), (0, .ref (ad (40, u1, u2))), (1, .ref (ad (40, u3, u4)))]) hX dX4_apart_3 rfl (by decide) rfl ?_
  obtain ⟨x1, e2, h⟩ := gz_bd_o h
  refine gz_lv [2, 3, 1, 0] rfl (w_x4_apart_L4 hX hZ hu1 hu2 hu3 hu4 ?_ N e2)
  refine gz_iload_n (q := 0) hX dX4_apart_34 rfl rfl ?_
  exact gu_iret hX hZ hF rfl rfl (gz_in1 h) dX4_apart_35
theorem lw_x4_apart_ {o : String} {i : Nat} (hl : Cond.methodLink o i yX4_apart ∈ lw_all) : GoodIn lw_all (wsV o i RX4 yX4_apart (ws_ yX4_apart cX4_apart 4 (some .int))) := lw_V hl q1402 q1403 q151 q1404
theorem nn_x4_apart : yX4_apart.cls = RX4 ∧ yX4_apart.cls ≠ "java/lang/invoke/MethodHandle" ∧ yX4_apart.cls ≠ "java/lang/invoke/VarHandle" ∧ (parseMethodDescriptor yX4_apart.desc).map (fun d => d.parameters.length) = some 1 := by decide +kernel
def rm_x0_alike : Room := { frames := 2, cells := 0, slots := 0, locals := 44 }
noncomputable def x0_alike_L47 (N : Nat) (V : gz_V) (v1 : Int32) : Nat → Int32 → Int32 → Option (Int32)
  | 0, _, _ => none
  | n + 1, v3, v4 => (if (V (20, 0, 0) 13) ≤ v4 then some v3 else gz_bd (if v4 = v1 then some v3 else (if v3 = (-1) then some v4 else gz_bd (x0_at v1) (fun w10 => gz_bd (x0_at v4) (fun w12 => gz_bd (x4_apart N V 0 w10 0 w12) (fun r14 => gz_bd (x0_at v1) (fun w16 => gz_bd (x0_at v3) (fun w18 => gz_bd (x4_apart N V 0 w16 0 w18) (fun r20 => (if r20 ≤ r14 then some v3 else some v4))))))))) (fun y5 => x0_alike_L47 N V v1 n y5 (v4 + 1)))
theorem w_x0_alike_L47 {X : gz_X} {ad : gz_A0} {N : Nat} {Ds : gz_S} {Df : gz_R} {V : gz_V} {v1 : Int32} {o3 : Int32} (hX : gz_ok X cX0_alike RX0 "alike" 5 rm_x0_alike (some .int)) (hZ : gz_Z X) (k : gW X 5 (xw_s Ds) (xw_c Df) ad V 0 0 109 [(3, .int o3)] []) : ∀ (n : Nat) {v3 : Int32} {v4 : Int32}, x0_alike_L47 N V v1 n v3 v4 = some o3 → gW X 5 (xw_s Ds) (xw_c Df) ad V 0 0 47 [(0, .ref (ad (10, 0, 0))), (1, .int v1), (3, .int v3), (4, .int v4)] [] := by
  intro n
  induction n with
  | zero => intro v3 v4 h; rw [x0_alike_L47] at h; cases h
  | succ n ih =>
    intro v3 v4 h
    rw [x0_alike_L47] at h
    refine gz_iload (q := 3) hX dX0_alike_47 rfl ?_
    refine gz_aload_n (q := 0) hX dX0_alike_49 rfl rfl ?_
    refine xg_X0_20 (n2 := (20, 0, 0)) hX xs_main rfl dX0_alike_50 ?_
    refine xg_X0_137 hX (xs_M (by decide)) dX0_alike_53 ?_
    refine gz_icmp_ge (tgt := 109) hX dX0_alike_56 (by decide) (fun c4 => ?_) (fun c4 => ?_)
    · have h := gz_ifp c4 h
      obtain rfl := gz_in1 h
      exact gz_lv [2] rfl k
    · have h := gz_ifn c4 h
      refine gz_iload (q := 3) hX dX0_alike_59 rfl ?_
      refine gz_iload_n (q := 1) hX dX0_alike_61 rfl rfl ?_
      obtain ⟨y5, g6, h⟩ := gz_bd_o h
      have J7 : gW X 5 (xw_s Ds) (xw_c Df) ad V 0 0 103 [(0, .ref (ad (10, 0, 0))), (1, .int v1), (3, .int y5), (4, .int v4)] [] := by
        refine gz_iinc (q := 3) (lv2 := [(4, .int (v4 + 1)), (0, .ref (ad (10, 0, 0))), (1, .int v1), (3, .int y5)]) hX dX0_alike_103 rfl gl_c_1 (by decide) rfl ?_
        refine gz_goto (tgt := 47) hX dX0_alike_106 (by decide) ?_
        exact gz_lv [1, 2, 3, 0] rfl (ih h)
      refine gz_icmp_eq (tgt := 103) hX dX0_alike_62 (by decide) (fun c8 => ?_) (fun c8 => ?_)
      · have g6 := gz_ifp c8 g6
        obtain rfl := gz_in1 g6
        exact gz_lv [0, 1, 2, 3] rfl J7
      · have g6 := gz_ifn c8 g6
        refine gz_iload_n (q := 2) hX dX0_alike_65 rfl rfl ?_
        refine gz_iconst (v := (-1)) hX dX0_alike_66 gl_c_m1 ?_
        refine gz_icmp_eq (tgt := 100) hX dX0_alike_67 (by decide) (fun c9 => ?_) (fun c9 => ?_)
        · have g6 := gz_ifp c9 g6
          refine gz_iload (q := 3) hX dX0_alike_100 rfl ?_
          refine gz_istore_n (lv2 := [(3, .int v4), (0, .ref (ad (10, 0, 0))), (1, .int v1), (4, .int v4)]) hX dX0_alike_102 rfl (by decide) rfl ?_
          obtain rfl := gz_in1 g6
          exact gz_lv [1, 2, 0, 3] rfl J7
        · have g6 := gz_ifn c9 g6
          refine gz_aload_n (q := 0) hX dX0_alike_70 rfl rfl ?_
          refine gz_iload_n (q := 1) hX dX0_alike_71 rfl rfl ?_
          obtain ⟨w10, e11, g6⟩ := gz_bd_o g6
          refine gu_callV (ci := 0) (n := (10, 0, 0)) (As := [.int v1]) hX (c_x0_at e11) (lw_x0_at_ q1047) rfl rfl nn_x0_at ⟨Nat.le_of_ble_eq_true rfl, Nat.le_of_ble_eq_true rfl⟩ ⟨Nat.zero_le _, Nat.zero_le _⟩ (by decide) rfl xs_main rfl rfl (Nat.le_of_ble_eq_true rfl) dX0_alike_72 rfl ?_
          refine gz_aload_n (q := 0) hX dX0_alike_75 rfl rfl ?_
          refine gz_iload (q := 3) hX dX0_alike_76 rfl ?_
          obtain ⟨w12, e13, g6⟩ := gz_bd_o g6
          refine gu_callV (ci := 0) (n := (10, 0, 0)) (As := [.int v4]) hX (c_x0_at e13) (lw_x0_at_ q1047) rfl rfl nn_x0_at ⟨Nat.le_of_ble_eq_true rfl, Nat.le_of_ble_eq_true rfl⟩ ⟨Nat.zero_le _, Nat.zero_le _⟩ (by decide) rfl xs_main rfl rfl (Nat.le_of_ble_eq_true rfl) dX0_alike_78 rfl ?_
          obtain ⟨r14, e15, g6⟩ := gz_bd_o g6
          refine gu_callV (ci := 4) (n := (40, 0, w10)) (As := [.ref (ad (40, 0, w12))]) hX (c_x4_apart (by decide) (b_x0_at e11) (by decide) (b_x0_at e13) e15) (lw_x4_apart_ q1401) rfl rfl nn_x4_apart ⟨Nat.le_of_ble_eq_true rfl, Nat.le_of_ble_eq_true rfl⟩ ⟨Nat.zero_le _, Nat.zero_le _⟩ (by decide) rfl (xs_P (by decide) (b_x0_at e11)) rfl rfl (Nat.le_of_ble_eq_true rfl) dX0_alike_81 rfl ?_
          refine gz_aload_n (q := 0) hX dX0_alike_84 rfl rfl ?_
          refine gz_iload_n (q := 1) hX dX0_alike_85 rfl rfl ?_
          obtain ⟨w16, e17, g6⟩ := gz_bd_o g6
          refine gu_callV (ci := 0) (n := (10, 0, 0)) (As := [.int v1]) hX (c_x0_at e17) (lw_x0_at_ q1047) rfl rfl nn_x0_at ⟨Nat.le_of_ble_eq_true rfl, Nat.le_of_ble_eq_true rfl⟩ ⟨Nat.zero_le _, Nat.zero_le _⟩ (by decide) rfl xs_main rfl rfl (Nat.le_of_ble_eq_true rfl) dX0_alike_86 rfl ?_
          refine gz_aload_n (q := 0) hX dX0_alike_89 rfl rfl ?_
          refine gz_iload_n (q := 2) hX dX0_alike_90 rfl rfl ?_
          obtain ⟨w18, e19, g6⟩ := gz_bd_o g6
          refine gu_callV (ci := 0) (n := (10, 0, 0)) (As := [.int v3]) hX (c_x0_at e19) (lw_x0_at_ q1047) rfl rfl nn_x0_at ⟨Nat.le_of_ble_eq_true rfl, Nat.le_of_ble_eq_true rfl⟩ ⟨Nat.zero_le _, Nat.zero_le _⟩ (by decide) rfl xs_main rfl rfl (Nat.le_of_ble_eq_true rfl) dX0_alike_91 rfl ?_
          obtain ⟨r20, e21, g6⟩ := gz_bd_o g6
          refine gu_callV (ci := 4) (n := (40, 0, w16)) (As := [.ref (ad (40, 0, w18))]) hX (c_x4_apart (by decide) (b_x0_at e17) (by decide) (b_x0_at e19) e21) (lw_x4_apart_ q1401) rfl rfl nn_x4_apart ⟨Nat.le_of_ble_eq_true rfl, Nat.le_of_ble_eq_true rfl⟩ ⟨Nat.zero_le _, Nat.zero_le _⟩ (by decide) rfl (xs_P (by decide) (b_x0_at e17)) rfl rfl (Nat.le_of_ble_eq_true rfl) dX0_alike_94 rfl ?_
          refine gz_icmp_ge (tgt := 103) hX dX0_alike_97 (by decide) (fun c22 => ?_) (fun c22 => ?_)
          · have g6 := gz_ifp c22 g6
            obtain rfl := gz_in1 g6
            exact gz_lv [0, 1, 2, 3] rfl J7
          · have g6 := gz_ifn c22 g6
            refine gz_iload (q := 3) hX dX0_alike_100 rfl ?_
            refine gz_istore_n (lv2 := [(3, .int v4), (0, .ref (ad (10, 0, 0))), (1, .int v1), (4, .int v4)]) hX dX0_alike_102 rfl (by decide) rfl ?_
            obtain rfl := gz_in1 g6
            exact gz_lv [1, 2, 0, 3] rfl J7
noncomputable def x0_alike (N : Nat) (V : gz_V) (a1 : Int32) (a2 : Int32) : Option (Int32) := (if (x0_isPerson V a1) = 0 then some (-1) else (if a2 = (-1) then (if a2 = (-1) then gz_bd (x0_alike_L47 N V a1 N (-1) 0) (fun x4 => some x4) else gz_bd (x0_at a1) (fun w6 => gz_bd (x0_at a2) (fun w8 => gz_bd (x4_apart N V 0 w6 0 w8) (fun r10 => some r10)))) else (if (x0_isPerson V a2) = 0 then some (-1) else (if a2 = (-1) then gz_bd (x0_alike_L47 N V a1 N (-1) 0) (fun x14 => some x14) else gz_bd (x0_at a1) (fun w16 => gz_bd (x0_at a2) (fun w18 => gz_bd (x4_apart N V 0 w16 0 w18) (fun r20 => some r20)))))))
theorem c_x0_alike {l : Launch} {D : va_G} {aC : Nat → ClassId} {ad : gz_A0} {N : Nat} {Ds : gz_S} {Df : gz_R} {V : gz_V} {a1 : Int32} {a2 : Int32} {r : Int32} (h : x0_alike N V a1 a2 = some r) : gz_Met l yX0_alike cX0_alike 5 (some .int) rm_x0_alike D aC ad (xw_s Ds) V (xw_c Df) [.ref (ad (10, 0, 0)), .int a1, .int a2] (gz_F1 (xw_s Ds) (xw_c Df) ad V (some (.int r))) 0 0 := by
  refine gu_ofW (own := RX0) (mn := "alike") (lv := [(0, .ref (ad (10, 0, 0))), (1, .int a1), (2, .int a2)]) (by decide) rfl rfl (Nat.le_of_ble_eq_true rfl) rfl ?_
  intro X hX hZ hF
  rw [x0_alike] at h
  refine gz_aload_n (q := 0) hX dX0_alike_0 rfl rfl ?_
  refine gz_iload_n (q := 1) hX dX0_alike_1 rfl rfl ?_
  refine gu_callV (ci := 0) (n := (10, 0, 0)) (As := [.int a1]) hX (c_x0_isPerson rfl) (lw_x0_isPerson_ q1059) rfl rfl nn_x0_isPerson ⟨Nat.le_of_ble_eq_true rfl, Nat.le_of_ble_eq_true rfl⟩ ⟨Nat.zero_le _, Nat.zero_le _⟩ (by decide) rfl xs_main rfl rfl (Nat.le_of_ble_eq_true rfl) dX0_alike_2 rfl ?_
  refine gz_if_eq (tgt := 21) hX dX0_alike_5 (by decide) (fun c1 => ?_) (fun c1 => ?_)
  · have h := gz_ifp c1 h
    refine gz_iconst (v := (-1)) hX dX0_alike_21 gl_c_m1 ?_
    exact gu_iret hX hZ hF rfl rfl (gz_in1 h) dX0_alike_22
  · have h := gz_ifn c1 h
    refine gz_iload_n (q := 2) hX dX0_alike_8 rfl rfl ?_
    refine gz_iconst (v := (-1)) hX dX0_alike_9 gl_c_m1 ?_
    refine gz_icmp_eq (tgt := 23) hX dX0_alike_10 (by decide) (fun c2 => ?_) (fun c2 => ?_)
    · have h := gz_ifp c2 h
      refine gz_iload_n (q := 2) hX dX0_alike_23 rfl rfl ?_
      refine gz_iconst (v := (-1)) hX dX0_alike_24 gl_c_m1 ?_
      refine gz_icmp_eq (tgt := 42) hX dX0_alike_25 (by decide) (fun c3 => ?_) (fun c3 => ?_)
      · have h := gz_ifp c3 h
        refine gz_iconst (v := (-1)) hX dX0_alike_42 gl_c_m1 ?_
        refine gz_istore_n (lv2 := [(3, .int (-1)), (0, .ref (ad (10, 0, 0))), (1, .int a1), (2, .int a2)]) hX dX0_alike_43 rfl (by decide) rfl ?_
        refine gz_iconst (v := 0) hX dX0_alike_44 gl_c_0 ?_
        refine gz_istore (lv2 := [(4, .int 0), (3, .int (-1)), (0, .ref (ad (10, 0, 0))), (1, .int a1), (2, .int a2)]) hX dX0_alike_45 (by decide) rfl ?_
        obtain ⟨x4, e5, h⟩ := gz_bd_o h
        refine gz_lv [2, 3, 1, 0] rfl (w_x0_alike_L47 hX hZ ?_ N e5)
        refine gz_iload_n (q := 0) hX dX0_alike_109 rfl rfl ?_
        exact gu_iret hX hZ hF rfl rfl (gz_in1 h) dX0_alike_110
      · have h := gz_ifn c3 h
        refine gz_aload_n (q := 0) hX dX0_alike_28 rfl rfl ?_
        refine gz_iload_n (q := 1) hX dX0_alike_29 rfl rfl ?_
        obtain ⟨w6, e7, h⟩ := gz_bd_o h
        refine gu_callV (ci := 0) (n := (10, 0, 0)) (As := [.int a1]) hX (c_x0_at e7) (lw_x0_at_ q1047) rfl rfl nn_x0_at ⟨Nat.le_of_ble_eq_true rfl, Nat.le_of_ble_eq_true rfl⟩ ⟨Nat.zero_le _, Nat.zero_le _⟩ (by decide) rfl xs_main rfl rfl (Nat.le_of_ble_eq_true rfl) dX0_alike_30 rfl ?_
        refine gz_aload_n (q := 0) hX dX0_alike_33 rfl rfl ?_
        refine gz_iload_n (q := 2) hX dX0_alike_34 rfl rfl ?_
        obtain ⟨w8, e9, h⟩ := gz_bd_o h
        refine gu_callV (ci := 0) (n := (10, 0, 0)) (As := [.int a2]) hX (c_x0_at e9) (lw_x0_at_ q1047) rfl rfl nn_x0_at ⟨Nat.le_of_ble_eq_true rfl, Nat.le_of_ble_eq_true rfl⟩ ⟨Nat.zero_le _, Nat.zero_le _⟩ (by decide) rfl xs_main rfl rfl (Nat.le_of_ble_eq_true rfl) dX0_alike_35 rfl ?_
        obtain ⟨r10, e11, h⟩ := gz_bd_o h
        refine gu_callV (ci := 4) (n := (40, 0, w6)) (As := [.ref (ad (40, 0, w8))]) hX (c_x4_apart (by decide) (b_x0_at e7) (by decide) (b_x0_at e9) e11) (lw_x4_apart_ q1401) rfl rfl nn_x4_apart ⟨Nat.le_of_ble_eq_true rfl, Nat.le_of_ble_eq_true rfl⟩ ⟨Nat.zero_le _, Nat.zero_le _⟩ (by decide) rfl (xs_P (by decide) (b_x0_at e7)) rfl rfl (Nat.le_of_ble_eq_true rfl) dX0_alike_38 rfl ?_
        exact gu_iret hX hZ hF rfl rfl (gz_in1 h) dX0_alike_41
    · have h := gz_ifn c2 h
      refine gz_aload_n (q := 0) hX dX0_alike_13 rfl rfl ?_
      refine gz_iload_n (q := 2) hX dX0_alike_14 rfl rfl ?_
      refine gu_callV (ci := 0) (n := (10, 0, 0)) (As := [.int a2]) hX (c_x0_isPerson rfl) (lw_x0_isPerson_ q1059) rfl rfl nn_x0_isPerson ⟨Nat.le_of_ble_eq_true rfl, Nat.le_of_ble_eq_true rfl⟩ ⟨Nat.zero_le _, Nat.zero_le _⟩ (by decide) rfl xs_main rfl rfl (Nat.le_of_ble_eq_true rfl) dX0_alike_15 rfl ?_
      refine gz_if_ne (tgt := 23) hX dX0_alike_18 (by decide) (fun c12 => ?_) (fun c12 => ?_)
      · have h := gz_ifn c12 h
        refine gz_iload_n (q := 2) hX dX0_alike_23 rfl rfl ?_
        refine gz_iconst (v := (-1)) hX dX0_alike_24 gl_c_m1 ?_
        refine gz_icmp_eq (tgt := 42) hX dX0_alike_25 (by decide) (fun c13 => ?_) (fun c13 => ?_)
        · have h := gz_ifp c13 h
          refine gz_iconst (v := (-1)) hX dX0_alike_42 gl_c_m1 ?_
          refine gz_istore_n (lv2 := [(3, .int (-1)), (0, .ref (ad (10, 0, 0))), (1, .int a1), (2, .int a2)]) hX dX0_alike_43 rfl (by decide) rfl ?_
          refine gz_iconst (v := 0) hX dX0_alike_44 gl_c_0 ?_
          refine gz_istore (lv2 := [(4, .int 0), (3, .int (-1)), (0, .ref (ad (10, 0, 0))), (1, .int a1), (2, .int a2)]) hX dX0_alike_45 (by decide) rfl ?_
          obtain ⟨x14, e15, h⟩ := gz_bd_o h
          refine gz_lv [2, 3, 1, 0] rfl (w_x0_alike_L47 hX hZ ?_ N e15)
          refine gz_iload_n (q := 0) hX dX0_alike_109 rfl rfl ?_
          exact gu_iret hX hZ hF rfl rfl (gz_in1 h) dX0_alike_110
        · have h := gz_ifn c13 h
          refine gz_aload_n (q := 0) hX dX0_alike_28 rfl rfl ?_
          refine gz_iload_n (q := 1) hX dX0_alike_29 rfl rfl ?_
          obtain ⟨w16, e17, h⟩ := gz_bd_o h
          refine gu_callV (ci := 0) (n := (10, 0, 0)) (As := [.int a1]) hX (c_x0_at e17) (lw_x0_at_ q1047) rfl rfl nn_x0_at ⟨Nat.le_of_ble_eq_true rfl, Nat.le_of_ble_eq_true rfl⟩ ⟨Nat.zero_le _, Nat.zero_le _⟩ (by decide) rfl xs_main rfl rfl (Nat.le_of_ble_eq_true rfl) dX0_alike_30 rfl ?_
          refine gz_aload_n (q := 0) hX dX0_alike_33 rfl rfl ?_
          refine gz_iload_n (q := 2) hX dX0_alike_34 rfl rfl ?_
          obtain ⟨w18, e19, h⟩ := gz_bd_o h
          refine gu_callV (ci := 0) (n := (10, 0, 0)) (As := [.int a2]) hX (c_x0_at e19) (lw_x0_at_ q1047) rfl rfl nn_x0_at ⟨Nat.le_of_ble_eq_true rfl, Nat.le_of_ble_eq_true rfl⟩ ⟨Nat.zero_le _, Nat.zero_le _⟩ (by decide) rfl xs_main rfl rfl (Nat.le_of_ble_eq_true rfl) dX0_alike_35 rfl ?_
          obtain ⟨r20, e21, h⟩ := gz_bd_o h
          refine gu_callV (ci := 4) (n := (40, 0, w16)) (As := [.ref (ad (40, 0, w18))]) hX (c_x4_apart (by decide) (b_x0_at e17) (by decide) (b_x0_at e19) e21) (lw_x4_apart_ q1401) rfl rfl nn_x4_apart ⟨Nat.le_of_ble_eq_true rfl, Nat.le_of_ble_eq_true rfl⟩ ⟨Nat.zero_le _, Nat.zero_le _⟩ (by decide) rfl (xs_P (by decide) (b_x0_at e17)) rfl rfl (Nat.le_of_ble_eq_true rfl) dX0_alike_38 rfl ?_
          exact gu_iret hX hZ hF rfl rfl (gz_in1 h) dX0_alike_41
      · have h := gz_ifp c12 h
        refine gz_iconst (v := (-1)) hX dX0_alike_21 gl_c_m1 ?_
        exact gu_iret hX hZ hF rfl rfl (gz_in1 h) dX0_alike_22
theorem lw_x0_alike_ {o : String} {i : Nat} (hl : Cond.methodLink o i yX0_alike ∈ lw_all) : GoodIn lw_all (wsV o i RX0 yX0_alike (ws_ yX0_alike cX0_alike 5 (some .int))) := lw_V hl q1398 q1399 q144 q1400
theorem nn_x0_alike : yX0_alike.cls = RX0 ∧ yX0_alike.cls ≠ "java/lang/invoke/MethodHandle" ∧ yX0_alike.cls ≠ "java/lang/invoke/VarHandle" ∧ (parseMethodDescriptor yX0_alike.desc).map (fun d => d.parameters.length) = some 2 := by decide +kernel
theorem gl_b_9 : (Int8.ofInt 9).toInt32 = 9 := by decide
def rm_x0_isGrip : Room := { frames := 1, cells := 0, slots := 0, locals := 22 }
noncomputable def x0_isGrip (a1 : Int32) : Int32 := (x0_isIn a1 1 9)
theorem c_x0_isGrip {l : Launch} {D : va_G} {aC : Nat → ClassId} {ad : gz_A0} {sh : gz_S} {Rf : gz_R} {V : gz_V} {a1 : Int32} {r : Int32} (h : x0_isGrip a1 = r) : gz_Met l yX0_isGrip cX0_isGrip 1 (some .boolean) rm_x0_isGrip D aC ad sh V Rf [.int a1] (gz_F1 sh Rf ad V (some (.int r))) 0 0 := by
  refine gu_ofW (own := RX0) (mn := "isGrip") (lv := [(0, .int a1)]) (by decide) rfl rfl (Nat.le_of_ble_eq_true rfl) rfl ?_
  intro X hX hZ hF
  rw [x0_isGrip] at h
  refine gz_iload_n (q := 0) hX dX0_isGrip_0 rfl rfl ?_
  refine gz_iconst (v := 1) hX dX0_isGrip_1 gl_c_1 ?_
  refine gz_bipush (v := 9) hX dX0_isGrip_2 gl_b_9 ?_
  refine gu_callS (As := [.int a1, .int 1, .int 9]) hX (c_x0_isIn rfl) (lw_x0_isIn_ q502) rfl rfl nn_x0_isIn ⟨Nat.le_of_ble_eq_true rfl, Nat.le_of_ble_eq_true rfl⟩ ⟨Nat.zero_le _, Nat.zero_le _⟩ rfl rfl (Nat.le_of_ble_eq_true rfl) dX0_isGrip_4 rfl ?_
  exact gu_zret hX hZ (gz_nb b_x0_isIn) hF rfl rfl h dX0_isGrip_7
theorem lw_x0_isGrip_ {o : String} {i : Nat} (hl : Cond.methodLink o i yX0_isGrip ∈ lw_all) : GoodIn lw_all (va_wsS o i yX0_isGrip (ws_ yX0_isGrip cX0_isGrip 1 (some .boolean))) := lw_S hl q1085 q144 q1086
theorem nn_x0_isGrip : yX0_isGrip.cls ≠ "java/lang/invoke/MethodHandle" ∧ yX0_isGrip.cls ≠ "java/lang/invoke/VarHandle" ∧ (parseMethodDescriptor yX0_isGrip.desc).map (fun d => d.parameters.length) = some 1 := by decide +kernel
theorem b_x0_isGrip {a1 : Int32} : x0_isGrip a1 = 0 ∨ x0_isGrip a1 = 1 := by
  unfold x0_isGrip
  try simp only [gz_let]
  repeat' split
  all_goals first | exact Or.inl rfl | exact Or.inr rfl | exact b_x0_isIn
def rm_x0_areTwo : Room := { frames := 2, cells := 0, slots := 0, locals := 43 }
noncomputable def x0_areTwo (V : gz_V) (a1 : Int32) (a2 : Int32) (a3 : Int32) : Int32 := (if (x0_isPerson V a1) = 0 then 0 else (if (x0_isPerson V a2) = 0 then 0 else (if a1 = a2 then 0 else (if (x0_isGrip a3) = 0 then 0 else 1))))
theorem c_x0_areTwo {l : Launch} {D : va_G} {aC : Nat → ClassId} {ad : gz_A0} {Ds : gz_S} {Df : gz_R} {V : gz_V} {a1 : Int32} {a2 : Int32} {a3 : Int32} {r : Int32} (h : x0_areTwo V a1 a2 a3 = r) : gz_Met l yX0_areTwo cX0_areTwo 4 (some .boolean) rm_x0_areTwo D aC ad (xw_s Ds) V (xw_c Df) [.ref (ad (10, 0, 0)), .int a1, .int a2, .int a3] (gz_F1 (xw_s Ds) (xw_c Df) ad V (some (.int r))) 0 0 := by
  refine gu_ofW (own := RX0) (mn := "areTwo") (lv := [(0, .ref (ad (10, 0, 0))), (1, .int a1), (2, .int a2), (3, .int a3)]) (by decide) rfl rfl (Nat.le_of_ble_eq_true rfl) rfl ?_
  intro X hX hZ hF
  rw [x0_areTwo] at h
  refine gz_aload_n (q := 0) hX dX0_areTwo_0 rfl rfl ?_
  refine gz_iload_n (q := 1) hX dX0_areTwo_1 rfl rfl ?_
  refine gu_callV (ci := 0) (n := (10, 0, 0)) (As := [.int a1]) hX (c_x0_isPerson rfl) (lw_x0_isPerson_ q1059) rfl rfl nn_x0_isPerson ⟨Nat.le_of_ble_eq_true rfl, Nat.le_of_ble_eq_true rfl⟩ ⟨Nat.zero_le _, Nat.zero_le _⟩ (by decide) rfl xs_main rfl rfl (Nat.le_of_ble_eq_true rfl) dX0_areTwo_2 rfl ?_
  refine gz_if_eq (tgt := 32) hX dX0_areTwo_5 (by decide) (fun c1 => ?_) (fun c1 => ?_)
  · have h := gz_ifp c1 h
    refine gz_iconst (v := 0) hX dX0_areTwo_32 gl_c_0 ?_
    exact gu_zret hX hZ rfl hF rfl rfl h dX0_areTwo_33
  · have h := gz_ifn c1 h
    refine gz_aload_n (q := 0) hX dX0_areTwo_8 rfl rfl ?_
    refine gz_iload_n (q := 2) hX dX0_areTwo_9 rfl rfl ?_
    refine gu_callV (ci := 0) (n := (10, 0, 0)) (As := [.int a2]) hX (c_x0_isPerson rfl) (lw_x0_isPerson_ q1059) rfl rfl nn_x0_isPerson ⟨Nat.le_of_ble_eq_true rfl, Nat.le_of_ble_eq_true rfl⟩ ⟨Nat.zero_le _, Nat.zero_le _⟩ (by decide) rfl xs_main rfl rfl (Nat.le_of_ble_eq_true rfl) dX0_areTwo_10 rfl ?_
    refine gz_if_eq (tgt := 32) hX dX0_areTwo_13 (by decide) (fun c2 => ?_) (fun c2 => ?_)
    · have h := gz_ifp c2 h
      refine gz_iconst (v := 0) hX dX0_areTwo_32 gl_c_0 ?_
      exact gu_zret hX hZ rfl hF rfl rfl h dX0_areTwo_33
    · have h := gz_ifn c2 h
      refine gz_iload_n (q := 1) hX dX0_areTwo_16 rfl rfl ?_
      refine gz_iload_n (q := 2) hX dX0_areTwo_17 rfl rfl ?_
      refine gz_icmp_eq (tgt := 32) hX dX0_areTwo_18 (by decide) (fun c3 => ?_) (fun c3 => ?_)
      · have h := gz_ifp c3 h
        refine gz_iconst (v := 0) hX dX0_areTwo_32 gl_c_0 ?_
        exact gu_zret hX hZ rfl hF rfl rfl h dX0_areTwo_33
      · have h := gz_ifn c3 h
        refine gz_iload_n (q := 3) hX dX0_areTwo_21 rfl rfl ?_
        refine gu_callS (As := [.int a3]) hX (c_x0_isGrip rfl) (lw_x0_isGrip_ q1084) rfl rfl nn_x0_isGrip ⟨Nat.le_of_ble_eq_true rfl, Nat.le_of_ble_eq_true rfl⟩ ⟨Nat.zero_le _, Nat.zero_le _⟩ rfl rfl (Nat.le_of_ble_eq_true rfl) dX0_areTwo_22 rfl ?_
        refine gz_if_eq (tgt := 32) hX dX0_areTwo_25 (by decide) (fun c4 => ?_) (fun c4 => ?_)
        · have h := gz_ifp c4 h
          refine gz_iconst (v := 0) hX dX0_areTwo_32 gl_c_0 ?_
          exact gu_zret hX hZ rfl hF rfl rfl h dX0_areTwo_33
        · have h := gz_ifn c4 h
          refine gz_iconst (v := 1) hX dX0_areTwo_28 gl_c_1 ?_
          refine gz_goto (tgt := 33) hX dX0_areTwo_29 (by decide) ?_
          exact gu_zret hX hZ rfl hF rfl rfl h dX0_areTwo_33
theorem lw_x0_areTwo_ {o : String} {i : Nat} (hl : Cond.methodLink o i yX0_areTwo ∈ lw_all) : GoodIn lw_all (wsV o i RX0 yX0_areTwo (ws_ yX0_areTwo cX0_areTwo 4 (some .boolean))) := lw_V hl q1267 qs42 q144 q1268
theorem nn_x0_areTwo : yX0_areTwo.cls = RX0 ∧ yX0_areTwo.cls ≠ "java/lang/invoke/MethodHandle" ∧ yX0_areTwo.cls ≠ "java/lang/invoke/VarHandle" ∧ (parseMethodDescriptor yX0_areTwo.desc).map (fun d => d.parameters.length) = some 3 := by decide +kernel
theorem b_x0_areTwo {V : gz_V} {a1 : Int32} {a2 : Int32} {a3 : Int32} : x0_areTwo V a1 a2 a3 = 0 ∨ x0_areTwo V a1 a2 a3 = 1 := by
  unfold x0_areTwo
  try simp only [gz_let]
  repeat' split
  all_goals first | exact Or.inl rfl | exact Or.inr rfl | exact b_x0_isPerson | exact b_x0_isPerson | exact b_x0_isGrip
def rm_x0_isHorse : Room := { frames := 1, cells := 0, slots := 0, locals := 22 }
noncomputable def x0_isHorse (V : gz_V) (a1 : Int32) : Int32 := (x0_isIn a1 0 ((V (20, 0, 0) 14) - 1))
theorem c_x0_isHorse {l : Launch} {D : va_G} {aC : Nat → ClassId} {ad : gz_A0} {Ds : gz_S} {Df : gz_R} {V : gz_V} {a1 : Int32} {r : Int32} (h : x0_isHorse V a1 = r) : gz_Met l yX0_isHorse cX0_isHorse 2 (some .boolean) rm_x0_isHorse D aC ad (xw_s Ds) V (xw_c Df) [.ref (ad (10, 0, 0)), .int a1] (gz_F1 (xw_s Ds) (xw_c Df) ad V (some (.int r))) 0 0 := by
  refine gu_ofW (own := RX0) (mn := "isHorse") (lv := [(0, .ref (ad (10, 0, 0))), (1, .int a1)]) (by decide) rfl rfl (Nat.le_of_ble_eq_true rfl) rfl ?_
  intro X hX hZ hF
  rw [x0_isHorse] at h
  refine gz_iload_n (q := 1) hX dX0_isHorse_0 rfl rfl ?_
  refine gz_iconst (v := 0) hX dX0_isHorse_1 gl_c_0 ?_
  refine gz_aload_n (q := 0) hX dX0_isHorse_2 rfl rfl ?_
  refine xg_X0_20 (n2 := (20, 0, 0)) hX xs_main rfl dX0_isHorse_3 ?_
  refine xg_X0_140 hX (xs_M (by decide)) dX0_isHorse_6 ?_
  refine gz_iconst (v := 1) hX dX0_isHorse_9 gl_c_1 ?_
  refine gz_isub hX dX0_isHorse_10 ?_
  refine gu_callS (As := [.int a1, .int 0, .int ((V (20, 0, 0) 14) - 1)]) hX (c_x0_isIn rfl) (lw_x0_isIn_ q502) rfl rfl nn_x0_isIn ⟨Nat.le_of_ble_eq_true rfl, Nat.le_of_ble_eq_true rfl⟩ ⟨Nat.zero_le _, Nat.zero_le _⟩ rfl rfl (Nat.le_of_ble_eq_true rfl) dX0_isHorse_11 rfl ?_
  exact gu_zret hX hZ (gz_nb b_x0_isIn) hF rfl rfl h dX0_isHorse_14
theorem lw_x0_isHorse_ {o : String} {i : Nat} (hl : Cond.methodLink o i yX0_isHorse ∈ lw_all) : GoodIn lw_all (wsV o i RX0 yX0_isHorse (ws_ yX0_isHorse cX0_isHorse 2 (some .boolean))) := lw_V hl q1074 qs33 q144 q1075
theorem nn_x0_isHorse : yX0_isHorse.cls = RX0 ∧ yX0_isHorse.cls ≠ "java/lang/invoke/MethodHandle" ∧ yX0_isHorse.cls ≠ "java/lang/invoke/VarHandle" ∧ (parseMethodDescriptor yX0_isHorse.desc).map (fun d => d.parameters.length) = some 1 := by decide +kernel
theorem b_x0_isHorse {V : gz_V} {a1 : Int32} : x0_isHorse V a1 = 0 ∨ x0_isHorse V a1 = 1 := by
  unfold x0_isHorse
  try simp only [gz_let]
  repeat' split
  all_goals first | exact Or.inl rfl | exact Or.inr rfl | exact b_x0_isIn
theorem gl_s_9999 : (Int16.ofInt 9999).toInt32 = 9999 := by decide
def rm_x0_canTell : Room := { frames := 2, cells := 0, slots := 0, locals := 43 }
noncomputable def x0_canTell (V : gz_V) (a1 : Int32) (a2 : Int32) (a3 : Int32) (a4 : Int32) : Int32 := (if (x0_isPerson V a1) = 0 then 0 else (if (x0_isHorse V a2) = 0 then 0 else (if (x0_isIn a3 0 9999) = 0 then 0 else (if (x0_isGrip a4) = 0 then 0 else 1))))
theorem c_x0_canTell {l : Launch} {D : va_G} {aC : Nat → ClassId} {ad : gz_A0} {Ds : gz_S} {Df : gz_R} {V : gz_V} {a1 : Int32} {a2 : Int32} {a3 : Int32} {a4 : Int32} {r : Int32} (h : x0_canTell V a1 a2 a3 a4 = r) : gz_Met l yX0_canTell cX0_canTell 5 (some .boolean) rm_x0_canTell D aC ad (xw_s Ds) V (xw_c Df) [.ref (ad (10, 0, 0)), .int a1, .int a2, .int a3, .int a4] (gz_F1 (xw_s Ds) (xw_c Df) ad V (some (.int r))) 0 0 := by
  refine gu_ofW (own := RX0) (mn := "canTell") (lv := [(0, .ref (ad (10, 0, 0))), (1, .int a1), (2, .int a2), (3, .int a3), (4, .int a4)]) (by decide) rfl rfl (Nat.le_of_ble_eq_true rfl) rfl ?_
  intro X hX hZ hF
  rw [x0_canTell] at h
  refine gz_aload_n (q := 0) hX dX0_canTell_0 rfl rfl ?_
  refine gz_iload_n (q := 1) hX dX0_canTell_1 rfl rfl ?_
  refine gu_callV (ci := 0) (n := (10, 0, 0)) (As := [.int a1]) hX (c_x0_isPerson rfl) (lw_x0_isPerson_ q1059) rfl rfl nn_x0_isPerson ⟨Nat.le_of_ble_eq_true rfl, Nat.le_of_ble_eq_true rfl⟩ ⟨Nat.zero_le _, Nat.zero_le _⟩ (by decide) rfl xs_main rfl rfl (Nat.le_of_ble_eq_true rfl) dX0_canTell_2 rfl ?_
  refine gz_if_eq (tgt := 39) hX dX0_canTell_5 (by decide) (fun c1 => ?_) (fun c1 => ?_)
  · have h := gz_ifp c1 h
    refine gz_iconst (v := 0) hX dX0_canTell_39 gl_c_0 ?_
    exact gu_zret hX hZ rfl hF rfl rfl h dX0_canTell_40
  · have h := gz_ifn c1 h
    refine gz_aload_n (q := 0) hX dX0_canTell_8 rfl rfl ?_
    refine gz_iload_n (q := 2) hX dX0_canTell_9 rfl rfl ?_
    refine gu_callV (ci := 0) (n := (10, 0, 0)) (As := [.int a2]) hX (c_x0_isHorse rfl) (lw_x0_isHorse_ q1072) rfl rfl nn_x0_isHorse ⟨Nat.le_of_ble_eq_true rfl, Nat.le_of_ble_eq_true rfl⟩ ⟨Nat.zero_le _, Nat.zero_le _⟩ (by decide) rfl xs_main rfl rfl (Nat.le_of_ble_eq_true rfl) dX0_canTell_10 rfl ?_
    refine gz_if_eq (tgt := 39) hX dX0_canTell_13 (by decide) (fun c2 => ?_) (fun c2 => ?_)
    · have h := gz_ifp c2 h
      refine gz_iconst (v := 0) hX dX0_canTell_39 gl_c_0 ?_
      exact gu_zret hX hZ rfl hF rfl rfl h dX0_canTell_40
    · have h := gz_ifn c2 h
      refine gz_iload_n (q := 3) hX dX0_canTell_16 rfl rfl ?_
      refine gz_iconst (v := 0) hX dX0_canTell_17 gl_c_0 ?_
      refine gz_sipush (v := 9999) hX dX0_canTell_18 gl_s_9999 ?_
      refine gu_callS (As := [.int a3, .int 0, .int 9999]) hX (c_x0_isIn rfl) (lw_x0_isIn_ q502) rfl rfl nn_x0_isIn ⟨Nat.le_of_ble_eq_true rfl, Nat.le_of_ble_eq_true rfl⟩ ⟨Nat.zero_le _, Nat.zero_le _⟩ rfl rfl (Nat.le_of_ble_eq_true rfl) dX0_canTell_21 rfl ?_
      refine gz_if_eq (tgt := 39) hX dX0_canTell_24 (by decide) (fun c3 => ?_) (fun c3 => ?_)
      · have h := gz_ifp c3 h
        refine gz_iconst (v := 0) hX dX0_canTell_39 gl_c_0 ?_
        exact gu_zret hX hZ rfl hF rfl rfl h dX0_canTell_40
      · have h := gz_ifn c3 h
        refine gz_iload (q := 4) hX dX0_canTell_27 rfl ?_
        refine gu_callS (As := [.int a4]) hX (c_x0_isGrip rfl) (lw_x0_isGrip_ q1084) rfl rfl nn_x0_isGrip ⟨Nat.le_of_ble_eq_true rfl, Nat.le_of_ble_eq_true rfl⟩ ⟨Nat.zero_le _, Nat.zero_le _⟩ rfl rfl (Nat.le_of_ble_eq_true rfl) dX0_canTell_29 rfl ?_
        refine gz_if_eq (tgt := 39) hX dX0_canTell_32 (by decide) (fun c4 => ?_) (fun c4 => ?_)
        · have h := gz_ifp c4 h
          refine gz_iconst (v := 0) hX dX0_canTell_39 gl_c_0 ?_
          exact gu_zret hX hZ rfl hF rfl rfl h dX0_canTell_40
        · have h := gz_ifn c4 h
          refine gz_iconst (v := 1) hX dX0_canTell_35 gl_c_1 ?_
          refine gz_goto (tgt := 40) hX dX0_canTell_36 (by decide) ?_
          exact gu_zret hX hZ rfl hF rfl rfl h dX0_canTell_40
theorem lw_x0_canTell_ {o : String} {i : Nat} (hl : Cond.methodLink o i yX0_canTell ∈ lw_all) : GoodIn lw_all (wsV o i RX0 yX0_canTell (ws_ yX0_canTell cX0_canTell 5 (some .boolean))) := lw_V hl q1082 qs34 q144 q1083
theorem nn_x0_canTell : yX0_canTell.cls = RX0 ∧ yX0_canTell.cls ≠ "java/lang/invoke/MethodHandle" ∧ yX0_canTell.cls ≠ "java/lang/invoke/VarHandle" ∧ (parseMethodDescriptor yX0_canTell.desc).map (fun d => d.parameters.length) = some 4 := by decide +kernel
theorem b_x0_canTell {V : gz_V} {a1 : Int32} {a2 : Int32} {a3 : Int32} {a4 : Int32} : x0_canTell V a1 a2 a3 a4 = 0 ∨ x0_canTell V a1 a2 a3 a4 = 1 := by
  unfold x0_canTell
  try simp only [gz_let]
  repeat' split
  all_goals first | exact Or.inl rfl | exact Or.inr rfl | exact b_x0_isPerson | exact b_x0_isHorse | exact b_x0_isIn | exact b_x0_isGrip
def rm_x2_begins : Room := { frames := 0, cells := 0, slots := 0, locals := 0 }
noncomputable def x2_begins (V : gz_V) (u1 : Nat) (u2 : Nat) (u3 : Nat) (a1 : Int32) (a2 : Int32) (a3 : Int32) (a4 : Int32) : Option (gz_V) := gz_let (gz_up V (23, u1, 0) 2 a1) (fun V1 => gz_let (gz_up V1 (23, u1, 0) 3 a2) (fun V3 => gz_let (gz_up V3 (23, u1, 0) 4 a3) (fun V5 => gz_let (gz_up V5 (23, u1, 0) 5 a4) (fun V7 => gz_let (gz_up V7 (23, u1, 0) 6 (V7 (42, u2, u3) 1)) (fun V9 => gz_let (gz_up V9 (23, u1, 0) 7 (V9 (42, u2, u3) 2)) (fun V11 => some V11))))))
theorem c_x2_begins {l : Launch} {D : va_G} {aC : Nat → ClassId} {ad : gz_A0} {Ds : gz_S} {Df : gz_R} {V : gz_V} {u1 : Nat} {u2 : Nat} {u3 : Nat} {a1 : Int32} {a2 : Int32} {a3 : Int32} {a4 : Int32} {W1 : gz_V} (hu1 : u1 < 9) (hu2 : u2 < 9) (hu3 : u3 < 10) (h : x2_begins V u1 u2 u3 a1 a2 a3 a4 = some W1) : gz_Met l yX2_begins cX2_begins 6 none rm_x2_begins D aC ad (xw_s Ds) V (xw_c Df) [.ref (ad (23, u1, 0)), .int a1, .int a2, .int a3, .int a4, .ref (ad (42, u2, u3))] (gz_F1 (xw_s Ds) (xw_c Df) ad W1 none) 0 0 := by
  refine gu_ofW (own := RX2) (mn := "begins") (lv := [(0, .ref (ad (23, u1, 0))), (1, .int a1), (2, .int a2), (3, .int a3), (4, .int a4), (5, .ref (ad (42, u2, u3)))]) (by decide) rfl rfl (Nat.le_of_ble_eq_true rfl) rfl ?_
  intro X hX hZ hF
  rw [x2_begins] at h
  refine gz_aload_n (q := 0) hX dX2_begins_0 rfl rfl ?_
  refine gz_iload_n (q := 1) hX dX2_begins_1 rfl rfl ?_
  obtain ⟨V1, e2, h⟩ := gz_let_o h
  refine xp_X2_18 hX (xs_G hu1) (gz_ne0 22 rfl) dX2_begins_2 e2 ?_
  refine gz_aload_n (q := 0) hX dX2_begins_5 rfl rfl ?_
  refine gz_iload_n (q := 2) hX dX2_begins_6 rfl rfl ?_
  obtain ⟨V3, e4, h⟩ := gz_let_o h
  refine xp_X2_22 hX (xs_G hu1) (gz_ne0 22 rfl) dX2_begins_7 e4 ?_
  refine gz_aload_n (q := 0) hX dX2_begins_10 rfl rfl ?_
  refine gz_iload_n (q := 3) hX dX2_begins_11 rfl rfl ?_
  obtain ⟨V5, e6, h⟩ := gz_let_o h
  refine xp_X2_25 hX (xs_G hu1) (gz_ne0 22 rfl) dX2_begins_12 e6 ?_
  refine gz_aload_n (q := 0) hX dX2_begins_15 rfl rfl ?_
  refine gz_iload (q := 4) hX dX2_begins_16 rfl ?_
  obtain ⟨V7, e8, h⟩ := gz_let_o h
  refine xp_X2_28 hX (xs_G hu1) (gz_ne0 22 rfl) dX2_begins_18 e8 ?_
  refine gz_aload_n (q := 0) hX dX2_begins_21 rfl rfl ?_
  refine gz_aload (q := 5) hX dX2_begins_22 rfl ?_
  refine gz_ifnonnull (tgt := 31) hX dX2_begins_24 (by decide) ?_
  refine gz_aload (q := 5) hX dX2_begins_31 rfl ?_
  refine xg_X2_31 hX (xs_H hu2 hu3) dX2_begins_33 ?_
  obtain ⟨V9, e10, h⟩ := gz_let_o h
  refine xp_X2_36 hX (xs_G hu1) (gz_ne0 22 rfl) dX2_begins_36 e10 ?_
  refine gz_aload_n (q := 0) hX dX2_begins_39 rfl rfl ?_
  refine gz_aload (q := 5) hX dX2_begins_40 rfl ?_
  refine gz_ifnonnull (tgt := 49) hX dX2_begins_42 (by decide) ?_
  refine gz_aload (q := 5) hX dX2_begins_49 rfl ?_
  refine xg_X2_37 hX (xs_H hu2 hu3) dX2_begins_51 ?_
  obtain ⟨V11, e12, h⟩ := gz_let_o h
  refine xp_X2_40 hX (xs_G hu1) (gz_ne0 22 rfl) dX2_begins_54 e12 ?_
  exact gu_vret hX hZ hF (gz_in1 h) rfl dX2_begins_57
theorem lw_x2_begins_ {o : String} {i : Nat} (hl : Cond.methodLink o i yX2_begins ∈ lw_all) : GoodIn lw_all (wsV o i RX2 yX2_begins (ws_ yX2_begins cX2_begins 6 none)) := lw_V hl q1096 q1097 q146 q1098
theorem nn_x2_begins : yX2_begins.cls = RX2 ∧ yX2_begins.cls ≠ "java/lang/invoke/MethodHandle" ∧ yX2_begins.cls ≠ "java/lang/invoke/VarHandle" ∧ (parseMethodDescriptor yX2_begins.desc).map (fun d => d.parameters.length) = some 5 := by decide +kernel
def rm_x2_begins_0 : Room := { frames := 0, cells := 0, slots := 0, locals := 0 }
noncomputable def x2_begins_0 (V : gz_V) (u1 : Nat) (a1 : Int32) (a2 : Int32) (a3 : Int32) (a4 : Int32) : Option (gz_V) := gz_let (gz_up V (23, u1, 0) 2 a1) (fun V1 => gz_let (gz_up V1 (23, u1, 0) 3 a2) (fun V3 => gz_let (gz_up V3 (23, u1, 0) 4 a3) (fun V5 => gz_let (gz_up V5 (23, u1, 0) 5 a4) (fun V7 => gz_let (gz_up V7 (23, u1, 0) 6 0) (fun V9 => gz_let (gz_up V9 (23, u1, 0) 7 0) (fun V11 => some V11))))))
theorem c_x2_begins_0 {l : Launch} {D : va_G} {aC : Nat → ClassId} {ad : gz_A0} {Ds : gz_S} {Df : gz_R} {V : gz_V} {u1 : Nat} {a1 : Int32} {a2 : Int32} {a3 : Int32} {a4 : Int32} {W1 : gz_V} (hu1 : u1 < 9) (h : x2_begins_0 V u1 a1 a2 a3 a4 = some W1) : gz_Met l yX2_begins cX2_begins 6 none rm_x2_begins_0 D aC ad (xw_s Ds) V (xw_c Df) [.ref (ad (23, u1, 0)), .int a1, .int a2, .int a3, .int a4, .null] (gz_F1 (xw_s Ds) (xw_c Df) ad W1 none) 0 0 := by
  refine gu_ofW (own := RX2) (mn := "begins") (lv := [(0, .ref (ad (23, u1, 0))), (1, .int a1), (2, .int a2), (3, .int a3), (4, .int a4), (5, .null)]) (by decide) rfl rfl (Nat.le_of_ble_eq_true rfl) rfl ?_
  intro X hX hZ hF
  rw [x2_begins_0] at h
  refine gz_aload_n (q := 0) hX dX2_begins_0 rfl rfl ?_
  refine gz_iload_n (q := 1) hX dX2_begins_1 rfl rfl ?_
  obtain ⟨V1, e2, h⟩ := gz_let_o h
  refine xp_X2_18 hX (xs_G hu1) (gz_ne0 22 rfl) dX2_begins_2 e2 ?_
  refine gz_aload_n (q := 0) hX dX2_begins_5 rfl rfl ?_
  refine gz_iload_n (q := 2) hX dX2_begins_6 rfl rfl ?_
  obtain ⟨V3, e4, h⟩ := gz_let_o h
  refine xp_X2_22 hX (xs_G hu1) (gz_ne0 22 rfl) dX2_begins_7 e4 ?_
  refine gz_aload_n (q := 0) hX dX2_begins_10 rfl rfl ?_
  refine gz_iload_n (q := 3) hX dX2_begins_11 rfl rfl ?_
  obtain ⟨V5, e6, h⟩ := gz_let_o h
  refine xp_X2_25 hX (xs_G hu1) (gz_ne0 22 rfl) dX2_begins_12 e6 ?_
  refine gz_aload_n (q := 0) hX dX2_begins_15 rfl rfl ?_
  refine gz_iload (q := 4) hX dX2_begins_16 rfl ?_
  obtain ⟨V7, e8, h⟩ := gz_let_o h
  refine xp_X2_28 hX (xs_G hu1) (gz_ne0 22 rfl) dX2_begins_18 e8 ?_
  refine gz_aload_n (q := 0) hX dX2_begins_21 rfl rfl ?_
  refine gz_aloadN (q := 5) hX dX2_begins_22 rfl ?_
  refine gz_ifnonnullN hX dX2_begins_24 ?_
  refine gz_iconst (v := 0) hX dX2_begins_27 gl_c_0 ?_
  refine gz_goto (tgt := 36) hX dX2_begins_28 (by decide) ?_
  obtain ⟨V9, e10, h⟩ := gz_let_o h
  refine xp_X2_36 hX (xs_G hu1) (gz_ne0 22 rfl) dX2_begins_36 e10 ?_
  refine gz_aload_n (q := 0) hX dX2_begins_39 rfl rfl ?_
  refine gz_aloadN (q := 5) hX dX2_begins_40 rfl ?_
  refine gz_ifnonnullN hX dX2_begins_42 ?_
  refine gz_iconst (v := 0) hX dX2_begins_45 gl_c_0 ?_
  refine gz_goto (tgt := 54) hX dX2_begins_46 (by decide) ?_
  obtain ⟨V11, e12, h⟩ := gz_let_o h
  refine xp_X2_40 hX (xs_G hu1) (gz_ne0 22 rfl) dX2_begins_54 e12 ?_
  exact gu_vret hX hZ hF (gz_in1 h) rfl dX2_begins_57
theorem lw_x2_begins_0_ {o : String} {i : Nat} (hl : Cond.methodLink o i yX2_begins ∈ lw_all) : GoodIn lw_all (wsV o i RX2 yX2_begins (ws_ yX2_begins cX2_begins 6 none)) := lw_x2_begins_ hl
theorem nn_x2_begins_0 : yX2_begins.cls = RX2 ∧ yX2_begins.cls ≠ "java/lang/invoke/MethodHandle" ∧ yX2_begins.cls ≠ "java/lang/invoke/VarHandle" ∧ (parseMethodDescriptor yX2_begins.desc).map (fun d => d.parameters.length) = some 5 := nn_x2_begins
def rm_x0_bound : Room := { frames := 1, cells := 0, slots := 0, locals := 21 }
noncomputable def x0_bound (a1 : Int32) (a2 : Int32) (a3 : Int32) : Int32 := (gz_max a2 (gz_min a3 a1))
theorem c_x0_bound {l : Launch} {D : va_G} {aC : Nat → ClassId} {ad : gz_A0} {sh : gz_S} {Rf : gz_R} {V : gz_V} {a1 : Int32} {a2 : Int32} {a3 : Int32} {r : Int32} (h : x0_bound a1 a2 a3 = r) : gz_Met l yX0_bound cX0_bound 3 (some .int) rm_x0_bound D aC ad sh V Rf [.int a1, .int a2, .int a3] (gz_F1 sh Rf ad V (some (.int r))) 0 0 := by
  refine gu_ofW (own := RX0) (mn := "bound") (lv := [(0, .int a1), (1, .int a2), (2, .int a3)]) (by decide) rfl rfl (Nat.le_of_ble_eq_true rfl) rfl ?_
  intro X hX hZ hF
  rw [x0_bound] at h
  refine gz_iload_n (q := 1) hX dX0_bound_0 rfl rfl ?_
  refine gz_iload_n (q := 2) hX dX0_bound_1 rfl rfl ?_
  refine gz_iload_n (q := 0) hX dX0_bound_2 rfl rfl ?_
  refine gz_mmin hX q1152 q906 q156 q907 ⟨Nat.le_of_ble_eq_true rfl, Nat.le_of_ble_eq_true rfl, Nat.zero_le _, Nat.zero_le _⟩ (Nat.le_of_ble_eq_true rfl) dX0_bound_3 ?_
  refine gz_mmax hX q1153 q867 q156 q868 ⟨Nat.le_of_ble_eq_true rfl, Nat.le_of_ble_eq_true rfl, Nat.zero_le _, Nat.zero_le _⟩ (Nat.le_of_ble_eq_true rfl) dX0_bound_6 ?_
  exact gu_iret hX hZ hF rfl rfl h dX0_bound_9
theorem lw_x0_bound_ {o : String} {i : Nat} (hl : Cond.methodLink o i yX0_bound ∈ lw_all) : GoodIn lw_all (va_wsS o i yX0_bound (ws_ yX0_bound cX0_bound 3 (some .int))) := lw_S hl q1150 q144 q1151
theorem nn_x0_bound : yX0_bound.cls ≠ "java/lang/invoke/MethodHandle" ∧ yX0_bound.cls ≠ "java/lang/invoke/VarHandle" ∧ (parseMethodDescriptor yX0_bound.desc).map (fun d => d.parameters.length) = some 3 := by decide +kernel
def rm_x3_first : Room := { frames := 0, cells := 0, slots := 0, locals := 0 }
noncomputable def x3_first (V : gz_V) (u1 : Nat) (u2 : Nat) (a1 : Int32) : Option (Int32) := gz_gd (gz_inb a1 (xw_rl u2) = true) (some (V (30 + u2, u1, a1.toNatClampNeg) (0 : Int32).toNatClampNeg))
theorem c_x3_first {l : Launch} {D : va_G} {aC : Nat → ClassId} {ad : gz_A0} {Ds : gz_S} {Df : gz_R} {V : gz_V} {u1 : Nat} {u2 : Nat} {a1 : Int32} {r : Int32} (hu1 : u1 < 9) (hu2 : u2 < 5) (h : x3_first V u1 u2 a1 = some r) : gz_Met l yX3_first cX3_first 2 (some .int) rm_x3_first D aC ad (xw_s Ds) V (xw_c Df) [.ref (ad (27, u1, u2)), .int a1] (gz_F1 (xw_s Ds) (xw_c Df) ad V (some (.int r))) 0 0 := by
  refine gu_ofW (own := RX3) (mn := "first") (lv := [(0, .ref (ad (27, u1, u2))), (1, .int a1)]) (by decide) rfl rfl (Nat.le_of_ble_eq_true rfl) rfl ?_
  intro X hX hZ hF
  rw [x3_first] at h
  refine gz_aload_n (q := 0) hX dX3_first_0 rfl rfl ?_
  refine xg_X3_11 (n2 := (28, u1, u2)) hX (xs_RO hu1 hu2) rfl dX3_first_1 ?_
  refine gz_iload_n (q := 1) hX dX3_first_4 rfl rfl ?_
  obtain ⟨b1, h⟩ := gz_gd_o h
  refine gz_aald (L := (xw_rl u2)) (t := 112) (t0 := 5) (ty := (.array .int)) (n2 := (30 + u2, u1, a1.toNatClampNeg)) hX (by decide) (by decide) (fun _ => rfl) rfl (xs_RA hu1 hu2) (gz_inb_o b1) (xr_RA (gz_inb_lt b1)) dX3_first_5 ?_
  refine gz_iconst (v := 0) hX dX3_first_6 gl_c_0 ?_
  refine gz_iald (L := 2) hX (xs_RR hu1 hu2 (gz_inb_lt b1)) (gz_inb_o (by decide)) dX3_first_7 ?_
  exact gu_iret hX hZ hF rfl rfl (gz_in1 h) dX3_first_8
theorem lw_x3_first_ {o : String} {i : Nat} (hl : Cond.methodLink o i yX3_first ∈ lw_all) : GoodIn lw_all (wsV o i RX3 yX3_first (ws_ yX3_first cX3_first 2 (some .int))) := lw_V hl q1327 q1328 q147 q1329
theorem nn_x3_first : yX3_first.cls = RX3 ∧ yX3_first.cls ≠ "java/lang/invoke/MethodHandle" ∧ yX3_first.cls ≠ "java/lang/invoke/VarHandle" ∧ (parseMethodDescriptor yX3_first.desc).map (fun d => d.parameters.length) = some 1 := by decide +kernel
theorem lw_x0_isWeighed_ {o : String} {i : Nat} (hl : Cond.methodLink o i yX0_isWeighed ∈ lw_all) : GoodIn lw_all (wsV o i RX0 yX0_isWeighed (ws_ yX0_isWeighed cX0_isWeighed 5 (some .boolean))) := lw_V hl q1395 qs49 q144 q1396
theorem nn_x0_isWeighed : yX0_isWeighed.cls = RX0 ∧ yX0_isWeighed.cls ≠ "java/lang/invoke/MethodHandle" ∧ yX0_isWeighed.cls ≠ "java/lang/invoke/VarHandle" ∧ (parseMethodDescriptor yX0_isWeighed.desc).map (fun d => d.parameters.length) = some 3 := by decide +kernel
def rm_x0_isWeighed (d : Nat) : Room := { frames := d + 1, cells := 0, slots := 0, locals := d * 24 + 21 }
noncomputable def x0_isWeighed_B (rc : gz_V → Int32 → Int32 → Int32 → Option (Int32)) (V : gz_V) (a1 : Int32) (a2 : Int32) (a3 : Int32) : Option (Int32) := (if a1 = (V (27, 0, 2) 1) then (if a2 = 0 then some 1 else some 0) else gz_bd (x3_first V 0 2 a1) (fun r2 => gz_bd (rc V (a1 + 1) a2 a3) (fun r4 => (if r4 = 0 then gz_bd (rc V (a1 + 1) (a2 - r2) a3) (fun r7 => (if r7 = 0 then (if a3 = 0 then some 0 else gz_bd (rc V (a1 + 1) (a2 + r2) a3) (fun r11 => (if r11 = 0 then some 0 else some 1))) else some 1)) else some 1))))
theorem c_x0_isWeighed_B {l : Launch} {D : va_G} {aC : Nat → ClassId} {ad : gz_A0} {d : Nat} {rc : gz_V → Int32 → Int32 → Int32 → Option (Int32)} {Ds : gz_S} {Df : gz_R} {V : gz_V} {a1 : Int32} {a2 : Int32} {a3 : Int32} {r : Int32} (hrc : ∀ {l : Launch} {D : va_G} {aC : Nat → ClassId} {ad : gz_A0} {V : gz_V} {a1 : Int32} {a2 : Int32} {a3 : Int32} {r : Int32}, rc V a1 a2 a3 = some r → gz_Met l yX0_isWeighed cX0_isWeighed 5 (some .boolean) (rm_x0_isWeighed d) D aC ad (xw_s Ds) V (xw_c Df) [.ref (ad (10, 0, 0)), .int a1, .int a2, .int a3] (gz_F1 (xw_s Ds) (xw_c Df) ad V (some (.int r))) 0 0) (h : x0_isWeighed_B rc V a1 a2 a3 = some r) : gz_Met l yX0_isWeighed cX0_isWeighed 5 (some .boolean) (rm_x0_isWeighed (d + 1)) D aC ad (xw_s Ds) V (xw_c Df) [.ref (ad (10, 0, 0)), .int a1, .int a2, .int a3] (gz_F1 (xw_s Ds) (xw_c Df) ad V (some (.int r))) 0 0 := by
  refine gu_ofW (own := RX0) (mn := "isWeighed") (lv := [(0, .ref (ad (10, 0, 0))), (1, .int a1), (2, .int a2), (3, .int a3)]) (by decide) rfl rfl (Nat.le_of_ble_eq_true rfl) rfl ?_
  intro X hX hZ hF
  rw [x0_isWeighed_B] at h
  refine gz_iload_n (q := 1) hX dX0_isWeighed_0 rfl rfl ?_
  refine gz_aload_n (q := 0) hX dX0_isWeighed_1 rfl rfl ?_
  refine xg_X0_20 (n2 := (20, 0, 0)) hX xs_main rfl dX0_isWeighed_2 ?_
  refine xg_X0_323 (n2 := (27, 0, 2)) hX (xs_M (by decide)) rfl dX0_isWeighed_5 ?_
  refine xg_X0_280 hX (xs_RO (by decide) (by decide)) dX0_isWeighed_8 ?_
  refine gz_icmp_ne (tgt := 24) hX dX0_isWeighed_11 (by decide) (fun c1 => ?_) (fun c1 => ?_)
  · have h := gz_ifn c1 h
    refine gz_aload_n (q := 0) hX dX0_isWeighed_24 rfl rfl ?_
    refine xg_X0_20 (n2 := (20, 0, 0)) hX xs_main rfl dX0_isWeighed_25 ?_
    refine xg_X0_323 (n2 := (27, 0, 2)) hX (xs_M (by decide)) rfl dX0_isWeighed_28 ?_
    refine gz_iload_n (q := 1) hX dX0_isWeighed_31 rfl rfl ?_
    obtain ⟨r2, e3, h⟩ := gz_bd_o h
    refine gu_callV (ci := 3) (n := (27, 0, 2)) (As := [.int a1]) hX (c_x3_first (by decide) (by decide) e3) (lw_x3_first_ q1326) rfl rfl nn_x3_first ⟨by simp only [rm_x0_isWeighed, rm_x3_first]; omega, by simp only [rm_x0_isWeighed, rm_x3_first]; omega⟩ ⟨Nat.zero_le _, Nat.zero_le _⟩ (by decide) rfl (xs_RO (by decide) (by decide)) rfl rfl (Nat.le_of_ble_eq_true rfl) dX0_isWeighed_32 rfl ?_
    refine gz_istore (lv2 := [(4, .int r2), (0, .ref (ad (10, 0, 0))), (1, .int a1), (2, .int a2), (3, .int a3)]) hX dX0_isWeighed_35 (by decide) rfl ?_
    refine gz_aload_n (q := 1) hX dX0_isWeighed_37 rfl rfl ?_
    refine gz_iload_n (q := 2) hX dX0_isWeighed_38 rfl rfl ?_
    refine gz_iconst (v := 1) hX dX0_isWeighed_39 gl_c_1 ?_
    refine gz_iadd hX dX0_isWeighed_40 ?_
    refine gz_iload_n (q := 3) hX dX0_isWeighed_41 rfl rfl ?_
    refine gz_iload_n (q := 4) hX dX0_isWeighed_42 rfl rfl ?_
    obtain ⟨r4, e5, h⟩ := gz_bd_o h
    refine gu_callV (ci := 0) (n := (10, 0, 0)) (As := [.int (a1 + 1), .int a2, .int a3]) hX (hrc e5) (lw_x0_isWeighed_ q1393) rfl rfl nn_x0_isWeighed ⟨by simp only [rm_x0_isWeighed]; omega, by simp only [rm_x0_isWeighed]; omega⟩ ⟨Nat.zero_le _, Nat.zero_le _⟩ (by decide) rfl xs_main rfl rfl (Nat.le_of_ble_eq_true rfl) dX0_isWeighed_43 rfl ?_
    refine gz_if_ne (tgt := 83) hX dX0_isWeighed_46 (by decide) (fun c6 => ?_) (fun c6 => ?_)
    · have h := gz_ifn c6 h
      refine gz_iconst (v := 1) hX dX0_isWeighed_83 gl_c_1 ?_
      refine gz_goto (tgt := 88) hX dX0_isWeighed_84 (by decide) ?_
      exact gu_zret hX hZ rfl hF rfl rfl (gz_in1 h) dX0_isWeighed_88
    · have h := gz_ifp c6 h
      refine gz_aload_n (q := 1) hX dX0_isWeighed_49 rfl rfl ?_
      refine gz_iload_n (q := 2) hX dX0_isWeighed_50 rfl rfl ?_
      refine gz_iconst (v := 1) hX dX0_isWeighed_51 gl_c_1 ?_
      refine gz_iadd hX dX0_isWeighed_52 ?_
      refine gz_iload_n (q := 3) hX dX0_isWeighed_53 rfl rfl ?_
      refine gz_iload (q := 0) hX dX0_isWeighed_54 rfl ?_
      refine gz_isub hX dX0_isWeighed_56 ?_
      refine gz_iload_n (q := 4) hX dX0_isWeighed_57 rfl rfl ?_
      obtain ⟨r7, e8, h⟩ := gz_bd_o h
      refine gu_callV (ci := 0) (n := (10, 0, 0)) (As := [.int (a1 + 1), .int (a2 - r2), .int a3]) hX (hrc e8) (lw_x0_isWeighed_ q1393) rfl rfl nn_x0_isWeighed ⟨by simp only [rm_x0_isWeighed]; omega, by simp only [rm_x0_isWeighed]; omega⟩ ⟨Nat.zero_le _, Nat.zero_le _⟩ (by decide) rfl xs_main rfl rfl (Nat.le_of_ble_eq_true rfl) dX0_isWeighed_58 rfl ?_
      refine gz_if_ne (tgt := 83) hX dX0_isWeighed_61 (by decide) (fun c9 => ?_) (fun c9 => ?_)
      · have h := gz_ifn c9 h
        refine gz_iconst (v := 1) hX dX0_isWeighed_83 gl_c_1 ?_
        refine gz_goto (tgt := 88) hX dX0_isWeighed_84 (by decide) ?_
        exact gu_zret hX hZ rfl hF rfl rfl (gz_in1 h) dX0_isWeighed_88
      · have h := gz_ifp c9 h
        refine gz_iload_n (q := 4) hX dX0_isWeighed_64 rfl rfl ?_
        refine gz_if_eq (tgt := 87) hX dX0_isWeighed_65 (by decide) (fun c10 => ?_) (fun c10 => ?_)
        · have h := gz_ifp c10 h
          refine gz_iconst (v := 0) hX dX0_isWeighed_87 gl_c_0 ?_
          exact gu_zret hX hZ rfl hF rfl rfl (gz_in1 h) dX0_isWeighed_88
        · have h := gz_ifn c10 h
          refine gz_aload_n (q := 1) hX dX0_isWeighed_68 rfl rfl ?_
          refine gz_iload_n (q := 2) hX dX0_isWeighed_69 rfl rfl ?_
          refine gz_iconst (v := 1) hX dX0_isWeighed_70 gl_c_1 ?_
          refine gz_iadd hX dX0_isWeighed_71 ?_
          refine gz_iload_n (q := 3) hX dX0_isWeighed_72 rfl rfl ?_
          refine gz_iload (q := 0) hX dX0_isWeighed_73 rfl ?_
          refine gz_iadd hX dX0_isWeighed_75 ?_
          refine gz_iload_n (q := 4) hX dX0_isWeighed_76 rfl rfl ?_
          obtain ⟨r11, e12, h⟩ := gz_bd_o h
          refine gu_callV (ci := 0) (n := (10, 0, 0)) (As := [.int (a1 + 1), .int (a2 + r2), .int a3]) hX (hrc e12) (lw_x0_isWeighed_ q1393) rfl rfl nn_x0_isWeighed ⟨by simp only [rm_x0_isWeighed]; omega, by simp only [rm_x0_isWeighed]; omega⟩ ⟨Nat.zero_le _, Nat.zero_le _⟩ (by decide) rfl xs_main rfl rfl (Nat.le_of_ble_eq_true rfl) dX0_isWeighed_77 rfl ?_
          refine gz_if_eq (tgt := 87) hX dX0_isWeighed_80 (by decide) (fun c13 => ?_) (fun c13 => ?_)
          · have h := gz_ifp c13 h
            refine gz_iconst (v := 0) hX dX0_isWeighed_87 gl_c_0 ?_
            exact gu_zret hX hZ rfl hF rfl rfl (gz_in1 h) dX0_isWeighed_88
          · have h := gz_ifn c13 h
            refine gz_iconst (v := 1) hX dX0_isWeighed_83 gl_c_1 ?_
            refine gz_goto (tgt := 88) hX dX0_isWeighed_84 (by decide) ?_
            exact gu_zret hX hZ rfl hF rfl rfl (gz_in1 h) dX0_isWeighed_88
  · have h := gz_ifp c1 h
    refine gz_iload_n (q := 2) hX dX0_isWeighed_14 rfl rfl ?_
    refine gz_if_ne (tgt := 22) hX dX0_isWeighed_15 (by decide) (fun c14 => ?_) (fun c14 => ?_)
    · have h := gz_ifn c14 h
      refine gz_iconst (v := 0) hX dX0_isWeighed_22 gl_c_0 ?_
      exact gu_zret hX hZ rfl hF rfl rfl (gz_in1 h) dX0_isWeighed_23
    · have h := gz_ifp c14 h
      refine gz_iconst (v := 1) hX dX0_isWeighed_18 gl_c_1 ?_
      refine gz_goto (tgt := 23) hX dX0_isWeighed_19 (by decide) ?_
      exact gu_zret hX hZ rfl hF rfl rfl (gz_in1 h) dX0_isWeighed_23
noncomputable def x0_isWeighed : Nat → gz_V → Int32 → Int32 → Int32 → Option (Int32)
  | 0 => fun _ _ _ _ => none
  | d + 1 => x0_isWeighed_B (x0_isWeighed d)
theorem c_x0_isWeighed_d {Ds : gz_S} {Df : gz_R} : ∀ (d : Nat) {l : Launch} {D : va_G} {aC : Nat → ClassId} {ad : gz_A0} {V : gz_V} {a1 : Int32} {a2 : Int32} {a3 : Int32} {r : Int32}, x0_isWeighed d V a1 a2 a3 = some r → gz_Met l yX0_isWeighed cX0_isWeighed 5 (some .boolean) (rm_x0_isWeighed d) D aC ad (xw_s Ds) V (xw_c Df) [.ref (ad (10, 0, 0)), .int a1, .int a2, .int a3] (gz_F1 (xw_s Ds) (xw_c Df) ad V (some (.int r))) 0 0 := by
  intro d
  induction d with
  | zero => intro l D aC ad V a1 a2 a3 r h; cases h
  | succ d ih => intro l D aC ad V a1 a2 a3 r h; exact c_x0_isWeighed_B ih h
theorem c_x0_isWeighed {l : Launch} {D : va_G} {aC : Nat → ClassId} {ad : gz_A0} {Ds : gz_S} {Df : gz_R} {V : gz_V} {a1 : Int32} {a2 : Int32} {a3 : Int32} {r : Int32} (h : x0_isWeighed 7 V a1 a2 a3 = some r) : gz_Met l yX0_isWeighed cX0_isWeighed 5 (some .boolean) (rm_x0_isWeighed 7) D aC ad (xw_s Ds) V (xw_c Df) [.ref (ad (10, 0, 0)), .int a1, .int a2, .int a3] (gz_F1 (xw_s Ds) (xw_c Df) ad V (some (.int r))) 0 0 := c_x0_isWeighed_d 7 h
theorem b_x0_isWeighed : True := trivial
theorem gl_s_1000 : (Int16.ofInt 1000).toInt32 = 1000 := by decide
def rm_x0_balance : Room := { frames := 9, cells := 0, slots := 0, locals := 213 }
noncomputable def x0_balance_L58 (N : Nat) (V : gz_V) : Nat → Int32 → Option (Int32)
  | 0, _ => none
  | n + 1, v3 => gz_bd (x0_isWeighed 7 V 0 (v3 + 1) 1) (fun r4 => (if r4 = 0 then some v3 else x0_balance_L58 N V n (v3 + 1)))
theorem w_x0_balance_L58 {X : gz_X} {ad : gz_A0} {N : Nat} {Ds : gz_S} {Df : gz_R} {V : gz_V} {o3 : Int32} (hX : gz_ok X cX0_balance RX0 "balance" 4 rm_x0_balance (some .int)) (hZ : gz_Z X) (k : gW X 4 (xw_s Ds) (xw_c Df) ad V 0 0 76 [(3, .int o3)] []) : ∀ (n : Nat) {v3 : Int32}, x0_balance_L58 N V n v3 = some o3 → gW X 4 (xw_s Ds) (xw_c Df) ad V 0 0 58 [(0, .ref (ad (10, 0, 0))), (3, .int v3)] [] := by
  intro n
  induction n with
  | zero => intro v3 h; rw [x0_balance_L58] at h; cases h
  | succ n ih =>
    intro v3 h
    rw [x0_balance_L58] at h
    refine gz_aload_n (q := 0) hX dX0_balance_58 rfl rfl ?_
    refine gz_iconst (v := 0) hX dX0_balance_59 gl_c_0 ?_
    refine gz_iload_n (q := 1) hX dX0_balance_60 rfl rfl ?_
    refine gz_iconst (v := 1) hX dX0_balance_61 gl_c_1 ?_
    refine gz_iadd hX dX0_balance_62 ?_
    refine gz_iconst (v := 1) hX dX0_balance_63 gl_c_1 ?_
    obtain ⟨r4, e5, h⟩ := gz_bd_o h
    refine gu_callV (ci := 0) (n := (10, 0, 0)) (As := [.int 0, .int (v3 + 1), .int 1]) hX (c_x0_isWeighed e5) (lw_x0_isWeighed_ q1393) rfl rfl nn_x0_isWeighed ⟨Nat.le_of_ble_eq_true rfl, Nat.le_of_ble_eq_true rfl⟩ ⟨Nat.zero_le _, Nat.zero_le _⟩ (by decide) rfl xs_main rfl rfl (Nat.le_of_ble_eq_true rfl) dX0_balance_64 rfl ?_
    refine gz_if_eq (tgt := 76) hX dX0_balance_67 (by decide) (fun c6 => ?_) (fun c6 => ?_)
    · have h := gz_ifp c6 h
      obtain rfl := gz_in1 h
      exact gz_lv [1] rfl k
    · have h := gz_ifn c6 h
      refine gz_iinc (q := 1) (lv2 := [(3, .int (v3 + 1)), (0, .ref (ad (10, 0, 0)))]) hX dX0_balance_70 rfl gl_c_1 (by decide) rfl ?_
      refine gz_goto (tgt := 58) hX dX0_balance_73 (by decide) ?_
      exact gz_lv [1, 0] rfl (ih h)
noncomputable def x0_balance (N : Nat) (V : gz_V) (a1 : Int32) (a2 : Int32) : Option (Int32) := (if (x0_isIn a2 0 2) = 0 then some (-1) else (if 2 ≤ a2 then (if 2 ≤ a2 then gz_bd (x0_balance_L58 N V N 0) (fun x4 => some x4) else gz_let (if a2 = 0 then (1 : Int32) else (0 : Int32)) (fun y6 => gz_bd (x0_isWeighed 7 V 0 a1 y6) (fun r10 => (if r10 = 0 then some 0 else some 1)))) else (if (x0_isIn a1 0 1000) = 0 then some (-1) else (if 2 ≤ a2 then gz_bd (x0_balance_L58 N V N 0) (fun x15 => some x15) else gz_let (if a2 = 0 then (1 : Int32) else (0 : Int32)) (fun y17 => gz_bd (x0_isWeighed 7 V 0 a1 y17) (fun r21 => (if r21 = 0 then some 0 else some 1)))))))
theorem c_x0_balance {l : Launch} {D : va_G} {aC : Nat → ClassId} {ad : gz_A0} {N : Nat} {Ds : gz_S} {Df : gz_R} {V : gz_V} {a1 : Int32} {a2 : Int32} {r : Int32} (h : x0_balance N V a1 a2 = some r) : gz_Met l yX0_balance cX0_balance 4 (some .int) rm_x0_balance D aC ad (xw_s Ds) V (xw_c Df) [.ref (ad (10, 0, 0)), .int a1, .int a2] (gz_F1 (xw_s Ds) (xw_c Df) ad V (some (.int r))) 0 0 := by
  refine gu_ofW (own := RX0) (mn := "balance") (lv := [(0, .ref (ad (10, 0, 0))), (1, .int a1), (2, .int a2)]) (by decide) rfl rfl (Nat.le_of_ble_eq_true rfl) rfl ?_
  intro X hX hZ hF
  rw [x0_balance] at h
  refine gz_iload_n (q := 2) hX dX0_balance_0 rfl rfl ?_
  refine gz_iconst (v := 0) hX dX0_balance_1 gl_c_0 ?_
  refine gz_iconst (v := 2) hX dX0_balance_2 gl_c_2 ?_
  refine gu_callS (As := [.int a2, .int 0, .int 2]) hX (c_x0_isIn rfl) (lw_x0_isIn_ q502) rfl rfl nn_x0_isIn ⟨Nat.le_of_ble_eq_true rfl, Nat.le_of_ble_eq_true rfl⟩ ⟨Nat.zero_le _, Nat.zero_le _⟩ rfl rfl (Nat.le_of_ble_eq_true rfl) dX0_balance_3 rfl ?_
  refine gz_if_eq (tgt := 25) hX dX0_balance_6 (by decide) (fun c1 => ?_) (fun c1 => ?_)
  · have h := gz_ifp c1 h
    refine gz_iconst (v := (-1)) hX dX0_balance_25 gl_c_m1 ?_
    exact gu_iret hX hZ hF rfl rfl (gz_in1 h) dX0_balance_26
  · have h := gz_ifn c1 h
    refine gz_iload_n (q := 2) hX dX0_balance_9 rfl rfl ?_
    refine gz_iconst (v := 2) hX dX0_balance_10 gl_c_2 ?_
    refine gz_icmp_ge (tgt := 27) hX dX0_balance_11 (by decide) (fun c2 => ?_) (fun c2 => ?_)
    · have h := gz_ifp c2 h
      refine gz_iload_n (q := 2) hX dX0_balance_27 rfl rfl ?_
      refine gz_iconst (v := 2) hX dX0_balance_28 gl_c_2 ?_
      refine gz_icmp_ge (tgt := 56) hX dX0_balance_29 (by decide) (fun c3 => ?_) (fun c3 => ?_)
      · have h := gz_ifp c3 h
        refine gz_iconst (v := 0) hX dX0_balance_56 gl_c_0 ?_
        refine gz_istore_n (lv2 := [(3, .int 0), (0, .ref (ad (10, 0, 0))), (1, .int a1), (2, .int a2)]) hX dX0_balance_57 rfl (by decide) rfl ?_
        obtain ⟨x4, e5, h⟩ := gz_bd_o h
        refine gz_lv [1, 0] rfl (w_x0_balance_L58 hX hZ ?_ N e5)
        refine gz_iload_n (q := 0) hX dX0_balance_76 rfl rfl ?_
        exact gu_iret hX hZ hF rfl rfl (gz_in1 h) dX0_balance_77
      · have h := gz_ifn c3 h
        refine gz_aload_n (q := 0) hX dX0_balance_32 rfl rfl ?_
        refine gz_iconst (v := 0) hX dX0_balance_33 gl_c_0 ?_
        refine gz_iload_n (q := 1) hX dX0_balance_34 rfl rfl ?_
        refine gz_iload_n (q := 2) hX dX0_balance_35 rfl rfl ?_
        obtain ⟨y6, g7, h⟩ := gz_let_o h
        have J8 : gW X 4 (xw_s Ds) (xw_c Df) ad V 0 0 44 [] [.int y6, .int a1, .int 0, .ref (ad (10, 0, 0))] := by
          obtain ⟨r10, e11, h⟩ := gz_bd_o h
          refine gu_callV (ci := 0) (n := (10, 0, 0)) (As := [.int 0, .int a1, .int y6]) hX (c_x0_isWeighed e11) (lw_x0_isWeighed_ q1393) rfl rfl nn_x0_isWeighed ⟨Nat.le_of_ble_eq_true rfl, Nat.le_of_ble_eq_true rfl⟩ ⟨Nat.zero_le _, Nat.zero_le _⟩ (by decide) rfl xs_main rfl rfl (Nat.le_of_ble_eq_true rfl) dX0_balance_44 rfl ?_
          refine gz_if_eq (tgt := 54) hX dX0_balance_47 (by decide) (fun c12 => ?_) (fun c12 => ?_)
          · have h := gz_ifp c12 h
            refine gz_iconst (v := 0) hX dX0_balance_54 gl_c_0 ?_
            exact gu_iret hX hZ hF rfl rfl (gz_in1 h) dX0_balance_55
          · have h := gz_ifn c12 h
            refine gz_iconst (v := 1) hX dX0_balance_50 gl_c_1 ?_
            refine gz_goto (tgt := 55) hX dX0_balance_51 (by decide) ?_
            exact gu_iret hX hZ hF rfl rfl (gz_in1 h) dX0_balance_55
        refine gz_if_ne (tgt := 43) hX dX0_balance_36 (by decide) (fun c9 => ?_) (fun c9 => ?_)
        · have g7 := gz_ifn c9 g7
          refine gz_iconst (v := 0) hX dX0_balance_43 gl_c_0 ?_
          obtain rfl := g7
          exact gz_lv [] rfl J8
        · have g7 := gz_ifp c9 g7
          refine gz_iconst (v := 1) hX dX0_balance_39 gl_c_1 ?_
          refine gz_goto (tgt := 44) hX dX0_balance_40 (by decide) ?_
          obtain rfl := g7
          exact gz_lv [] rfl J8
    · have h := gz_ifn c2 h
      refine gz_iload_n (q := 1) hX dX0_balance_14 rfl rfl ?_
      refine gz_iconst (v := 0) hX dX0_balance_15 gl_c_0 ?_
      refine gz_sipush (v := 1000) hX dX0_balance_16 gl_s_1000 ?_
      refine gu_callS (As := [.int a1, .int 0, .int 1000]) hX (c_x0_isIn rfl) (lw_x0_isIn_ q502) rfl rfl nn_x0_isIn ⟨Nat.le_of_ble_eq_true rfl, Nat.le_of_ble_eq_true rfl⟩ ⟨Nat.zero_le _, Nat.zero_le _⟩ rfl rfl (Nat.le_of_ble_eq_true rfl) dX0_balance_19 rfl ?_
      refine gz_if_ne (tgt := 27) hX dX0_balance_22 (by decide) (fun c13 => ?_) (fun c13 => ?_)
      · have h := gz_ifn c13 h
        refine gz_iload_n (q := 2) hX dX0_balance_27 rfl rfl ?_
        refine gz_iconst (v := 2) hX dX0_balance_28 gl_c_2 ?_
        refine gz_icmp_ge (tgt := 56) hX dX0_balance_29 (by decide) (fun c14 => ?_) (fun c14 => ?_)
        · have h := gz_ifp c14 h
          refine gz_iconst (v := 0) hX dX0_balance_56 gl_c_0 ?_
          refine gz_istore_n (lv2 := [(3, .int 0), (0, .ref (ad (10, 0, 0))), (1, .int a1), (2, .int a2)]) hX dX0_balance_57 rfl (by decide) rfl ?_
          obtain ⟨x15, e16, h⟩ := gz_bd_o h
          refine gz_lv [1, 0] rfl (w_x0_balance_L58 hX hZ ?_ N e16)
          refine gz_iload_n (q := 0) hX dX0_balance_76 rfl rfl ?_
          exact gu_iret hX hZ hF rfl rfl (gz_in1 h) dX0_balance_77
        · have h := gz_ifn c14 h
          refine gz_aload_n (q := 0) hX dX0_balance_32 rfl rfl ?_
          refine gz_iconst (v := 0) hX dX0_balance_33 gl_c_0 ?_
          refine gz_iload_n (q := 1) hX dX0_balance_34 rfl rfl ?_
          refine gz_iload_n (q := 2) hX dX0_balance_35 rfl rfl ?_
          obtain ⟨y17, g18, h⟩ := gz_let_o h
          have J19 : gW X 4 (xw_s Ds) (xw_c Df) ad V 0 0 44 [] [.int y17, .int a1, .int 0, .ref (ad (10, 0, 0))] := by
            obtain ⟨r21, e22, h⟩ := gz_bd_o h
            refine gu_callV (ci := 0) (n := (10, 0, 0)) (As := [.int 0, .int a1, .int y17]) hX (c_x0_isWeighed e22) (lw_x0_isWeighed_ q1393) rfl rfl nn_x0_isWeighed ⟨Nat.le_of_ble_eq_true rfl, Nat.le_of_ble_eq_true rfl⟩ ⟨Nat.zero_le _, Nat.zero_le _⟩ (by decide) rfl xs_main rfl rfl (Nat.le_of_ble_eq_true rfl) dX0_balance_44 rfl ?_
            refine gz_if_eq (tgt := 54) hX dX0_balance_47 (by decide) (fun c23 => ?_) (fun c23 => ?_)
            · have h := gz_ifp c23 h
              refine gz_iconst (v := 0) hX dX0_balance_54 gl_c_0 ?_
              exact gu_iret hX hZ hF rfl rfl (gz_in1 h) dX0_balance_55
            · have h := gz_ifn c23 h
              refine gz_iconst (v := 1) hX dX0_balance_50 gl_c_1 ?_
              refine gz_goto (tgt := 55) hX dX0_balance_51 (by decide) ?_
              exact gu_iret hX hZ hF rfl rfl (gz_in1 h) dX0_balance_55
          refine gz_if_ne (tgt := 43) hX dX0_balance_36 (by decide) (fun c20 => ?_) (fun c20 => ?_)
          · have g18 := gz_ifn c20 g18
            refine gz_iconst (v := 0) hX dX0_balance_43 gl_c_0 ?_
            obtain rfl := g18
            exact gz_lv [] rfl J19
          · have g18 := gz_ifp c20 g18
            refine gz_iconst (v := 1) hX dX0_balance_39 gl_c_1 ?_
            refine gz_goto (tgt := 44) hX dX0_balance_40 (by decide) ?_
            obtain rfl := g18
            exact gz_lv [] rfl J19
      · have h := gz_ifp c13 h
        refine gz_iconst (v := (-1)) hX dX0_balance_25 gl_c_m1 ?_
        exact gu_iret hX hZ hF rfl rfl (gz_in1 h) dX0_balance_26
theorem lw_x0_balance_ {o : String} {i : Nat} (hl : Cond.methodLink o i yX0_balance ∈ lw_all) : GoodIn lw_all (wsV o i RX0 yX0_balance (ws_ yX0_balance cX0_balance 4 (some .int))) := lw_V hl q1390 q1391 q144 q1392
theorem nn_x0_balance : yX0_balance.cls = RX0 ∧ yX0_balance.cls ≠ "java/lang/invoke/MethodHandle" ∧ yX0_balance.cls ≠ "java/lang/invoke/VarHandle" ∧ (parseMethodDescriptor yX0_balance.desc).map (fun d => d.parameters.length) = some 2 := by decide +kernel
def rm_x0_besideKin : Room := { frames := 0, cells := 0, slots := 0, locals := 0 }
noncomputable def x0_besideKin_L4 (N : Nat) (Ds : gz_S) (Df : gz_R) (V : gz_V) (v1 : Int32) : Nat → Int32 → Int32 → Option (Int32)
  | 0, _, _ => none
  | n + 1, v2, v3 => (if (V (20, 0, 0) 13) ≤ v3 then some v2 else gz_bd (if ((v1 >>> (v3 &&& 31)) &&& 1) = 1 then gz_bd (Df (20, 0, 0) 12) (fun n6 => gz_gd (90 ≤ n6.1 ∧ Ds n6 = some (100, 12)) (gz_gd (gz_inb v3 12 = true) (some (V n6 v3.toNatClampNeg)))) else some (0 : Int32)) (fun y2 => gz_let ((v2 ||| y2)) (fun x10 => x0_besideKin_L4 N Ds Df V v1 n x10 (v3 + 1))))
theorem w_x0_besideKin_L4 {X : gz_X} {ad : gz_A0} {N : Nat} {Ds : gz_S} {Df : gz_R} {V : gz_V} {v1 : Int32} {o2 : Int32} (hX : gz_ok X cX0_besideKin RX0 "besideKin" 4 rm_x0_besideKin (some .int)) (hZ : gz_Z X) (k : gW X 4 (xw_s Ds) (xw_c Df) ad V 0 0 46 [(2, .int o2)] []) : ∀ (n : Nat) {v2 : Int32} {v3 : Int32}, x0_besideKin_L4 N Ds Df V v1 n v2 v3 = some o2 → gW X 4 (xw_s Ds) (xw_c Df) ad V 0 0 4 [(0, .ref (ad (10, 0, 0))), (1, .int v1), (2, .int v2), (3, .int v3)] [] := by
  intro n
  induction n with
  | zero => intro v2 v3 h; rw [x0_besideKin_L4] at h; cases h
  | succ n ih =>
    intro v2 v3 h
    rw [x0_besideKin_L4] at h
    refine gz_iload_n (q := 3) hX dX0_besideKin_4 rfl rfl ?_
    refine gz_aload_n (q := 0) hX dX0_besideKin_5 rfl rfl ?_
    refine xg_X0_20 (n2 := (20, 0, 0)) hX xs_main rfl dX0_besideKin_6 ?_
    refine xg_X0_137 hX (xs_M (by decide)) dX0_besideKin_9 ?_
    refine gz_icmp_ge (tgt := 46) hX dX0_besideKin_12 (by decide) (fun c1 => ?_) (fun c1 => ?_)
    · have h := gz_ifp c1 h
      obtain rfl := gz_in1 h
      exact gz_lv [2] rfl k
    · have h := gz_ifn c1 h
      refine gz_iload_n (q := 2) hX dX0_besideKin_15 rfl rfl ?_
      refine gz_iload_n (q := 1) hX dX0_besideKin_16 rfl rfl ?_
      refine gz_iload_n (q := 3) hX dX0_besideKin_17 rfl rfl ?_
      refine gz_ishr hX dX0_besideKin_18 ?_
      refine gz_iconst (v := 1) hX dX0_besideKin_19 gl_c_1 ?_
      refine gz_iand hX dX0_besideKin_20 ?_
      refine gz_iconst (v := 1) hX dX0_besideKin_21 gl_c_1 ?_
      obtain ⟨y2, g3, h⟩ := gz_bd_o h
      have J4 : gW X 4 (xw_s Ds) (xw_c Df) ad V 0 0 38 [(0, .ref (ad (10, 0, 0))), (1, .int v1), (3, .int v3)] [.int y2, .int v2] := by
        refine gz_ior hX dX0_besideKin_38 ?_
        obtain ⟨x10, e11, h⟩ := gz_let_o h
        refine gz_nm e11 ?_
        refine gz_istore_n (lv2 := [(2, .int x10), (0, .ref (ad (10, 0, 0))), (1, .int v1), (3, .int v3)]) hX dX0_besideKin_39 rfl (by decide) rfl ?_
        refine gz_iinc (q := 3) (lv2 := [(3, .int (v3 + 1)), (2, .int x10), (0, .ref (ad (10, 0, 0))), (1, .int v1)]) hX dX0_besideKin_40 rfl gl_c_1 (by decide) rfl ?_
        refine gz_goto (tgt := 4) hX dX0_besideKin_43 (by decide) ?_
        exact gz_lv [2, 3, 1, 0] rfl (ih h)
      refine gz_icmp_ne (tgt := 37) hX dX0_besideKin_22 (by decide) (fun c5 => ?_) (fun c5 => ?_)
      · have g3 := gz_ifn c5 g3
        refine gz_iconst (v := 0) hX dX0_besideKin_37 gl_c_0 ?_
        obtain rfl := gz_in1 g3
        exact gz_lv [0, 1, 3] rfl J4
      · have g3 := gz_ifp c5 g3
        refine gz_aload_n (q := 0) hX dX0_besideKin_25 rfl rfl ?_
        refine xg_X0_20 (n2 := (20, 0, 0)) hX xs_main rfl dX0_besideKin_26 ?_
        obtain ⟨n6, e7, g3⟩ := gz_bd_o g3
        obtain ⟨b8, g3⟩ := gz_gd_o g3
        refine xg_X0_107 (n2 := n6) hX (xs_M (by decide)) e7 dX0_besideKin_29 ?_
        refine gz_iload_n (q := 3) hX dX0_besideKin_32 rfl rfl ?_
        obtain ⟨b9, g3⟩ := gz_gd_o g3
        refine gz_iald (L := 12) hX (xs_dyn b8) (gz_inb_o b9) dX0_besideKin_33 ?_
        refine gz_goto (tgt := 38) hX dX0_besideKin_34 (by decide) ?_
        obtain rfl := gz_in1 g3
        exact gz_lv [0, 1, 3] rfl J4
noncomputable def x0_besideKin (N : Nat) (Ds : gz_S) (Df : gz_R) (V : gz_V) (a1 : Int32) : Option (Int32) := gz_bd (x0_besideKin_L4 N Ds Df V a1 N a1 0) (fun x1 => some x1)
theorem c_x0_besideKin {l : Launch} {D : va_G} {aC : Nat → ClassId} {ad : gz_A0} {N : Nat} {Ds : gz_S} {Df : gz_R} {V : gz_V} {a1 : Int32} {r : Int32} (h : x0_besideKin N Ds Df V a1 = some r) : gz_Met l yX0_besideKin cX0_besideKin 4 (some .int) rm_x0_besideKin D aC ad (xw_s Ds) V (xw_c Df) [.ref (ad (10, 0, 0)), .int a1] (gz_F1 (xw_s Ds) (xw_c Df) ad V (some (.int r))) 0 0 := by
  refine gu_ofW (own := RX0) (mn := "besideKin") (lv := [(0, .ref (ad (10, 0, 0))), (1, .int a1)]) (by decide) rfl rfl (Nat.le_of_ble_eq_true rfl) rfl ?_
  intro X hX hZ hF
  rw [x0_besideKin] at h
  refine gz_iload_n (q := 1) hX dX0_besideKin_0 rfl rfl ?_
  refine gz_istore_n (lv2 := [(2, .int a1), (0, .ref (ad (10, 0, 0))), (1, .int a1)]) hX dX0_besideKin_1 rfl (by decide) rfl ?_
  refine gz_iconst (v := 0) hX dX0_besideKin_2 gl_c_0 ?_
  refine gz_istore_n (lv2 := [(3, .int 0), (2, .int a1), (0, .ref (ad (10, 0, 0))), (1, .int a1)]) hX dX0_besideKin_3 rfl (by decide) rfl ?_
  obtain ⟨x1, e2, h⟩ := gz_bd_o h
  refine gz_lv [2, 3, 1, 0] rfl (w_x0_besideKin_L4 hX hZ ?_ N e2)
  refine gz_iload_n (q := 0) hX dX0_besideKin_46 rfl rfl ?_
  exact gu_iret hX hZ hF rfl rfl (gz_in1 h) dX0_besideKin_47
theorem lw_x0_besideKin_ {o : String} {i : Nat} (hl : Cond.methodLink o i yX0_besideKin ∈ lw_all) : GoodIn lw_all (wsV o i RX0 yX0_besideKin (ws_ yX0_besideKin cX0_besideKin 4 (some .int))) := lw_V hl q1362 qs47 q144 q1363
theorem nn_x0_besideKin : yX0_besideKin.cls = RX0 ∧ yX0_besideKin.cls ≠ "java/lang/invoke/MethodHandle" ∧ yX0_besideKin.cls ≠ "java/lang/invoke/VarHandle" ∧ (parseMethodDescriptor yX0_besideKin.desc).map (fun d => d.parameters.length) = some 1 := by decide +kernel
theorem gl_c_3 : Int32.ofInt 3 = 3 := by decide
def rm_x0_book : Room := { frames := 1, cells := 0, slots := 0, locals := 22 }
noncomputable def x0_book (V : gz_V) (a1 : Int32) (a2 : Int32) : Option (Int32) := (if (x0_isIn a1 0 ((V (20, 0, 0) 19) - 1)) = 0 then some (-1) else (if (x0_isIn a2 0 3) = 0 then some (-1) else gz_gd (gz_inb a1 150 = true) (gz_gd (gz_inb a2 4 = true) (some (V (26, 0, a1.toNatClampNeg) a2.toNatClampNeg)))))
theorem c_x0_book {l : Launch} {D : va_G} {aC : Nat → ClassId} {ad : gz_A0} {Ds : gz_S} {Df : gz_R} {V : gz_V} {a1 : Int32} {a2 : Int32} {r : Int32} (h : x0_book V a1 a2 = some r) : gz_Met l yX0_book cX0_book 3 (some .int) rm_x0_book D aC ad (xw_s Ds) V (xw_c Df) [.ref (ad (10, 0, 0)), .int a1, .int a2] (gz_F1 (xw_s Ds) (xw_c Df) ad V (some (.int r))) 0 0 := by
  refine gu_ofW (own := RX0) (mn := "book") (lv := [(0, .ref (ad (10, 0, 0))), (1, .int a1), (2, .int a2)]) (by decide) rfl rfl (Nat.le_of_ble_eq_true rfl) rfl ?_
  intro X hX hZ hF
  rw [x0_book] at h
  refine gz_iload_n (q := 1) hX dX0_book_0 rfl rfl ?_
  refine gz_iconst (v := 0) hX dX0_book_1 gl_c_0 ?_
  refine gz_aload_n (q := 0) hX dX0_book_2 rfl rfl ?_
  refine xg_X0_20 (n2 := (20, 0, 0)) hX xs_main rfl dX0_book_3 ?_
  refine xg_X0_252 hX (xs_M (by decide)) dX0_book_6 ?_
  refine gz_iconst (v := 1) hX dX0_book_9 gl_c_1 ?_
  refine gz_isub hX dX0_book_10 ?_
  refine gu_callS (As := [.int a1, .int 0, .int ((V (20, 0, 0) 19) - 1)]) hX (c_x0_isIn rfl) (lw_x0_isIn_ q502) rfl rfl nn_x0_isIn ⟨Nat.le_of_ble_eq_true rfl, Nat.le_of_ble_eq_true rfl⟩ ⟨Nat.zero_le _, Nat.zero_le _⟩ rfl rfl (Nat.le_of_ble_eq_true rfl) dX0_book_11 rfl ?_
  refine gz_if_eq (tgt := 40) hX dX0_book_14 (by decide) (fun c1 => ?_) (fun c1 => ?_)
  · have h := gz_ifp c1 h
    refine gz_iconst (v := (-1)) hX dX0_book_40 gl_c_m1 ?_
    exact gu_iret hX hZ hF rfl rfl (gz_in1 h) dX0_book_41
  · have h := gz_ifn c1 h
    refine gz_iload_n (q := 2) hX dX0_book_17 rfl rfl ?_
    refine gz_iconst (v := 0) hX dX0_book_18 gl_c_0 ?_
    refine gz_iconst (v := 3) hX dX0_book_19 gl_c_3 ?_
    refine gu_callS (As := [.int a2, .int 0, .int 3]) hX (c_x0_isIn rfl) (lw_x0_isIn_ q502) rfl rfl nn_x0_isIn ⟨Nat.le_of_ble_eq_true rfl, Nat.le_of_ble_eq_true rfl⟩ ⟨Nat.zero_le _, Nat.zero_le _⟩ rfl rfl (Nat.le_of_ble_eq_true rfl) dX0_book_20 rfl ?_
    refine gz_if_eq (tgt := 40) hX dX0_book_23 (by decide) (fun c2 => ?_) (fun c2 => ?_)
    · have h := gz_ifp c2 h
      refine gz_iconst (v := (-1)) hX dX0_book_40 gl_c_m1 ?_
      exact gu_iret hX hZ hF rfl rfl (gz_in1 h) dX0_book_41
    · have h := gz_ifn c2 h
      refine gz_aload_n (q := 0) hX dX0_book_26 rfl rfl ?_
      refine xg_X0_20 (n2 := (20, 0, 0)) hX xs_main rfl dX0_book_27 ?_
      refine xg_X0_255 (n2 := (25, 0, 0)) hX (xs_M (by decide)) rfl dX0_book_30 ?_
      refine gz_iload_n (q := 1) hX dX0_book_33 rfl rfl ?_
      obtain ⟨b3, h⟩ := gz_gd_o h
      refine gz_aald (L := 150) (t := 112) (t0 := 5) (ty := (.array .int)) (n2 := (26, 0, a1.toNatClampNeg)) hX (by decide) (by decide) (fun _ => rfl) rfl (xs_BA (by decide)) (gz_inb_o b3) (xr_BA (gz_inb_lt b3)) dX0_book_34 ?_
      refine gz_iload_n (q := 2) hX dX0_book_35 rfl rfl ?_
      obtain ⟨b4, h⟩ := gz_gd_o h
      refine gz_iald (L := 4) hX (xs_BR (by decide) (gz_inb_lt b3)) (gz_inb_o b4) dX0_book_36 ?_
      refine gz_goto (tgt := 41) hX dX0_book_37 (by decide) ?_
      exact gu_iret hX hZ hF rfl rfl (gz_in1 h) dX0_book_41
theorem lw_x0_book_ {o : String} {i : Nat} (hl : Cond.methodLink o i yX0_book ∈ lw_all) : GoodIn lw_all (wsV o i RX0 yX0_book (ws_ yX0_book cX0_book 3 (some .int))) := lw_V hl q1282 q1283 q144 q1284
theorem nn_x0_book : yX0_book.cls = RX0 ∧ yX0_book.cls ≠ "java/lang/invoke/MethodHandle" ∧ yX0_book.cls ≠ "java/lang/invoke/VarHandle" ∧ (parseMethodDescriptor yX0_book.desc).map (fun d => d.parameters.length) = some 2 := by decide +kernel
def rm_x1_isSlung : Room := { frames := 0, cells := 0, slots := 0, locals := 0 }
noncomputable def x1_isSlung (V : gz_V) (u1 : Nat) (a1 : Int32) (a2 : Int32) : Option (Int32) := gz_gd (gz_inb a1 12 = true) ((if (V (40, u1, a1.toNatClampNeg) 2) = 2 then some 1 else gz_gd (gz_inb a2 12 = true) ((if (V (40, u1, a2.toNatClampNeg) 2) = 2 then some 1 else some 0))))
theorem c_x1_isSlung {l : Launch} {D : va_G} {aC : Nat → ClassId} {ad : gz_A0} {Ds : gz_S} {Df : gz_R} {V : gz_V} {u1 : Nat} {a1 : Int32} {a2 : Int32} {r : Int32} (hu1 : u1 < 9) (h : x1_isSlung V u1 a1 a2 = some r) : gz_Met l yX1_isSlung cX1_isSlung 3 (some .boolean) rm_x1_isSlung D aC ad (xw_s Ds) V (xw_c Df) [.ref (ad (20, u1, 0)), .int a1, .int a2] (gz_F1 (xw_s Ds) (xw_c Df) ad V (some (.int r))) 0 0 := by
  refine gu_ofW (own := RX1) (mn := "isSlung") (lv := [(0, .ref (ad (20, u1, 0))), (1, .int a1), (2, .int a2)]) (by decide) rfl rfl (Nat.le_of_ble_eq_true rfl) rfl ?_
  intro X hX hZ hF
  rw [x1_isSlung] at h
  refine gz_aload_n (q := 0) hX dX1_isSlung_0 rfl rfl ?_
  refine xg_X1_11 (n2 := (21, u1, 0)) hX (xs_M hu1) rfl dX1_isSlung_1 ?_
  refine gz_iload_n (q := 1) hX dX1_isSlung_4 rfl rfl ?_
  obtain ⟨b1, h⟩ := gz_gd_o h
  refine gz_aald (L := 12) (t := 110) (t0 := 3) (ty := (.object "ClaspedFair$Person")) (n2 := (40, u1, a1.toNatClampNeg)) hX (by decide) (by decide) (fun _ => rfl) rfl (xs_PA hu1) (gz_inb_o b1) (xr_PA (gz_inb_lt b1)) dX1_isSlung_5 ?_
  refine xg_X1_193 hX (xs_P hu1 (gz_inb_lt b1)) dX1_isSlung_6 ?_
  refine gz_iconst (v := 2) hX dX1_isSlung_9 gl_c_2 ?_
  refine gz_icmp_eq (tgt := 26) hX dX1_isSlung_10 (by decide) (fun c2 => ?_) (fun c2 => ?_)
  · have h := gz_ifp c2 h
    refine gz_iconst (v := 1) hX dX1_isSlung_26 gl_c_1 ?_
    refine gz_goto (tgt := 31) hX dX1_isSlung_27 (by decide) ?_
    exact gu_zret hX hZ rfl hF rfl rfl (gz_in1 h) dX1_isSlung_31
  · have h := gz_ifn c2 h
    refine gz_aload_n (q := 0) hX dX1_isSlung_13 rfl rfl ?_
    refine xg_X1_11 (n2 := (21, u1, 0)) hX (xs_M hu1) rfl dX1_isSlung_14 ?_
    refine gz_iload_n (q := 2) hX dX1_isSlung_17 rfl rfl ?_
    obtain ⟨b3, h⟩ := gz_gd_o h
    refine gz_aald (L := 12) (t := 110) (t0 := 3) (ty := (.object "ClaspedFair$Person")) (n2 := (40, u1, a2.toNatClampNeg)) hX (by decide) (by decide) (fun _ => rfl) rfl (xs_PA hu1) (gz_inb_o b3) (xr_PA (gz_inb_lt b3)) dX1_isSlung_18 ?_
    refine xg_X1_193 hX (xs_P hu1 (gz_inb_lt b3)) dX1_isSlung_19 ?_
    refine gz_iconst (v := 2) hX dX1_isSlung_22 gl_c_2 ?_
    refine gz_icmp_ne (tgt := 30) hX dX1_isSlung_23 (by decide) (fun c4 => ?_) (fun c4 => ?_)
    · have h := gz_ifn c4 h
      refine gz_iconst (v := 0) hX dX1_isSlung_30 gl_c_0 ?_
      exact gu_zret hX hZ rfl hF rfl rfl (gz_in1 h) dX1_isSlung_31
    · have h := gz_ifp c4 h
      refine gz_iconst (v := 1) hX dX1_isSlung_26 gl_c_1 ?_
      refine gz_goto (tgt := 31) hX dX1_isSlung_27 (by decide) ?_
      exact gu_zret hX hZ rfl hF rfl rfl (gz_in1 h) dX1_isSlung_31
theorem lw_x1_isSlung_ {o : String} {i : Nat} (hl : Cond.methodLink o i yX1_isSlung ∈ lw_all) : GoodIn lw_all (wsV o i RX1 yX1_isSlung (ws_ yX1_isSlung cX1_isSlung 3 (some .boolean))) := lw_V hl q1093 qs35 q145 q1094
theorem nn_x1_isSlung : yX1_isSlung.cls = RX1 ∧ yX1_isSlung.cls ≠ "java/lang/invoke/MethodHandle" ∧ yX1_isSlung.cls ≠ "java/lang/invoke/VarHandle" ∧ (parseMethodDescriptor yX1_isSlung.desc).map (fun d => d.parameters.length) = some 2 := by decide +kernel
def rm_x4_takes : Room := { frames := 0, cells := 0, slots := 0, locals := 0 }
noncomputable def x4_takes_L2 (N : Nat) (u1 : Nat) (u2 : Nat) (u3 : Nat) (u4 : Nat) : Nat → gz_V → Int32 → Option (gz_V)
  | 0, _, _ => none
  | n + 1, V, v2 => (if 5 ≤ v2 then some V else gz_gd (gz_inb v2 5 = true) (gz_gd (gz_inb v2 5 = true) (gz_let (gz_up V (41, u1, u2) v2.toNatClampNeg (V (41, u3, u4) v2.toNatClampNeg)) (fun V4 => x4_takes_L2 N u1 u2 u3 u4 n V4 (v2 + 1)))))
theorem w_x4_takes_L2 {X : gz_X} {ad : gz_A0} {N : Nat} {Ds : gz_S} {Df : gz_R} {u1 : Nat} {u2 : Nat} {u3 : Nat} {u4 : Nat} {W1 : gz_V} (hX : gz_ok X cX4_takes RX4 "takes" 3 rm_x4_takes none) (hZ : gz_Z X) (hu1 : u1 < 9) (hu2 : u2 < 12) (hu3 : u3 < 9) (hu4 : u4 < 12) (k : gW X 3 (xw_s Ds) (xw_c Df) ad W1 0 0 25 [(0, .ref (ad (40, u1, u2))), (1, .ref (ad (40, u3, u4)))] []) : ∀ (n : Nat) {V : gz_V} {v2 : Int32}, x4_takes_L2 N u1 u2 u3 u4 n V v2 = some W1 → gW X 3 (xw_s Ds) (xw_c Df) ad V 0 0 2 [(0, .ref (ad (40, u1, u2))), (1, .ref (ad (40, u3, u4))), (2, .int v2)] [] := by
  intro n
  induction n with
  | zero => intro V v2 h; rw [x4_takes_L2] at h; cases h
  | succ n ih =>
    intro V v2 h
    rw [x4_takes_L2] at h
    refine gz_iload_n (q := 2) hX dX4_takes_2 rfl rfl ?_
    refine gz_iconst (v := 5) hX dX4_takes_3 gl_c_5 ?_
    refine gz_icmp_ge (tgt := 25) hX dX4_takes_4 (by decide) (fun c1 => ?_) (fun c1 => ?_)
    · have h := gz_ifp c1 h
      obtain rfl := gz_in1 h
      exact gz_lv [0, 1] rfl k
    · have h := gz_ifn c1 h
      refine gz_aload_n (q := 0) hX dX4_takes_7 rfl rfl ?_
      refine xg_X4_9 (n2 := (41, u1, u2)) hX (xs_P hu1 hu2) rfl dX4_takes_8 ?_
      refine gz_iload_n (q := 2) hX dX4_takes_11 rfl rfl ?_
      refine gz_aload_n (q := 1) hX dX4_takes_12 rfl rfl ?_
      refine xg_X4_9 (n2 := (41, u3, u4)) hX (xs_P hu3 hu4) rfl dX4_takes_13 ?_
      refine gz_iload_n (q := 2) hX dX4_takes_16 rfl rfl ?_
      obtain ⟨b2, h⟩ := gz_gd_o h
      refine gz_iald (L := 5) hX (xs_T hu3 hu4) (gz_inb_o b2) dX4_takes_17 ?_
      obtain ⟨b3, h⟩ := gz_gd_o h
      obtain ⟨V4, e5, h⟩ := gz_let_o h
      refine gz_iast (L := 5) hX (xs_T hu1 hu2) (gz_ne0 40 rfl) (gz_inb_o b3) dX4_takes_18 e5 ?_
      refine gz_iinc (q := 2) (lv2 := [(2, .int (v2 + 1)), (0, .ref (ad (40, u1, u2))), (1, .ref (ad (40, u3, u4)))]) hX dX4_takes_19 rfl gl_c_1 (by decide) rfl ?_
      refine gz_goto (tgt := 2) hX dX4_takes_22 (by decide) ?_
      exact gz_lv [1, 2, 0] rfl (ih h)
noncomputable def x4_takes (N : Nat) (V : gz_V) (u1 : Nat) (u2 : Nat) (u3 : Nat) (u4 : Nat) : Option (gz_V) := gz_bd (x4_takes_L2 N u1 u2 u3 u4 N V 0) (fun V1 => gz_let (gz_up V1 (40, u1, u2) 1 (V1 (40, u3, u4) 1)) (fun V3 => gz_let (gz_up V3 (40, u1, u2) 2 (V3 (40, u3, u4) 2)) (fun V5 => gz_let (gz_up V5 (40, u1, u2) 3 (V5 (40, u3, u4) 3)) (fun V7 => some V7))))
theorem c_x4_takes {l : Launch} {D : va_G} {aC : Nat → ClassId} {ad : gz_A0} {N : Nat} {Ds : gz_S} {Df : gz_R} {V : gz_V} {u1 : Nat} {u2 : Nat} {u3 : Nat} {u4 : Nat} {W1 : gz_V} (hu1 : u1 < 9) (hu2 : u2 < 12) (hu3 : u3 < 9) (hu4 : u4 < 12) (h : x4_takes N V u1 u2 u3 u4 = some W1) : gz_Met l yX4_takes cX4_takes 3 none rm_x4_takes D aC ad (xw_s Ds) V (xw_c Df) [.ref (ad (40, u1, u2)), .ref (ad (40, u3, u4))] (gz_F1 (xw_s Ds) (xw_c Df) ad W1 none) 0 0 := by
  refine gu_ofW (own := RX4) (mn := "takes") (lv := [(0, .ref (ad (40, u1, u2))), (1, .ref (ad (40, u3, u4)))]) (by decide) rfl rfl (Nat.le_of_ble_eq_true rfl) rfl ?_
  intro X hX hZ hF
  rw [x4_takes] at h
  refine gz_iconst (v := 0) hX dX4_takes_0 gl_c_0 ?_
  refine gz_istore_n (lv2 := [(2, .int 0), (0, .ref (ad (40, u1, u2))), (1, .ref (ad (40, u3, u4)))]) hX dX4_takes_1 rfl (by decide) rfl ?_
  obtain ⟨V1, e2, h⟩ := gz_bd_o h
  refine gz_lv [1, 2, 0] rfl (w_x4_takes_L2 hX hZ hu1 hu2 hu3 hu4 ?_ N e2)
  refine gz_aload_n (q := 0) hX dX4_takes_25 rfl rfl ?_
  refine gz_aload_n (q := 1) hX dX4_takes_26 rfl rfl ?_
  refine xg_X4_15 hX (xs_P hu3 hu4) dX4_takes_27 ?_
  obtain ⟨V3, e4, h⟩ := gz_let_o h
  refine xp_X4_15 hX (xs_P hu1 hu2) (gz_ne0 39 rfl) dX4_takes_30 e4 ?_
  refine gz_aload_n (q := 0) hX dX4_takes_33 rfl rfl ?_
  refine gz_aload_n (q := 1) hX dX4_takes_34 rfl rfl ?_
  refine xg_X4_19 hX (xs_P hu3 hu4) dX4_takes_35 ?_
  obtain ⟨V5, e6, h⟩ := gz_let_o h
  refine xp_X4_19 hX (xs_P hu1 hu2) (gz_ne0 39 rfl) dX4_takes_38 e6 ?_
  refine gz_aload_n (q := 0) hX dX4_takes_41 rfl rfl ?_
  refine gz_aload_n (q := 1) hX dX4_takes_42 rfl rfl ?_
  refine xg_X4_22 hX (xs_P hu3 hu4) dX4_takes_43 ?_
  obtain ⟨V7, e8, h⟩ := gz_let_o h
  refine xp_X4_22 hX (xs_P hu1 hu2) (gz_ne0 39 rfl) dX4_takes_46 e8 ?_
  exact gu_vret hX hZ hF (gz_in1 h) rfl dX4_takes_49
theorem lw_x4_takes_ {o : String} {i : Nat} (hl : Cond.methodLink o i yX4_takes ∈ lw_all) : GoodIn lw_all (wsV o i RX4 yX4_takes (ws_ yX4_takes cX4_takes 3 none)) := lw_V hl q1028 q1029 q151 q1030
theorem nn_x4_takes : yX4_takes.cls = RX4 ∧ yX4_takes.cls ≠ "java/lang/invoke/MethodHandle" ∧ yX4_takes.cls ≠ "java/lang/invoke/VarHandle" ∧ (parseMethodDescriptor yX4_takes.desc).map (fun d => d.parameters.length) = some 1 := by decide +kernel
def rm_x5_begins : Room := { frames := 0, cells := 0, slots := 0, locals := 0 }
noncomputable def x5_begins (V : gz_V) (u1 : Nat) (u2 : Nat) (a1 : Int32) (a2 : Int32) (a3 : Int32) : Option (gz_V) := gz_let (gz_up V (42, u1, u2) 0 a1) (fun V1 => gz_let (gz_up V1 (42, u1, u2) 1 a2) (fun V3 => gz_let (gz_up V3 (42, u1, u2) 2 a3) (fun V5 => gz_let (gz_up V5 (42, u1, u2) 3 0) (fun V7 => some V7))))
theorem c_x5_begins {l : Launch} {D : va_G} {aC : Nat → ClassId} {ad : gz_A0} {Ds : gz_S} {Df : gz_R} {V : gz_V} {u1 : Nat} {u2 : Nat} {a1 : Int32} {a2 : Int32} {a3 : Int32} {W1 : gz_V} (hu1 : u1 < 9) (hu2 : u2 < 10) (h : x5_begins V u1 u2 a1 a2 a3 = some W1) : gz_Met l yX5_begins cX5_begins 4 none rm_x5_begins D aC ad (xw_s Ds) V (xw_c Df) [.ref (ad (42, u1, u2)), .int a1, .int a2, .int a3] (gz_F1 (xw_s Ds) (xw_c Df) ad W1 none) 0 0 := by
  refine gu_ofW (own := RX5) (mn := "begins") (lv := [(0, .ref (ad (42, u1, u2))), (1, .int a1), (2, .int a2), (3, .int a3)]) (by decide) rfl rfl (Nat.le_of_ble_eq_true rfl) rfl ?_
  intro X hX hZ hF
  rw [x5_begins] at h
  refine gz_aload_n (q := 0) hX dX5_begins_0 rfl rfl ?_
  refine gz_iload_n (q := 1) hX dX5_begins_1 rfl rfl ?_
  obtain ⟨V1, e2, h⟩ := gz_let_o h
  refine xp_X5_7 hX (xs_H hu1 hu2) (gz_ne0 41 rfl) dX5_begins_2 e2 ?_
  refine gz_aload_n (q := 0) hX dX5_begins_5 rfl rfl ?_
  refine gz_iload_n (q := 2) hX dX5_begins_6 rfl rfl ?_
  obtain ⟨V3, e4, h⟩ := gz_let_o h
  refine xp_X5_13 hX (xs_H hu1 hu2) (gz_ne0 41 rfl) dX5_begins_7 e4 ?_
  refine gz_aload_n (q := 0) hX dX5_begins_10 rfl rfl ?_
  refine gz_iload_n (q := 3) hX dX5_begins_11 rfl rfl ?_
  obtain ⟨V5, e6, h⟩ := gz_let_o h
  refine xp_X5_16 hX (xs_H hu1 hu2) (gz_ne0 41 rfl) dX5_begins_12 e6 ?_
  refine gz_aload_n (q := 0) hX dX5_begins_15 rfl rfl ?_
  refine gz_iconst (v := 0) hX dX5_begins_16 gl_c_0 ?_
  obtain ⟨V7, e8, h⟩ := gz_let_o h
  refine xp_X5_19 hX (xs_H hu1 hu2) (gz_ne0 41 rfl) dX5_begins_17 e8 ?_
  exact gu_vret hX hZ hF (gz_in1 h) rfl dX5_begins_20
theorem lw_x5_begins_ {o : String} {i : Nat} (hl : Cond.methodLink o i yX5_begins ∈ lw_all) : GoodIn lw_all (wsV o i RX5 yX5_begins (ws_ yX5_begins cX5_begins 4 none)) := lw_V hl q1036 q1037 q152 q1038
theorem nn_x5_begins : yX5_begins.cls = RX5 ∧ yX5_begins.cls ≠ "java/lang/invoke/MethodHandle" ∧ yX5_begins.cls ≠ "java/lang/invoke/VarHandle" ∧ (parseMethodDescriptor yX5_begins.desc).map (fun d => d.parameters.length) = some 3 := by decide +kernel
def rm_x5_takes : Room := { frames := 1, cells := 0, slots := 0, locals := 23 }
noncomputable def x5_takes (V : gz_V) (u1 : Nat) (u2 : Nat) (u3 : Nat) (u4 : Nat) : Option (gz_V) := gz_bd (x5_begins V u1 u2 (V (42, u3, u4) 0) (V (42, u3, u4) 1) (V (42, u3, u4) 2)) (fun V1 => gz_let (gz_up V1 (42, u1, u2) 3 (V1 (42, u3, u4) 3)) (fun V3 => some V3))
theorem c_x5_takes {l : Launch} {D : va_G} {aC : Nat → ClassId} {ad : gz_A0} {Ds : gz_S} {Df : gz_R} {V : gz_V} {u1 : Nat} {u2 : Nat} {u3 : Nat} {u4 : Nat} {W1 : gz_V} (hu1 : u1 < 9) (hu2 : u2 < 10) (hu3 : u3 < 9) (hu4 : u4 < 10) (h : x5_takes V u1 u2 u3 u4 = some W1) : gz_Met l yX5_takes cX5_takes 2 none rm_x5_takes D aC ad (xw_s Ds) V (xw_c Df) [.ref (ad (42, u1, u2)), .ref (ad (42, u3, u4))] (gz_F1 (xw_s Ds) (xw_c Df) ad W1 none) 0 0 := by
  refine gu_ofW (own := RX5) (mn := "takes") (lv := [(0, .ref (ad (42, u1, u2))), (1, .ref (ad (42, u3, u4)))]) (by decide) rfl rfl (Nat.le_of_ble_eq_true rfl) rfl ?_
  intro X hX hZ hF
  rw [x5_takes] at h
  refine gz_aload_n (q := 0) hX dX5_takes_0 rfl rfl ?_
  refine gz_aload_n (q := 1) hX dX5_takes_1 rfl rfl ?_
  refine xg_X5_7 hX (xs_H hu3 hu4) dX5_takes_2 ?_
  refine gz_aload_n (q := 1) hX dX5_takes_5 rfl rfl ?_
  refine xg_X5_13 hX (xs_H hu3 hu4) dX5_takes_6 ?_
  refine gz_aload_n (q := 1) hX dX5_takes_9 rfl rfl ?_
  refine xg_X5_16 hX (xs_H hu3 hu4) dX5_takes_10 ?_
  obtain ⟨V1, e2, h⟩ := gz_bd_o h
  refine gu_callV (ci := 5) (n := (42, u1, u2)) (As := [.int (V (42, u3, u4) 0), .int (V (42, u3, u4) 1), .int (V (42, u3, u4) 2)]) hX (c_x5_begins hu1 hu2 e2) (lw_x5_begins_ q1035) rfl rfl nn_x5_begins ⟨Nat.le_of_ble_eq_true rfl, Nat.le_of_ble_eq_true rfl⟩ ⟨Nat.zero_le _, Nat.zero_le _⟩ (by decide) rfl (xs_H hu1 hu2) rfl rfl (Nat.le_of_ble_eq_true rfl) dX5_takes_13 rfl ?_
  refine gz_aload_n (q := 0) hX dX5_takes_16 rfl rfl ?_
  refine gz_aload_n (q := 1) hX dX5_takes_17 rfl rfl ?_
  refine xg_X5_19 hX (xs_H hu3 hu4) dX5_takes_18 ?_
  obtain ⟨V3, e4, h⟩ := gz_let_o h
  refine xp_X5_19 hX (xs_H hu1 hu2) (gz_ne0 41 rfl) dX5_takes_21 e4 ?_
  exact gu_vret hX hZ hF (gz_in1 h) rfl dX5_takes_24
theorem lw_x5_takes_ {o : String} {i : Nat} (hl : Cond.methodLink o i yX5_takes ∈ lw_all) : GoodIn lw_all (wsV o i RX5 yX5_takes (ws_ yX5_takes cX5_takes 2 none)) := lw_V hl q1032 q1033 q152 q1034
theorem nn_x5_takes : yX5_takes.cls = RX5 ∧ yX5_takes.cls ≠ "java/lang/invoke/MethodHandle" ∧ yX5_takes.cls ≠ "java/lang/invoke/VarHandle" ∧ (parseMethodDescriptor yX5_takes.desc).map (fun d => d.parameters.length) = some 1 := by decide +kernel
theorem gl_b_10 : (Int8.ofInt 10).toInt32 = 10 := by decide
theorem gl_b_12 : (Int8.ofInt 12).toInt32 = 12 := by decide
def rm_x1_moves : Room := { frames := 2, cells := 0, slots := 0, locals := 44 }
noncomputable def x1_moves_L2 (N : Nat) (u1 : Nat) (u2 : Nat) : Nat → gz_V → Int32 → Option (gz_V)
  | 0, _, _ => none
  | n + 1, V, v2 => (if 12 ≤ v2 then some V else gz_gd (gz_inb v2 12 = true) (gz_gd (gz_inb v2 12 = true) (gz_bd (x4_takes N V u1 (v2.toNatClampNeg) u2 (v2.toNatClampNeg)) (fun V4 => x1_moves_L2 N u1 u2 n V4 (v2 + 1)))))
theorem w_x1_moves_L2 {X : gz_X} {ad : gz_A0} {N : Nat} {Ds : gz_S} {Df : gz_R} {u1 : Nat} {u2 : Nat} {W1 : gz_V} (hX : gz_ok X cX1_moves RX1 "moves" 3 rm_x1_moves none) (hZ : gz_Z X) (hu1 : u1 < 9) (hu2 : u2 < 9) (k : gW X 3 (xw_s Ds) (xw_c Df) ad W1 0 0 29 [(0, .ref (ad (20, u1, 0))), (1, .ref (ad (20, u2, 0)))] []) : ∀ (n : Nat) {V : gz_V} {v2 : Int32}, x1_moves_L2 N u1 u2 n V v2 = some W1 → gW X 3 (xw_s Ds) (xw_c Df) ad V 0 0 2 [(0, .ref (ad (20, u1, 0))), (1, .ref (ad (20, u2, 0))), (2, .int v2)] [] := by
  intro n
  induction n with
  | zero => intro V v2 h; rw [x1_moves_L2] at h; cases h
  | succ n ih =>
    intro V v2 h
    rw [x1_moves_L2] at h
    refine gz_iload_n (q := 2) hX dX1_moves_2 rfl rfl ?_
    refine gz_bipush (v := 12) hX dX1_moves_3 gl_b_12 ?_
    refine gz_icmp_ge (tgt := 29) hX dX1_moves_5 (by decide) (fun c1 => ?_) (fun c1 => ?_)
    · have h := gz_ifp c1 h
      obtain rfl := gz_in1 h
      exact gz_lv [0, 1] rfl k
    · have h := gz_ifn c1 h
      refine gz_aload_n (q := 0) hX dX1_moves_8 rfl rfl ?_
      refine xg_X1_11 (n2 := (21, u1, 0)) hX (xs_M hu1) rfl dX1_moves_9 ?_
      refine gz_iload_n (q := 2) hX dX1_moves_12 rfl rfl ?_
      obtain ⟨b2, h⟩ := gz_gd_o h
      refine gz_aald (L := 12) (t := 110) (t0 := 3) (ty := (.object "ClaspedFair$Person")) (n2 := (40, u1, v2.toNatClampNeg)) hX (by decide) (by decide) (fun _ => rfl) rfl (xs_PA hu1) (gz_inb_o b2) (xr_PA (gz_inb_lt b2)) dX1_moves_13 ?_
      refine gz_aload_n (q := 1) hX dX1_moves_14 rfl rfl ?_
      refine xg_X1_11 (n2 := (21, u2, 0)) hX (xs_M hu2) rfl dX1_moves_15 ?_
      refine gz_iload_n (q := 2) hX dX1_moves_18 rfl rfl ?_
      obtain ⟨b3, h⟩ := gz_gd_o h
      refine gz_aald (L := 12) (t := 110) (t0 := 3) (ty := (.object "ClaspedFair$Person")) (n2 := (40, u2, v2.toNatClampNeg)) hX (by decide) (by decide) (fun _ => rfl) rfl (xs_PA hu2) (gz_inb_o b3) (xr_PA (gz_inb_lt b3)) dX1_moves_19 ?_
      obtain ⟨V4, e5, h⟩ := gz_bd_o h
      refine gu_callV (ci := 4) (n := (40, u1, v2.toNatClampNeg)) (As := [.ref (ad (40, u2, v2.toNatClampNeg))]) hX (c_x4_takes hu1 (gz_inb_lt b2) hu2 (gz_inb_lt b3) e5) (lw_x4_takes_ q1027) rfl rfl nn_x4_takes ⟨Nat.le_of_ble_eq_true rfl, Nat.le_of_ble_eq_true rfl⟩ ⟨Nat.zero_le _, Nat.zero_le _⟩ (by decide) rfl (xs_P hu1 (gz_inb_lt b2)) rfl rfl (Nat.le_of_ble_eq_true rfl) dX1_moves_20 rfl ?_
      refine gz_iinc (q := 2) (lv2 := [(2, .int (v2 + 1)), (0, .ref (ad (20, u1, 0))), (1, .ref (ad (20, u2, 0)))]) hX dX1_moves_23 rfl gl_c_1 (by decide) rfl ?_
      refine gz_goto (tgt := 2) hX dX1_moves_26 (by decide) ?_
      exact gz_lv [1, 2, 0] rfl (ih h)
noncomputable def x1_moves_L31 (N : Nat) (u1 : Nat) (u2 : Nat) : Nat → gz_V → Int32 → Option (gz_V)
  | 0, _, _ => none
  | n + 1, V, v2 => (if 10 ≤ v2 then some V else gz_gd (gz_inb v2 10 = true) (gz_gd (gz_inb v2 10 = true) (gz_bd (x5_takes V u1 (v2.toNatClampNeg) u2 (v2.toNatClampNeg)) (fun V6 => x1_moves_L31 N u1 u2 n V6 (v2 + 1)))))
theorem w_x1_moves_L31 {X : gz_X} {ad : gz_A0} {N : Nat} {Ds : gz_S} {Df : gz_R} {u1 : Nat} {u2 : Nat} {W1 : gz_V} (hX : gz_ok X cX1_moves RX1 "moves" 3 rm_x1_moves none) (hZ : gz_Z X) (hu1 : u1 < 9) (hu2 : u2 < 9) (k : gW X 3 (xw_s Ds) (xw_c Df) ad W1 0 0 58 [(0, .ref (ad (20, u1, 0))), (1, .ref (ad (20, u2, 0)))] []) : ∀ (n : Nat) {V : gz_V} {v2 : Int32}, x1_moves_L31 N u1 u2 n V v2 = some W1 → gW X 3 (xw_s Ds) (xw_c Df) ad V 0 0 31 [(0, .ref (ad (20, u1, 0))), (1, .ref (ad (20, u2, 0))), (2, .int v2)] [] := by
  intro n
  induction n with
  | zero => intro V v2 h; rw [x1_moves_L31] at h; cases h
  | succ n ih =>
    intro V v2 h
    rw [x1_moves_L31] at h
    refine gz_iload_n (q := 2) hX dX1_moves_31 rfl rfl ?_
    refine gz_bipush (v := 10) hX dX1_moves_32 gl_b_10 ?_
    refine gz_icmp_ge (tgt := 58) hX dX1_moves_34 (by decide) (fun c3 => ?_) (fun c3 => ?_)
    · have h := gz_ifp c3 h
      obtain rfl := gz_in1 h
      exact gz_lv [0, 1] rfl k
    · have h := gz_ifn c3 h
      refine gz_aload_n (q := 0) hX dX1_moves_37 rfl rfl ?_
      refine xg_X1_19 (n2 := (22, u1, 0)) hX (xs_M hu1) rfl dX1_moves_38 ?_
      refine gz_iload_n (q := 2) hX dX1_moves_41 rfl rfl ?_
      obtain ⟨b4, h⟩ := gz_gd_o h
      refine gz_aald (L := 10) (t := 111) (t0 := 4) (ty := (.object "ClaspedFair$Horse")) (n2 := (42, u1, v2.toNatClampNeg)) hX (by decide) (by decide) (fun _ => rfl) rfl (xs_HA hu1) (gz_inb_o b4) (xr_HA (gz_inb_lt b4)) dX1_moves_42 ?_
      refine gz_aload_n (q := 1) hX dX1_moves_43 rfl rfl ?_
      refine xg_X1_19 (n2 := (22, u2, 0)) hX (xs_M hu2) rfl dX1_moves_44 ?_
      refine gz_iload_n (q := 2) hX dX1_moves_47 rfl rfl ?_
      obtain ⟨b5, h⟩ := gz_gd_o h
      refine gz_aald (L := 10) (t := 111) (t0 := 4) (ty := (.object "ClaspedFair$Horse")) (n2 := (42, u2, v2.toNatClampNeg)) hX (by decide) (by decide) (fun _ => rfl) rfl (xs_HA hu2) (gz_inb_o b5) (xr_HA (gz_inb_lt b5)) dX1_moves_48 ?_
      obtain ⟨V6, e7, h⟩ := gz_bd_o h
      refine gu_callV (ci := 5) (n := (42, u1, v2.toNatClampNeg)) (As := [.ref (ad (42, u2, v2.toNatClampNeg))]) hX (c_x5_takes hu1 (gz_inb_lt b4) hu2 (gz_inb_lt b5) e7) (lw_x5_takes_ q1031) rfl rfl nn_x5_takes ⟨Nat.le_of_ble_eq_true rfl, Nat.le_of_ble_eq_true rfl⟩ ⟨Nat.zero_le _, Nat.zero_le _⟩ (by decide) rfl (xs_H hu1 (gz_inb_lt b4)) rfl rfl (Nat.le_of_ble_eq_true rfl) dX1_moves_49 rfl ?_
      refine gz_iinc (q := 2) (lv2 := [(2, .int (v2 + 1)), (0, .ref (ad (20, u1, 0))), (1, .ref (ad (20, u2, 0)))]) hX dX1_moves_52 rfl gl_c_1 (by decide) rfl ?_
      refine gz_goto (tgt := 31) hX dX1_moves_55 (by decide) ?_
      exact gz_lv [1, 2, 0] rfl (ih h)
noncomputable def x1_moves (N : Nat) (V : gz_V) (u1 : Nat) (u2 : Nat) : Option (gz_V) := gz_bd (x1_moves_L2 N u1 u2 N V 0) (fun V1 => gz_bd (x1_moves_L31 N u1 u2 N V1 0) (fun V3 => gz_let (gz_up V3 (20, u1, 0) 15 (V3 (20, u2, 0) 15)) (fun V5 => gz_let (gz_up V5 (20, u1, 0) 16 (V5 (20, u2, 0) 16)) (fun V7 => gz_let (gz_up V7 (20, u1, 0) 17 (V7 (20, u2, 0) 17)) (fun V9 => gz_let (gz_up V9 (20, u1, 0) 18 (V9 (20, u2, 0) 18)) (fun V11 => gz_let (gz_up V11 (20, u1, 0) 19 (V11 (20, u2, 0) 19)) (fun V13 => some V13)))))))
theorem c_x1_moves {l : Launch} {D : va_G} {aC : Nat → ClassId} {ad : gz_A0} {N : Nat} {Ds : gz_S} {Df : gz_R} {V : gz_V} {u1 : Nat} {u2 : Nat} {W1 : gz_V} (hu1 : u1 < 9) (hu2 : u2 < 9) (h : x1_moves N V u1 u2 = some W1) : gz_Met l yX1_moves cX1_moves 3 none rm_x1_moves D aC ad (xw_s Ds) V (xw_c Df) [.ref (ad (20, u1, 0)), .ref (ad (20, u2, 0))] (gz_F1 (xw_s Ds) (xw_c Df) ad W1 none) 0 0 := by
  refine gu_ofW (own := RX1) (mn := "moves") (lv := [(0, .ref (ad (20, u1, 0))), (1, .ref (ad (20, u2, 0)))]) (by decide) rfl rfl (Nat.le_of_ble_eq_true rfl) rfl ?_
  intro X hX hZ hF
  rw [x1_moves] at h
  refine gz_iconst (v := 0) hX dX1_moves_0 gl_c_0 ?_
  refine gz_istore_n (lv2 := [(2, .int 0), (0, .ref (ad (20, u1, 0))), (1, .ref (ad (20, u2, 0)))]) hX dX1_moves_1 rfl (by decide) rfl ?_
  obtain ⟨V1, e2, h⟩ := gz_bd_o h
  refine gz_lv [1, 2, 0] rfl (w_x1_moves_L2 hX hZ hu1 hu2 ?_ N e2)
  refine gz_iconst (v := 0) hX dX1_moves_29 gl_c_0 ?_
  refine gz_istore_n (lv2 := [(2, .int 0), (0, .ref (ad (20, u1, 0))), (1, .ref (ad (20, u2, 0)))]) hX dX1_moves_30 rfl (by decide) rfl ?_
  obtain ⟨V3, e4, h⟩ := gz_bd_o h
  refine gz_lv [1, 2, 0] rfl (w_x1_moves_L31 hX hZ hu1 hu2 ?_ N e4)
  refine gz_aload_n (q := 0) hX dX1_moves_58 rfl rfl ?_
  refine gz_aload_n (q := 1) hX dX1_moves_59 rfl rfl ?_
  refine xg_X1_82 hX (xs_M hu2) dX1_moves_60 ?_
  obtain ⟨V5, e6, h⟩ := gz_let_o h
  refine xp_X1_82 hX (xs_M hu1) (gz_ne0 19 rfl) dX1_moves_63 e6 ?_
  refine gz_aload_n (q := 0) hX dX1_moves_66 rfl rfl ?_
  refine gz_aload_n (q := 1) hX dX1_moves_67 rfl rfl ?_
  refine xg_X1_86 hX (xs_M hu2) dX1_moves_68 ?_
  obtain ⟨V7, e8, h⟩ := gz_let_o h
  refine xp_X1_86 hX (xs_M hu1) (gz_ne0 19 rfl) dX1_moves_71 e8 ?_
  refine gz_aload_n (q := 0) hX dX1_moves_74 rfl rfl ?_
  refine gz_aload_n (q := 1) hX dX1_moves_75 rfl rfl ?_
  refine xg_X1_89 hX (xs_M hu2) dX1_moves_76 ?_
  obtain ⟨V9, e10, h⟩ := gz_let_o h
  refine xp_X1_89 hX (xs_M hu1) (gz_ne0 19 rfl) dX1_moves_79 e10 ?_
  refine gz_aload_n (q := 0) hX dX1_moves_82 rfl rfl ?_
  refine gz_aload_n (q := 1) hX dX1_moves_83 rfl rfl ?_
  refine xg_X1_92 hX (xs_M hu2) dX1_moves_84 ?_
  obtain ⟨V11, e12, h⟩ := gz_let_o h
  refine xp_X1_92 hX (xs_M hu1) (gz_ne0 19 rfl) dX1_moves_87 e12 ?_
  refine gz_aload_n (q := 0) hX dX1_moves_90 rfl rfl ?_
  refine gz_aload_n (q := 1) hX dX1_moves_91 rfl rfl ?_
  refine xg_X1_95 hX (xs_M hu2) dX1_moves_92 ?_
  obtain ⟨V13, e14, h⟩ := gz_let_o h
  refine xp_X1_95 hX (xs_M hu1) (gz_ne0 19 rfl) dX1_moves_95 e14 ?_
  exact gu_vret hX hZ hF (gz_in1 h) rfl dX1_moves_98
theorem lw_x1_moves_ {o : String} {i : Nat} (hl : Cond.methodLink o i yX1_moves ∈ lw_all) : GoodIn lw_all (wsV o i RX1 yX1_moves (ws_ yX1_moves cX1_moves 3 none)) := lw_V hl q1024 q1025 q145 q1026
theorem nn_x1_moves : yX1_moves.cls = RX1 ∧ yX1_moves.cls ≠ "java/lang/invoke/MethodHandle" ∧ yX1_moves.cls ≠ "java/lang/invoke/VarHandle" ∧ (parseMethodDescriptor yX1_moves.desc).map (fun d => d.parameters.length) = some 1 := by decide +kernel
theorem gl_b_6 : (Int8.ofInt 6).toInt32 = 6 := by decide
def rm_x0_remembers : Room := { frames := 3, cells := 0, slots := 0, locals := 66 }
noncomputable def x0_remembers_L18 (N : Nat) (Ds : gz_S) (V : gz_V) (w1_0 : Nat) : Nat → gz_R → Int32 → Option (gz_R)
  | 0, _, _ => none
  | n + 1, Df, v2 => (if 6 ≤ v2 then some Df else gz_gd (gz_inb v2 6 = true) (gz_bd (gz_mk (Df (11, 7, 0) v2.toNatClampNeg)) (fun u6 => gz_gd (gz_inb (v2 - 1) 6 = true) (gz_let (gz_ur Df (11, 7, 0) (v2 - 1).toNatClampNeg (some (20, u6, 0))) (fun D9 => x0_remembers_L18 N Ds V w1_0 n D9 (v2 + 1))))))
theorem w_x0_remembers_L18 {X : gz_X} {ad : gz_A0} {N : Nat} {Ds : gz_S} {V : gz_V} {w1_0 : Nat} {E1 : gz_R} (hX : gz_ok X cX0_remembers RX0 "remembers" 3 rm_x0_remembers none) (hZ : gz_Z X) (hw1_0 : w1_0 < 9) (k : gW X 3 (xw_s Ds) (xw_c E1) ad V 0 0 44 [(0, .ref (ad (10, 0, 0))), (1, .ref (ad (20, w1_0, 0)))] []) : ∀ (n : Nat) {Df : gz_R} {v2 : Int32}, x0_remembers_L18 N Ds V w1_0 n Df v2 = some E1 → gW X 3 (xw_s Ds) (xw_c Df) ad V 0 0 18 [(0, .ref (ad (10, 0, 0))), (1, .ref (ad (20, w1_0, 0))), (2, .int v2)] [] := by
  intro n
  induction n with
  | zero => intro Df v2 h; rw [x0_remembers_L18] at h; cases h
  | succ n ih =>
    intro Df v2 h
    rw [x0_remembers_L18] at h
    refine gz_iload_n (q := 2) hX dX0_remembers_18 rfl rfl ?_
    refine gz_bipush (v := 6) hX dX0_remembers_19 gl_b_6 ?_
    refine gz_icmp_ge (tgt := 44) hX dX0_remembers_21 (by decide) (fun c4 => ?_) (fun c4 => ?_)
    · have h := gz_ifp c4 h
      obtain rfl := gz_in1 h
      exact gz_lv [0, 1] rfl k
    · have h := gz_ifn c4 h
      refine gz_aload_n (q := 0) hX dX0_remembers_24 rfl rfl ?_
      refine xg_X0_30 (n2 := (11, 7, 0)) hX xs_main rfl dX0_remembers_25 ?_
      refine gz_iload_n (q := 2) hX dX0_remembers_28 rfl rfl ?_
      refine gz_iconst (v := 1) hX dX0_remembers_29 gl_c_1 ?_
      refine gz_isub hX dX0_remembers_30 ?_
      refine gz_aload_n (q := 0) hX dX0_remembers_31 rfl rfl ?_
      refine xg_X0_30 (n2 := (11, 7, 0)) hX xs_main rfl dX0_remembers_32 ?_
      refine gz_iload_n (q := 2) hX dX0_remembers_35 rfl rfl ?_
      obtain ⟨b5, h⟩ := gz_gd_o h
      obtain ⟨u6, e7, h⟩ := gz_bd_o h
      refine gz_aald (L := 6) (t := 113) (t0 := 6) (ty := (.object "ClaspedFair$Market")) (n2 := (20, u6, 0)) hX (by decide) (by decide) (fun _ => rfl) rfl xs_back (gz_inb_o b5) (gz_mk_o e7).1 dX0_remembers_36 ?_
      obtain ⟨b8, h⟩ := gz_gd_o h
      obtain ⟨D9, e10, h⟩ := gz_let_o h
      refine gz_aast (L := 6) (t := 113) (t0 := 6) (ci := 1) hX (by decide) (by decide) (fun _ => rfl) xs_back (by decide) (by decide) rfl (xs_M (gz_mk_o e7).2) (Or.inl rfl) (gz_inb_o b8) dX0_remembers_37 (xr_urB.trans (congrArg xw_c e10)) ?_
      refine gz_iinc (q := 2) (lv2 := [(2, .int (v2 + 1)), (0, .ref (ad (10, 0, 0))), (1, .ref (ad (20, w1_0, 0)))]) hX dX0_remembers_38 rfl gl_c_1 (by decide) rfl ?_
      refine gz_goto (tgt := 18) hX dX0_remembers_41 (by decide) ?_
      exact gz_lv [1, 2, 0] rfl (ih h)
noncomputable def x0_remembers (N : Nat) (Ds : gz_S) (Df : gz_R) (V : gz_V) : Option (gz_V × gz_R) := gz_b2 (if (V (10, 0, 0) 8) = 6 then gz_bd (gz_mk (Df (11, 7, 0) (0 : Int32).toNatClampNeg)) (fun u6 => gz_bd (x0_remembers_L18 N Ds V u6 N Df 1) (fun D8 => gz_let (gz_ur D8 (11, 7, 0) (5 : Int32).toNatClampNeg (some (20, u6, 0))) (fun D10 => gz_let (gz_up V (10, 0, 0) 8 ((V (10, 0, 0) 8) - 1)) (fun V12 => some (V12, D10))))) else some (V, Df)) (fun V1 D2 => gz_gd (gz_inb (V1 (10, 0, 0) 8) 6 = true) (gz_bd (gz_mk (D2 (11, 7, 0) (V1 (10, 0, 0) 8).toNatClampNeg)) (fun u15 => gz_bd (x1_moves N V1 u15 0) (fun V17 => gz_let (gz_up V17 (10, 0, 0) 8 ((V17 (10, 0, 0) 8) + 1)) (fun V19 => some (V19, D2))))))
theorem c_x0_remembers {l : Launch} {D : va_G} {aC : Nat → ClassId} {ad : gz_A0} {N : Nat} {Ds : gz_S} {Df : gz_R} {V : gz_V} {W1 : gz_V} {E1 : gz_R} (h : x0_remembers N Ds Df V = some (W1, E1)) : gz_Met l yX0_remembers cX0_remembers 3 none rm_x0_remembers D aC ad (xw_s Ds) V (xw_c Df) [.ref (ad (10, 0, 0))] (gz_F1 (xw_s Ds) (xw_c E1) ad W1 none) 0 0 := by
  refine gu_ofW (own := RX0) (mn := "remembers") (lv := [(0, .ref (ad (10, 0, 0)))]) (by decide) rfl rfl (Nat.le_of_ble_eq_true rfl) rfl ?_
  intro X hX hZ hF
  rw [x0_remembers] at h
  refine gz_aload_n (q := 0) hX dX0_remembers_0 rfl rfl ?_
  refine xg_X0_130 hX xs_main dX0_remembers_1 ?_
  refine gz_bipush (v := 6) hX dX0_remembers_4 gl_b_6 ?_
  obtain ⟨V1, D2, g3, h⟩ := gz_b2_o h
  have J4 : gW X 3 (xw_s Ds) (xw_c D2) ad V1 0 0 61 [(0, .ref (ad (10, 0, 0)))] [] := by
    refine gz_aload_n (q := 0) hX dX0_remembers_61 rfl rfl ?_
    refine xg_X0_30 (n2 := (11, 7, 0)) hX xs_main rfl dX0_remembers_62 ?_
    refine gz_aload_n (q := 0) hX dX0_remembers_65 rfl rfl ?_
    refine xg_X0_130 hX xs_main dX0_remembers_66 ?_
    obtain ⟨b14, h⟩ := gz_gd_o h
    obtain ⟨u15, e16, h⟩ := gz_bd_o h
    refine gz_aald (L := 6) (t := 113) (t0 := 6) (ty := (.object "ClaspedFair$Market")) (n2 := (20, u15, 0)) hX (by decide) (by decide) (fun _ => rfl) rfl xs_back (gz_inb_o b14) (gz_mk_o e16).1 dX0_remembers_69 ?_
    refine gz_aload_n (q := 0) hX dX0_remembers_70 rfl rfl ?_
    refine xg_X0_20 (n2 := (20, 0, 0)) hX xs_main rfl dX0_remembers_71 ?_
    obtain ⟨V17, e18, h⟩ := gz_bd_o h
    refine gu_callV (ci := 1) (n := (20, u15, 0)) (As := [.ref (ad (20, 0, 0))]) hX (c_x1_moves (gz_mk_o e16).2 (by decide) e18) (lw_x1_moves_ q1023) rfl rfl nn_x1_moves ⟨Nat.le_of_ble_eq_true rfl, Nat.le_of_ble_eq_true rfl⟩ ⟨Nat.zero_le _, Nat.zero_le _⟩ (by decide) rfl (xs_M (gz_mk_o e16).2) rfl rfl (Nat.le_of_ble_eq_true rfl) dX0_remembers_74 rfl ?_
    refine gz_aload_n (q := 0) hX dX0_remembers_77 rfl rfl ?_
    refine gz_dupa hX dX0_remembers_78 ?_
    refine xg_X0_130 hX xs_main dX0_remembers_79 ?_
    refine gz_iconst (v := 1) hX dX0_remembers_82 gl_c_1 ?_
    refine gz_iadd hX dX0_remembers_83 ?_
    obtain ⟨V19, e20, h⟩ := gz_let_o h
    refine xp_X0_130 hX xs_main (gz_ne0 9 rfl) dX0_remembers_84 e20 ?_
    obtain ⟨e_V, e_D⟩ := gz_in2 h
    exact gu_vret hX hZ hF e_V (congrArg xw_c e_D) dX0_remembers_87
  refine gz_icmp_ne (tgt := 61) hX dX0_remembers_6 (by decide) (fun c5 => ?_) (fun c5 => ?_)
  · have g3 := gz_ifn c5 g3
    obtain ⟨rfl, rfl⟩ := gz_in2 g3
    exact gz_lv [0] rfl J4
  · have g3 := gz_ifp c5 g3
    refine gz_aload_n (q := 0) hX dX0_remembers_9 rfl rfl ?_
    refine xg_X0_30 (n2 := (11, 7, 0)) hX xs_main rfl dX0_remembers_10 ?_
    refine gz_iconst (v := 0) hX dX0_remembers_13 gl_c_0 ?_
    obtain ⟨u6, e7, g3⟩ := gz_bd_o g3
    refine gz_aald (L := 6) (t := 113) (t0 := 6) (ty := (.object "ClaspedFair$Market")) (n2 := (20, u6, 0)) hX (by decide) (by decide) (fun _ => rfl) rfl xs_back (gz_inb_o (by decide)) (gz_mk_o e7).1 dX0_remembers_14 ?_
    refine gz_astore_n (lv2 := [(1, .ref (ad (20, u6, 0))), (0, .ref (ad (10, 0, 0)))]) hX dX0_remembers_15 rfl (by decide) rfl ?_
    refine gz_iconst (v := 1) hX dX0_remembers_16 gl_c_1 ?_
    refine gz_istore_n (lv2 := [(2, .int 1), (1, .ref (ad (20, u6, 0))), (0, .ref (ad (10, 0, 0)))]) hX dX0_remembers_17 rfl (by decide) rfl ?_
    obtain ⟨D8, e9, g3⟩ := gz_bd_o g3
    refine gz_lv [2, 1, 0] rfl (w_x0_remembers_L18 hX hZ (gz_mk_o e7).2 ?_ N e9)
    refine gz_aload_n (q := 0) hX dX0_remembers_44 rfl rfl ?_
    refine xg_X0_30 (n2 := (11, 7, 0)) hX xs_main rfl dX0_remembers_45 ?_
    refine gz_iconst (v := 5) hX dX0_remembers_48 gl_c_5 ?_
    refine gz_aload_n (q := 1) hX dX0_remembers_49 rfl rfl ?_
    obtain ⟨D10, e11, g3⟩ := gz_let_o g3
    refine gz_aast (L := 6) (t := 113) (t0 := 6) (ci := 1) hX (by decide) (by decide) (fun _ => rfl) xs_back (by decide) (by decide) rfl (xs_M (gz_mk_o e7).2) (Or.inl rfl) (gz_inb_o (by decide)) dX0_remembers_50 (xr_urB.trans (congrArg xw_c e11)) ?_
    refine gz_aload_n (q := 0) hX dX0_remembers_51 rfl rfl ?_
    refine gz_dupa hX dX0_remembers_52 ?_
    refine xg_X0_130 hX xs_main dX0_remembers_53 ?_
    refine gz_iconst (v := 1) hX dX0_remembers_56 gl_c_1 ?_
    refine gz_isub hX dX0_remembers_57 ?_
    obtain ⟨V12, e13, g3⟩ := gz_let_o g3
    refine xp_X0_130 hX xs_main (gz_ne0 9 rfl) dX0_remembers_58 e13 ?_
    obtain ⟨rfl, rfl⟩ := gz_in2 g3
    exact gz_lv [0] rfl J4
theorem lw_x0_remembers_ {o : String} {i : Nat} (hl : Cond.methodLink o i yX0_remembers ∈ lw_all) : GoodIn lw_all (wsV o i RX0 yX0_remembers (ws_ yX0_remembers cX0_remembers 3 none)) := lw_V hl q1156 qs37 q144 q1157
theorem nn_x0_remembers : yX0_remembers.cls = RX0 ∧ yX0_remembers.cls ≠ "java/lang/invoke/MethodHandle" ∧ yX0_remembers.cls ≠ "java/lang/invoke/VarHandle" ∧ (parseMethodDescriptor yX0_remembers.desc).map (fun d => d.parameters.length) = some 0 := by decide +kernel
theorem gl_s_150 : (Int16.ofInt 150).toInt32 = 150 := by decide
def rm_x1_notes : Room := { frames := 0, cells := 0, slots := 0, locals := 0 }
noncomputable def x1_notes (V : gz_V) (u1 : Nat) (a1 : Int32) (a2 : Int32) (a3 : Int32) : Option (gz_V) := (if (V (20, u1, 0) 21) = 0 then (if (V (20, u1, 0) 19) = 150 then some V else gz_gd (gz_inb (V (20, u1, 0) 19) 150 = true) (gz_let ((V (20, u1, 0) 19).toNatClampNeg) (fun w4 => gz_let (gz_up V (26, u1, w4) (0 : Int32).toNatClampNeg (V (20, u1, 0) 17)) (fun V6 => gz_let (gz_up V6 (26, u1, w4) (1 : Int32).toNatClampNeg a1) (fun V8 => gz_let (gz_up V8 (26, u1, w4) (2 : Int32).toNatClampNeg a2) (fun V10 => gz_let (gz_up V10 (26, u1, w4) (3 : Int32).toNatClampNeg a3) (fun V12 => gz_let (gz_up V12 (20, u1, 0) 19 ((V12 (20, u1, 0) 19) + 1)) (fun V14 => some V14)))))))) else some V)
theorem c_x1_notes {l : Launch} {D : va_G} {aC : Nat → ClassId} {ad : gz_A0} {Ds : gz_S} {Df : gz_R} {V : gz_V} {u1 : Nat} {a1 : Int32} {a2 : Int32} {a3 : Int32} {W1 : gz_V} (hu1 : u1 < 9) (h : x1_notes V u1 a1 a2 a3 = some W1) : gz_Met l yX1_notes cX1_notes 5 none rm_x1_notes D aC ad (xw_s Ds) V (xw_c Df) [.ref (ad (20, u1, 0)), .int a1, .int a2, .int a3] (gz_F1 (xw_s Ds) (xw_c Df) ad W1 none) 0 0 := by
  refine gu_ofW (own := RX1) (mn := "notes") (lv := [(0, .ref (ad (20, u1, 0))), (1, .int a1), (2, .int a2), (3, .int a3)]) (by decide) rfl rfl (Nat.le_of_ble_eq_true rfl) rfl ?_
  intro X hX hZ hF
  rw [x1_notes] at h
  refine gz_aload_n (q := 0) hX dX1_notes_0 rfl rfl ?_
  refine xg_X1_119 hX (xs_M hu1) dX1_notes_1 ?_
  refine gz_if_ne (tgt := 17) hX dX1_notes_4 (by decide) (fun c1 => ?_) (fun c1 => ?_)
  · have h := gz_ifn c1 h
    exact gu_vret hX hZ hF (gz_in1 h) rfl dX1_notes_17
  · have h := gz_ifp c1 h
    refine gz_aload_n (q := 0) hX dX1_notes_7 rfl rfl ?_
    refine xg_X1_95 hX (xs_M hu1) dX1_notes_8 ?_
    refine gz_sipush (v := 150) hX dX1_notes_11 gl_s_150 ?_
    refine gz_icmp_ne (tgt := 18) hX dX1_notes_14 (by decide) (fun c2 => ?_) (fun c2 => ?_)
    · have h := gz_ifn c2 h
      refine gz_aload_n (q := 0) hX dX1_notes_18 rfl rfl ?_
      refine xg_X1_32 (n2 := (25, u1, 0)) hX (xs_M hu1) rfl dX1_notes_19 ?_
      refine gz_aload_n (q := 0) hX dX1_notes_22 rfl rfl ?_
      refine xg_X1_95 hX (xs_M hu1) dX1_notes_23 ?_
      obtain ⟨b3, h⟩ := gz_gd_o h
      refine gz_aald (L := 150) (t := 112) (t0 := 5) (ty := (.array .int)) (n2 := (26, u1, (V (20, u1, 0) 19).toNatClampNeg)) hX (by decide) (by decide) (fun _ => rfl) rfl (xs_BA hu1) (gz_inb_o b3) (xr_BA (gz_inb_lt b3)) dX1_notes_26 ?_
      obtain ⟨w4, e5, h⟩ := gz_let_o h
      refine gz_nmr (congrArg (fun z_ => ((26, u1, z_) : gz_N)) e5) ?_
      refine gz_astore (lv2 := [(4, .ref (ad (26, u1, w4))), (0, .ref (ad (20, u1, 0))), (1, .int a1), (2, .int a2), (3, .int a3)]) hX dX1_notes_27 (by decide) rfl ?_
      refine gz_aload (q := 0) hX dX1_notes_29 rfl ?_
      refine gz_iconst (v := 0) hX dX1_notes_31 gl_c_0 ?_
      refine gz_aload_n (q := 1) hX dX1_notes_32 rfl rfl ?_
      refine xg_X1_89 hX (xs_M hu1) dX1_notes_33 ?_
      obtain ⟨V6, e7, h⟩ := gz_let_o h
      refine gz_iast (L := 4) hX (xs_BR hu1 (e5 ▸ (gz_inb_lt b3))) (gz_ne0 25 rfl) (gz_inb_o (by decide)) dX1_notes_36 e7 ?_
      refine gz_aload (q := 0) hX dX1_notes_37 rfl ?_
      refine gz_iconst (v := 1) hX dX1_notes_39 gl_c_1 ?_
      refine gz_iload_n (q := 2) hX dX1_notes_40 rfl rfl ?_
      obtain ⟨V8, e9, h⟩ := gz_let_o h
      refine gz_iast (L := 4) hX (xs_BR hu1 (e5 ▸ (gz_inb_lt b3))) (gz_ne0 25 rfl) (gz_inb_o (by decide)) dX1_notes_41 e9 ?_
      refine gz_aload (q := 0) hX dX1_notes_42 rfl ?_
      refine gz_iconst (v := 2) hX dX1_notes_44 gl_c_2 ?_
      refine gz_iload_n (q := 3) hX dX1_notes_45 rfl rfl ?_
      obtain ⟨V10, e11, h⟩ := gz_let_o h
      refine gz_iast (L := 4) hX (xs_BR hu1 (e5 ▸ (gz_inb_lt b3))) (gz_ne0 25 rfl) (gz_inb_o (by decide)) dX1_notes_46 e11 ?_
      refine gz_aload (q := 0) hX dX1_notes_47 rfl ?_
      refine gz_iconst (v := 3) hX dX1_notes_49 gl_c_3 ?_
      refine gz_iload_n (q := 4) hX dX1_notes_50 rfl rfl ?_
      obtain ⟨V12, e13, h⟩ := gz_let_o h
      refine gz_iast (L := 4) hX (xs_BR hu1 (e5 ▸ (gz_inb_lt b3))) (gz_ne0 25 rfl) (gz_inb_o (by decide)) dX1_notes_51 e13 ?_
      refine gz_aload_n (q := 1) hX dX1_notes_52 rfl rfl ?_
      refine gz_dupa hX dX1_notes_53 ?_
      refine xg_X1_95 hX (xs_M hu1) dX1_notes_54 ?_
      refine gz_iconst (v := 1) hX dX1_notes_57 gl_c_1 ?_
      refine gz_iadd hX dX1_notes_58 ?_
      obtain ⟨V14, e15, h⟩ := gz_let_o h
      refine xp_X1_95 hX (xs_M hu1) (gz_ne0 19 rfl) dX1_notes_59 e15 ?_
      exact gu_vret hX hZ hF (gz_in1 h) rfl dX1_notes_62
    · have h := gz_ifp c2 h
      exact gu_vret hX hZ hF (gz_in1 h) rfl dX1_notes_17
theorem lw_x1_notes_ {o : String} {i : Nat} (hl : Cond.methodLink o i yX1_notes ∈ lw_all) : GoodIn lw_all (wsV o i RX1 yX1_notes (ws_ yX1_notes cX1_notes 5 none)) := lw_V hl q1165 qs38 q145 q1166
theorem nn_x1_notes : yX1_notes.cls = RX1 ∧ yX1_notes.cls ≠ "java/lang/invoke/MethodHandle" ∧ yX1_notes.cls ≠ "java/lang/invoke/VarHandle" ∧ (parseMethodDescriptor yX1_notes.desc).map (fun d => d.parameters.length) = some 3 := by decide +kernel
def rm_x1_shifts : Room := { frames := 0, cells := 0, slots := 0, locals := 0 }
noncomputable def x1_shifts (V : gz_V) (u1 : Nat) (a1 : Int32) (a2 : Int32) : Option (gz_V) := gz_gd (gz_inb a1 5 = true) (gz_gd (gz_inb a1 5 = true) (gz_let ((a2 * ((V (24, u1, 1) a1.toNatClampNeg) - (V (24, u1, 0) a1.toNatClampNeg)))) (fun x3 => gz_gd (gz_inb (V (23, u1, 0) 2) 12 = true) (gz_gd (gz_inb a1 5 = true) (gz_gd (gz_inb a1 5 = true) (gz_let (gz_up V (41, u1, (V (23, u1, 0) 2).toNatClampNeg) a1.toNatClampNeg ((V (41, u1, (V (23, u1, 0) 2).toNatClampNeg) a1.toNatClampNeg) + x3)) (fun V8 => gz_gd (gz_inb (V8 (23, u1, 0) 3) 12 = true) (gz_gd (gz_inb a1 5 = true) (gz_gd (gz_inb a1 5 = true) (gz_let (gz_up V8 (41, u1, (V8 (23, u1, 0) 3).toNatClampNeg) a1.toNatClampNeg ((V8 (41, u1, (V8 (23, u1, 0) 3).toNatClampNeg) a1.toNatClampNeg) - x3)) (fun V13 => some V13)))))))))))
theorem c_x1_shifts {l : Launch} {D : va_G} {aC : Nat → ClassId} {ad : gz_A0} {Ds : gz_S} {Df : gz_R} {V : gz_V} {u1 : Nat} {a1 : Int32} {a2 : Int32} {W1 : gz_V} (hu1 : u1 < 9) (h : x1_shifts V u1 a1 a2 = some W1) : gz_Met l yX1_shifts cX1_shifts 4 none rm_x1_shifts D aC ad (xw_s Ds) V (xw_c Df) [.ref (ad (20, u1, 0)), .int a1, .int a2] (gz_F1 (xw_s Ds) (xw_c Df) ad W1 none) 0 0 := by
  refine gu_ofW (own := RX1) (mn := "shifts") (lv := [(0, .ref (ad (20, u1, 0))), (1, .int a1), (2, .int a2)]) (by decide) rfl rfl (Nat.le_of_ble_eq_true rfl) rfl ?_
  intro X hX hZ hF
  rw [x1_shifts] at h
  refine gz_iload_n (q := 2) hX dX1_shifts_0 rfl rfl ?_
  refine gz_aload_n (q := 0) hX dX1_shifts_1 rfl rfl ?_
  refine xg_X1_26 (n2 := (23, u1, 0)) hX (xs_M hu1) rfl dX1_shifts_2 ?_
  refine xg_X1_225 (n2 := (24, u1, 1)) hX (xs_G hu1) rfl dX1_shifts_5 ?_
  refine gz_iload_n (q := 1) hX dX1_shifts_8 rfl rfl ?_
  obtain ⟨b1, h⟩ := gz_gd_o h
  refine gz_iald (L := 5) hX (xs_OA hu1 (by decide)) (gz_inb_o b1) dX1_shifts_9 ?_
  refine gz_aload_n (q := 0) hX dX1_shifts_10 rfl rfl ?_
  refine xg_X1_26 (n2 := (23, u1, 0)) hX (xs_M hu1) rfl dX1_shifts_11 ?_
  refine xg_X1_219 (n2 := (24, u1, 0)) hX (xs_G hu1) rfl dX1_shifts_14 ?_
  refine gz_iload_n (q := 1) hX dX1_shifts_17 rfl rfl ?_
  obtain ⟨b2, h⟩ := gz_gd_o h
  refine gz_iald (L := 5) hX (xs_OA hu1 (by decide)) (gz_inb_o b2) dX1_shifts_18 ?_
  refine gz_isub hX dX1_shifts_19 ?_
  refine gz_imul hX dX1_shifts_20 ?_
  obtain ⟨x3, e4, h⟩ := gz_let_o h
  refine gz_nm e4 ?_
  refine gz_istore_n (lv2 := [(3, .int x3), (0, .ref (ad (20, u1, 0))), (1, .int a1), (2, .int a2)]) hX dX1_shifts_21 rfl (by decide) rfl ?_
  refine gz_aload_n (q := 1) hX dX1_shifts_22 rfl rfl ?_
  refine xg_X1_11 (n2 := (21, u1, 0)) hX (xs_M hu1) rfl dX1_shifts_23 ?_
  refine gz_aload_n (q := 1) hX dX1_shifts_26 rfl rfl ?_
  refine xg_X1_26 (n2 := (23, u1, 0)) hX (xs_M hu1) rfl dX1_shifts_27 ?_
  refine xg_X1_210 hX (xs_G hu1) dX1_shifts_30 ?_
  obtain ⟨b5, h⟩ := gz_gd_o h
  refine gz_aald (L := 12) (t := 110) (t0 := 3) (ty := (.object "ClaspedFair$Person")) (n2 := (40, u1, (V (23, u1, 0) 2).toNatClampNeg)) hX (by decide) (by decide) (fun _ => rfl) rfl (xs_PA hu1) (gz_inb_o b5) (xr_PA (gz_inb_lt b5)) dX1_shifts_33 ?_
  refine xg_X1_135 (n2 := (41, u1, (V (23, u1, 0) 2).toNatClampNeg)) hX (xs_P hu1 (gz_inb_lt b5)) rfl dX1_shifts_34 ?_
  refine gz_iload_n (q := 2) hX dX1_shifts_37 rfl rfl ?_
  refine gz_dup2 hX dX1_shifts_38 rfl rfl ?_
  obtain ⟨b6, h⟩ := gz_gd_o h
  refine gz_iald (L := 5) hX (xs_T hu1 (gz_inb_lt b5)) (gz_inb_o b6) dX1_shifts_39 ?_
  refine gz_iload_n (q := 0) hX dX1_shifts_40 rfl rfl ?_
  refine gz_iadd hX dX1_shifts_41 ?_
  obtain ⟨b7, h⟩ := gz_gd_o h
  obtain ⟨V8, e9, h⟩ := gz_let_o h
  refine gz_iast (L := 5) hX (xs_T hu1 (gz_inb_lt b5)) (gz_ne0 40 rfl) (gz_inb_o b7) dX1_shifts_42 e9 ?_
  refine gz_aload_n (q := 1) hX dX1_shifts_43 rfl rfl ?_
  refine xg_X1_11 (n2 := (21, u1, 0)) hX (xs_M hu1) rfl dX1_shifts_44 ?_
  refine gz_aload_n (q := 1) hX dX1_shifts_47 rfl rfl ?_
  refine xg_X1_26 (n2 := (23, u1, 0)) hX (xs_M hu1) rfl dX1_shifts_48 ?_
  refine xg_X1_213 hX (xs_G hu1) dX1_shifts_51 ?_
  obtain ⟨b10, h⟩ := gz_gd_o h
  refine gz_aald (L := 12) (t := 110) (t0 := 3) (ty := (.object "ClaspedFair$Person")) (n2 := (40, u1, (V8 (23, u1, 0) 3).toNatClampNeg)) hX (by decide) (by decide) (fun _ => rfl) rfl (xs_PA hu1) (gz_inb_o b10) (xr_PA (gz_inb_lt b10)) dX1_shifts_54 ?_
  refine xg_X1_135 (n2 := (41, u1, (V8 (23, u1, 0) 3).toNatClampNeg)) hX (xs_P hu1 (gz_inb_lt b10)) rfl dX1_shifts_55 ?_
  refine gz_iload_n (q := 2) hX dX1_shifts_58 rfl rfl ?_
  refine gz_dup2 hX dX1_shifts_59 rfl rfl ?_
  obtain ⟨b11, h⟩ := gz_gd_o h
  refine gz_iald (L := 5) hX (xs_T hu1 (gz_inb_lt b10)) (gz_inb_o b11) dX1_shifts_60 ?_
  refine gz_iload_n (q := 0) hX dX1_shifts_61 rfl rfl ?_
  refine gz_isub hX dX1_shifts_62 ?_
  obtain ⟨b12, h⟩ := gz_gd_o h
  obtain ⟨V13, e14, h⟩ := gz_let_o h
  refine gz_iast (L := 5) hX (xs_T hu1 (gz_inb_lt b10)) (gz_ne0 40 rfl) (gz_inb_o b12) dX1_shifts_63 e14 ?_
  exact gu_vret hX hZ hF (gz_in1 h) rfl dX1_shifts_64
theorem lw_x1_shifts_ {o : String} {i : Nat} (hl : Cond.methodLink o i yX1_shifts ∈ lw_all) : GoodIn lw_all (wsV o i RX1 yX1_shifts (ws_ yX1_shifts cX1_shifts 4 none)) := lw_V hl q1181 qs41 q145 q1182
theorem nn_x1_shifts : yX1_shifts.cls = RX1 ∧ yX1_shifts.cls ≠ "java/lang/invoke/MethodHandle" ∧ yX1_shifts.cls ≠ "java/lang/invoke/VarHandle" ∧ (parseMethodDescriptor yX1_shifts.desc).map (fun d => d.parameters.length) = some 2 := by decide +kernel
def rm_x2_all : Room := { frames := 0, cells := 0, slots := 0, locals := 0 }
noncomputable def x2_all_L4 (N : Nat) (V : gz_V) (u1 : Nat) : Nat → Int32 → Int32 → Option (Int32)
  | 0, _, _ => none
  | n + 1, v1, v2 => (if 5 ≤ v2 then some v1 else gz_gd (gz_inb v2 5 = true) (gz_gd (gz_inb v2 5 = true) (gz_let ((v1 + ((V (24, u1, 0) v2.toNatClampNeg) + (V (24, u1, 1) v2.toNatClampNeg)))) (fun x4 => x2_all_L4 N V u1 n x4 (v2 + 1)))))
theorem w_x2_all_L4 {X : gz_X} {ad : gz_A0} {N : Nat} {Ds : gz_S} {Df : gz_R} {V : gz_V} {u1 : Nat} {o1 : Int32} (hX : gz_ok X cX2_all RX2 "all" 3 rm_x2_all (some .int)) (hZ : gz_Z X) (hu1 : u1 < 9) (k : gW X 3 (xw_s Ds) (xw_c Df) ad V 0 0 31 [(1, .int o1)] []) : ∀ (n : Nat) {v1 : Int32} {v2 : Int32}, x2_all_L4 N V u1 n v1 v2 = some o1 → gW X 3 (xw_s Ds) (xw_c Df) ad V 0 0 4 [(0, .ref (ad (23, u1, 0))), (1, .int v1), (2, .int v2)] [] := by
  intro n
  induction n with
  | zero => intro v1 v2 h; rw [x2_all_L4] at h; cases h
  | succ n ih =>
    intro v1 v2 h
    rw [x2_all_L4] at h
    refine gz_iload_n (q := 2) hX dX2_all_4 rfl rfl ?_
    refine gz_iconst (v := 5) hX dX2_all_5 gl_c_5 ?_
    refine gz_icmp_ge (tgt := 31) hX dX2_all_6 (by decide) (fun c1 => ?_) (fun c1 => ?_)
    · have h := gz_ifp c1 h
      obtain rfl := gz_in1 h
      exact gz_lv [1] rfl k
    · have h := gz_ifn c1 h
      refine gz_iload_n (q := 1) hX dX2_all_9 rfl rfl ?_
      refine gz_aload_n (q := 0) hX dX2_all_10 rfl rfl ?_
      refine xg_X2_9 (n2 := (24, u1, 0)) hX (xs_G hu1) rfl dX2_all_11 ?_
      refine gz_iload_n (q := 2) hX dX2_all_14 rfl rfl ?_
      obtain ⟨b2, h⟩ := gz_gd_o h
      refine gz_iald (L := 5) hX (xs_OA hu1 (by decide)) (gz_inb_o b2) dX2_all_15 ?_
      refine gz_aload_n (q := 0) hX dX2_all_16 rfl rfl ?_
      refine xg_X2_15 (n2 := (24, u1, 1)) hX (xs_G hu1) rfl dX2_all_17 ?_
      refine gz_iload_n (q := 2) hX dX2_all_20 rfl rfl ?_
      obtain ⟨b3, h⟩ := gz_gd_o h
      refine gz_iald (L := 5) hX (xs_OA hu1 (by decide)) (gz_inb_o b3) dX2_all_21 ?_
      refine gz_iadd hX dX2_all_22 ?_
      refine gz_iadd hX dX2_all_23 ?_
      obtain ⟨x4, e5, h⟩ := gz_let_o h
      refine gz_nm e5 ?_
      refine gz_istore_n (lv2 := [(1, .int x4), (0, .ref (ad (23, u1, 0))), (2, .int v2)]) hX dX2_all_24 rfl (by decide) rfl ?_
      refine gz_iinc (q := 2) (lv2 := [(2, .int (v2 + 1)), (1, .int x4), (0, .ref (ad (23, u1, 0)))]) hX dX2_all_25 rfl gl_c_1 (by decide) rfl ?_
      refine gz_goto (tgt := 4) hX dX2_all_28 (by decide) ?_
      exact gz_lv [2, 1, 0] rfl (ih h)
noncomputable def x2_all (N : Nat) (V : gz_V) (u1 : Nat) : Option (Int32) := gz_bd (x2_all_L4 N V u1 N 0 0) (fun x1 => some x1)
theorem c_x2_all {l : Launch} {D : va_G} {aC : Nat → ClassId} {ad : gz_A0} {N : Nat} {Ds : gz_S} {Df : gz_R} {V : gz_V} {u1 : Nat} {r : Int32} (hu1 : u1 < 9) (h : x2_all N V u1 = some r) : gz_Met l yX2_all cX2_all 3 (some .int) rm_x2_all D aC ad (xw_s Ds) V (xw_c Df) [.ref (ad (23, u1, 0))] (gz_F1 (xw_s Ds) (xw_c Df) ad V (some (.int r))) 0 0 := by
  refine gu_ofW (own := RX2) (mn := "all") (lv := [(0, .ref (ad (23, u1, 0)))]) (by decide) rfl rfl (Nat.le_of_ble_eq_true rfl) rfl ?_
  intro X hX hZ hF
  rw [x2_all] at h
  refine gz_iconst (v := 0) hX dX2_all_0 gl_c_0 ?_
  refine gz_istore_n (lv2 := [(1, .int 0), (0, .ref (ad (23, u1, 0)))]) hX dX2_all_1 rfl (by decide) rfl ?_
  refine gz_iconst (v := 0) hX dX2_all_2 gl_c_0 ?_
  refine gz_istore_n (lv2 := [(2, .int 0), (1, .int 0), (0, .ref (ad (23, u1, 0)))]) hX dX2_all_3 rfl (by decide) rfl ?_
  obtain ⟨x1, e2, h⟩ := gz_bd_o h
  refine gz_lv [2, 1, 0] rfl (w_x2_all_L4 hX hZ hu1 ?_ N e2)
  refine gz_iload_n (q := 0) hX dX2_all_31 rfl rfl ?_
  exact gu_iret hX hZ hF rfl rfl (gz_in1 h) dX2_all_32
theorem lw_x2_all_ {o : String} {i : Nat} (hl : Cond.methodLink o i yX2_all ∈ lw_all) : GoodIn lw_all (wsV o i RX2 yX2_all (ws_ yX2_all cX2_all 3 (some .int))) := lw_V hl q1184 q1185 q146 q1186
theorem nn_x2_all : yX2_all.cls = RX2 ∧ yX2_all.cls ≠ "java/lang/invoke/MethodHandle" ∧ yX2_all.cls ≠ "java/lang/invoke/VarHandle" ∧ (parseMethodDescriptor yX2_all.desc).map (fun d => d.parameters.length) = some 0 := by decide +kernel
def rm_x1_draw : Room := { frames := 0, cells := 0, slots := 0, locals := 0 }
noncomputable def x1_draw (V : gz_V) (u1 : Nat) (a1 : Int32) : Option (gz_V × Int32) := gz_let (gz_up V (20, u1, 0) 18 ((1664525 * (V (20, u1, 0) 18)) + 1013904223)) (fun V1 => gz_gd (¬ a1 = 0) (some (V1, (((V1 (20, u1, 0) 18).toUInt32 >>> ((8 : Int32).toUInt32 &&& Int32.toUInt32 31)).toInt32 - ((V1 (20, u1, 0) 18).toUInt32 >>> ((8 : Int32).toUInt32 &&& Int32.toUInt32 31)).toInt32 / a1 * a1))))
theorem c_x1_draw {l : Launch} {D : va_G} {aC : Nat → ClassId} {ad : gz_A0} {Ds : gz_S} {Df : gz_R} {V : gz_V} {u1 : Nat} {a1 : Int32} {W1 : gz_V} {r : Int32} (hu1 : u1 < 9) (h : x1_draw V u1 a1 = some (W1, r)) : gz_Met l yX1_draw cX1_draw 2 (some .int) rm_x1_draw D aC ad (xw_s Ds) V (xw_c Df) [.ref (ad (20, u1, 0)), .int a1] (gz_F1 (xw_s Ds) (xw_c Df) ad W1 (some (.int r))) 0 0 := by
  refine gu_ofW (own := RX1) (mn := "draw") (lv := [(0, .ref (ad (20, u1, 0))), (1, .int a1)]) (by decide) rfl rfl (Nat.le_of_ble_eq_true rfl) rfl ?_
  intro X hX hZ hF
  rw [x1_draw] at h
  refine gz_aload_n (q := 0) hX dX1_draw_0 rfl rfl ?_
  refine gz_ldc (v := 1664525) hX q1195 dX1_draw_1 ?_
  refine gz_aload_n (q := 0) hX dX1_draw_3 rfl rfl ?_
  refine xg_X1_92 hX (xs_M hu1) dX1_draw_4 ?_
  refine gz_imul hX dX1_draw_7 ?_
  refine gz_ldc (v := 1013904223) hX q1196 dX1_draw_8 ?_
  refine gz_iadd hX dX1_draw_10 ?_
  obtain ⟨V1, e2, h⟩ := gz_let_o h
  refine xp_X1_92 hX (xs_M hu1) (gz_ne0 19 rfl) dX1_draw_11 e2 ?_
  refine gz_aload_n (q := 0) hX dX1_draw_14 rfl rfl ?_
  refine xg_X1_92 hX (xs_M hu1) dX1_draw_15 ?_
  refine gz_bipush (v := 8) hX dX1_draw_18 gl_b_8 ?_
  refine gz_iushr hX dX1_draw_20 ?_
  refine gz_iload_n (q := 1) hX dX1_draw_21 rfl rfl ?_
  obtain ⟨b3, h⟩ := gz_gd_o h
  refine gz_irem hX dX1_draw_22 b3 ?_
  obtain ⟨e_V, e_r⟩ := gz_in2 h
  exact gu_iret hX hZ hF e_V rfl e_r dX1_draw_23
theorem lw_x1_draw_ {o : String} {i : Nat} (hl : Cond.methodLink o i yX1_draw ∈ lw_all) : GoodIn lw_all (wsV o i RX1 yX1_draw (ws_ yX1_draw cX1_draw 2 (some .int))) := lw_V hl q1192 q1193 q145 q1194
theorem nn_x1_draw : yX1_draw.cls = RX1 ∧ yX1_draw.cls ≠ "java/lang/invoke/MethodHandle" ∧ yX1_draw.cls ≠ "java/lang/invoke/VarHandle" ∧ (parseMethodDescriptor yX1_draw.desc).map (fun d => d.parameters.length) = some 1 := by decide +kernel
def rm_x0_odd : Room := { frames := 0, cells := 0, slots := 0, locals := 0 }
noncomputable def x0_odd_L4 (N : Nat) (V : gz_V) : Nat → Int32 → Int32 → Option (Int32)
  | 0, _, _ => none
  | n + 1, v1, v2 => (if (V (27, 0, 0) 1) ≤ v2 then some v1 else gz_gd (gz_inb v2 (xw_rl 0) = true) (gz_gd (gz_inb v2 (xw_rl 0) = true) (gz_let ((v1 ^^^ (((1 : Int32) <<< ((V (30 + 0, 0, v2.toNatClampNeg) (0 : Int32).toNatClampNeg) &&& 31)) ||| ((1 : Int32) <<< ((V (30 + 0, 0, v2.toNatClampNeg) (1 : Int32).toNatClampNeg) &&& 31))))) (fun x4 => x0_odd_L4 N V n x4 (v2 + 1)))))
theorem w_x0_odd_L4 {X : gz_X} {ad : gz_A0} {N : Nat} {Ds : gz_S} {Df : gz_R} {V : gz_V} {o1 : Int32} (hX : gz_ok X cX0_odd RX0 "odd" 3 rm_x0_odd (some .int)) (hZ : gz_Z X) (k : gW X 3 (xw_s Ds) (xw_c Df) ad V 0 0 60 [(1, .int o1)] []) : ∀ (n : Nat) {v1 : Int32} {v2 : Int32}, x0_odd_L4 N V n v1 v2 = some o1 → gW X 3 (xw_s Ds) (xw_c Df) ad V 0 0 4 [(0, .ref (ad (10, 0, 0))), (1, .int v1), (2, .int v2)] [] := by
  intro n
  induction n with
  | zero => intro v1 v2 h; rw [x0_odd_L4] at h; cases h
  | succ n ih =>
    intro v1 v2 h
    rw [x0_odd_L4] at h
    refine gz_iload_n (q := 2) hX dX0_odd_4 rfl rfl ?_
    refine gz_aload_n (q := 0) hX dX0_odd_5 rfl rfl ?_
    refine xg_X0_20 (n2 := (20, 0, 0)) hX xs_main rfl dX0_odd_6 ?_
    refine xg_X0_268 (n2 := (27, 0, 0)) hX (xs_M (by decide)) rfl dX0_odd_9 ?_
    refine xg_X0_280 hX (xs_RO (by decide) (by decide)) dX0_odd_12 ?_
    refine gz_icmp_ge (tgt := 60) hX dX0_odd_15 (by decide) (fun c1 => ?_) (fun c1 => ?_)
    · have h := gz_ifp c1 h
      obtain rfl := gz_in1 h
      exact gz_lv [1] rfl k
    · have h := gz_ifn c1 h
      refine gz_iload_n (q := 1) hX dX0_odd_18 rfl rfl ?_
      refine gz_iconst (v := 1) hX dX0_odd_19 gl_c_1 ?_
      refine gz_aload_n (q := 0) hX dX0_odd_20 rfl rfl ?_
      refine xg_X0_20 (n2 := (20, 0, 0)) hX xs_main rfl dX0_odd_21 ?_
      refine xg_X0_268 (n2 := (27, 0, 0)) hX (xs_M (by decide)) rfl dX0_odd_24 ?_
      refine xg_X0_283 (n2 := (28, 0, 0)) hX (xs_RO (by decide) (by decide)) rfl dX0_odd_27 ?_
      refine gz_iload_n (q := 2) hX dX0_odd_30 rfl rfl ?_
      obtain ⟨b2, h⟩ := gz_gd_o h
      refine gz_aald (L := (xw_rl 0)) (t := 112) (t0 := 5) (ty := (.array .int)) (n2 := (30 + 0, 0, v2.toNatClampNeg)) hX (by decide) (by decide) (fun _ => rfl) rfl (xs_RA (by decide) (by decide)) (gz_inb_o b2) (xr_RA (gz_inb_lt b2)) dX0_odd_31 ?_
      refine gz_iconst (v := 0) hX dX0_odd_32 gl_c_0 ?_
      refine gz_iald (L := 2) hX (xs_RR (by decide) (by decide) (gz_inb_lt b2)) (gz_inb_o (by decide)) dX0_odd_33 ?_
      refine gz_ishl hX dX0_odd_34 ?_
      refine gz_iconst (v := 1) hX dX0_odd_35 gl_c_1 ?_
      refine gz_aload_n (q := 0) hX dX0_odd_36 rfl rfl ?_
      refine xg_X0_20 (n2 := (20, 0, 0)) hX xs_main rfl dX0_odd_37 ?_
      refine xg_X0_268 (n2 := (27, 0, 0)) hX (xs_M (by decide)) rfl dX0_odd_40 ?_
      refine xg_X0_283 (n2 := (28, 0, 0)) hX (xs_RO (by decide) (by decide)) rfl dX0_odd_43 ?_
      refine gz_iload_n (q := 2) hX dX0_odd_46 rfl rfl ?_
      obtain ⟨b3, h⟩ := gz_gd_o h
      refine gz_aald (L := (xw_rl 0)) (t := 112) (t0 := 5) (ty := (.array .int)) (n2 := (30 + 0, 0, v2.toNatClampNeg)) hX (by decide) (by decide) (fun _ => rfl) rfl (xs_RA (by decide) (by decide)) (gz_inb_o b3) (xr_RA (gz_inb_lt b3)) dX0_odd_47 ?_
      refine gz_iconst (v := 1) hX dX0_odd_48 gl_c_1 ?_
      refine gz_iald (L := 2) hX (xs_RR (by decide) (by decide) (gz_inb_lt b3)) (gz_inb_o (by decide)) dX0_odd_49 ?_
      refine gz_ishl hX dX0_odd_50 ?_
      refine gz_ior hX dX0_odd_51 ?_
      refine gz_ixor hX dX0_odd_52 ?_
      obtain ⟨x4, e5, h⟩ := gz_let_o h
      refine gz_nm e5 ?_
      refine gz_istore_n (lv2 := [(1, .int x4), (0, .ref (ad (10, 0, 0))), (2, .int v2)]) hX dX0_odd_53 rfl (by decide) rfl ?_
      refine gz_iinc (q := 2) (lv2 := [(2, .int (v2 + 1)), (1, .int x4), (0, .ref (ad (10, 0, 0)))]) hX dX0_odd_54 rfl gl_c_1 (by decide) rfl ?_
      refine gz_goto (tgt := 4) hX dX0_odd_57 (by decide) ?_
      exact gz_lv [2, 1, 0] rfl (ih h)
noncomputable def x0_odd (N : Nat) (V : gz_V) : Option (Int32) := gz_bd (x0_odd_L4 N V N 0 0) (fun x1 => some x1)
theorem c_x0_odd {l : Launch} {D : va_G} {aC : Nat → ClassId} {ad : gz_A0} {N : Nat} {Ds : gz_S} {Df : gz_R} {V : gz_V} {r : Int32} (h : x0_odd N V = some r) : gz_Met l yX0_odd cX0_odd 3 (some .int) rm_x0_odd D aC ad (xw_s Ds) V (xw_c Df) [.ref (ad (10, 0, 0))] (gz_F1 (xw_s Ds) (xw_c Df) ad V (some (.int r))) 0 0 := by
  refine gu_ofW (own := RX0) (mn := "odd") (lv := [(0, .ref (ad (10, 0, 0)))]) (by decide) rfl rfl (Nat.le_of_ble_eq_true rfl) rfl ?_
  intro X hX hZ hF
  rw [x0_odd] at h
  refine gz_iconst (v := 0) hX dX0_odd_0 gl_c_0 ?_
  refine gz_istore_n (lv2 := [(1, .int 0), (0, .ref (ad (10, 0, 0)))]) hX dX0_odd_1 rfl (by decide) rfl ?_
  refine gz_iconst (v := 0) hX dX0_odd_2 gl_c_0 ?_
  refine gz_istore_n (lv2 := [(2, .int 0), (1, .int 0), (0, .ref (ad (10, 0, 0)))]) hX dX0_odd_3 rfl (by decide) rfl ?_
  obtain ⟨x1, e2, h⟩ := gz_bd_o h
  refine gz_lv [2, 1, 0] rfl (w_x0_odd_L4 hX hZ ?_ N e2)
  refine gz_iload_n (q := 0) hX dX0_odd_60 rfl rfl ?_
  exact gu_iret hX hZ hF rfl rfl (gz_in1 h) dX0_odd_61
theorem lw_x0_odd_ {o : String} {i : Nat} (hl : Cond.methodLink o i yX0_odd ∈ lw_all) : GoodIn lw_all (wsV o i RX0 yX0_odd (ws_ yX0_odd cX0_odd 3 (some .int))) := lw_V hl q1316 qs43 q144 q1317
theorem nn_x0_odd : yX0_odd.cls = RX0 ∧ yX0_odd.cls ≠ "java/lang/invoke/MethodHandle" ∧ yX0_odd.cls ≠ "java/lang/invoke/VarHandle" ∧ (parseMethodDescriptor yX0_odd.desc).map (fun d => d.parameters.length) = some 0 := by decide +kernel
theorem gl_b_11 : (Int8.ofInt 11).toInt32 = 11 := by decide
def rm_x0_came : Room := { frames := 1, cells := 0, slots := 0, locals := 22 }
noncomputable def x0_came_L44 (N : Nat) (V : gz_V) (v2 : Int32) : Nat → Int32 → Int32 → Option ((Int32) ⊕ (Int32))
  | 0, _, _ => none
  | n + 1, v3, v4 => (if (V (27, 0, 0) 1) ≤ v4 then some (.inr v3) else gz_gd (gz_inb v4 (xw_rl 0) = true) (gz_gd (gz_inb v4 (xw_rl 0) = true) (gz_let ((((1 : Int32) <<< ((V (30 + 0, 0, v4.toNatClampNeg) (0 : Int32).toNatClampNeg) &&& 31)) ||| ((1 : Int32) <<< ((V (30 + 0, 0, v4.toNatClampNeg) (1 : Int32).toNatClampNeg) &&& 31)))) (fun x10 => gz_let (if (v3 &&& x10) = 0 then (0 : Int32) else x10) (fun y12 => gz_let ((v3 ||| y12)) (fun x16 => (if v2 = (-1) then x0_came_L44 N V v2 n x16 (v4 + 1) else (if ((x16 >>> (v2 &&& 31)) &&& 1) = 1 then some (.inl v4) else x0_came_L44 N V v2 n x16 (v4 + 1)))))))))
theorem w_x0_came_L44 {X : gz_X} {ad : gz_A0} {N : Nat} {Ds : gz_S} {Df : gz_R} {V : gz_V} {v2 : Int32} {out : (Int32) ⊕ (Int32)} (hX : gz_ok X cX0_came RX0 "came" 6 rm_x0_came (some .int)) (hZ : gz_Z X) (hout : (∃ (r : Int32), out = .inl r ∧ gx_F X (xw_s Ds) V (xw_c Df) ad (some (.int r))) ∨ (∃ (o3 : Int32), out = .inr o3 ∧ gW X 6 (xw_s Ds) (xw_c Df) ad V 0 0 135 [(2, .int v2), (3, .int o3)] [])) : ∀ (n : Nat) {v3 : Int32} {v4 : Int32}, x0_came_L44 N V v2 n v3 v4 = some out → gW X 6 (xw_s Ds) (xw_c Df) ad V 0 0 44 [(0, .ref (ad (10, 0, 0))), (2, .int v2), (3, .int v3), (4, .int v4)] [] := by
  intro n
  induction n with
  | zero => intro v3 v4 h; rw [x0_came_L44] at h; cases h
  | succ n ih =>
    intro v3 v4 h
    rw [x0_came_L44] at h
    refine gz_iload (q := 3) hX dX0_came_44 rfl ?_
    refine gz_aload_n (q := 0) hX dX0_came_46 rfl rfl ?_
    refine xg_X0_20 (n2 := (20, 0, 0)) hX xs_main rfl dX0_came_47 ?_
    refine xg_X0_268 (n2 := (27, 0, 0)) hX (xs_M (by decide)) rfl dX0_came_50 ?_
    refine xg_X0_280 hX (xs_RO (by decide) (by decide)) dX0_came_53 ?_
    refine gz_icmp_ge (tgt := 135) hX dX0_came_56 (by decide) (fun c7 => ?_) (fun c7 => ?_)
    · have h := gz_ifp c7 h
      obtain rfl := gz_in1 h
      obtain ⟨_, e0, _⟩ | ⟨_, e0, k⟩ := hout
      · cases e0
      · cases e0
        exact gz_lv [1, 2] rfl k
    · have h := gz_ifn c7 h
      refine gz_iconst (v := 1) hX dX0_came_59 gl_c_1 ?_
      refine gz_aload_n (q := 0) hX dX0_came_60 rfl rfl ?_
      refine xg_X0_20 (n2 := (20, 0, 0)) hX xs_main rfl dX0_came_61 ?_
      refine xg_X0_268 (n2 := (27, 0, 0)) hX (xs_M (by decide)) rfl dX0_came_64 ?_
      refine xg_X0_283 (n2 := (28, 0, 0)) hX (xs_RO (by decide) (by decide)) rfl dX0_came_67 ?_
      refine gz_iload (q := 3) hX dX0_came_70 rfl ?_
      obtain ⟨b8, h⟩ := gz_gd_o h
      refine gz_aald (L := (xw_rl 0)) (t := 112) (t0 := 5) (ty := (.array .int)) (n2 := (30 + 0, 0, v4.toNatClampNeg)) hX (by decide) (by decide) (fun _ => rfl) rfl (xs_RA (by decide) (by decide)) (gz_inb_o b8) (xr_RA (gz_inb_lt b8)) dX0_came_72 ?_
      refine gz_iconst (v := 0) hX dX0_came_73 gl_c_0 ?_
      refine gz_iald (L := 2) hX (xs_RR (by decide) (by decide) (gz_inb_lt b8)) (gz_inb_o (by decide)) dX0_came_74 ?_
      refine gz_ishl hX dX0_came_75 ?_
      refine gz_iconst (v := 1) hX dX0_came_76 gl_c_1 ?_
      refine gz_aload_n (q := 0) hX dX0_came_77 rfl rfl ?_
      refine xg_X0_20 (n2 := (20, 0, 0)) hX xs_main rfl dX0_came_78 ?_
      refine xg_X0_268 (n2 := (27, 0, 0)) hX (xs_M (by decide)) rfl dX0_came_81 ?_
      refine xg_X0_283 (n2 := (28, 0, 0)) hX (xs_RO (by decide) (by decide)) rfl dX0_came_84 ?_
      refine gz_iload (q := 3) hX dX0_came_87 rfl ?_
      obtain ⟨b9, h⟩ := gz_gd_o h
      refine gz_aald (L := (xw_rl 0)) (t := 112) (t0 := 5) (ty := (.array .int)) (n2 := (30 + 0, 0, v4.toNatClampNeg)) hX (by decide) (by decide) (fun _ => rfl) rfl (xs_RA (by decide) (by decide)) (gz_inb_o b9) (xr_RA (gz_inb_lt b9)) dX0_came_89 ?_
      refine gz_iconst (v := 1) hX dX0_came_90 gl_c_1 ?_
      refine gz_iald (L := 2) hX (xs_RR (by decide) (by decide) (gz_inb_lt b9)) (gz_inb_o (by decide)) dX0_came_91 ?_
      refine gz_ishl hX dX0_came_92 ?_
      refine gz_ior hX dX0_came_93 ?_
      obtain ⟨x10, e11, h⟩ := gz_let_o h
      refine gz_nm e11 ?_
      refine gz_istore (lv2 := [(5, .int x10), (0, .ref (ad (10, 0, 0))), (2, .int v2), (3, .int v3), (4, .int v4)]) hX dX0_came_94 (by decide) rfl ?_
      refine gz_iload_n (q := 3) hX dX0_came_96 rfl rfl ?_
      refine gz_iload_n (q := 3) hX dX0_came_97 rfl rfl ?_
      refine gz_iload (q := 0) hX dX0_came_98 rfl ?_
      refine gz_iand hX dX0_came_100 ?_
      obtain ⟨y12, g13, h⟩ := gz_let_o h
      have J14 : gW X 6 (xw_s Ds) (xw_c Df) ad V 0 0 110 [(0, .ref (ad (10, 0, 0))), (2, .int v2), (4, .int v4)] [.int y12, .int v3] := by
        refine gz_ior hX dX0_came_110 ?_
        obtain ⟨x16, e17, h⟩ := gz_let_o h
        refine gz_nm e17 ?_
        refine gz_istore_n (lv2 := [(3, .int x16), (0, .ref (ad (10, 0, 0))), (2, .int v2), (4, .int v4)]) hX dX0_came_111 rfl (by decide) rfl ?_
        refine gz_iload_n (q := 2) hX dX0_came_112 rfl rfl ?_
        refine gz_iconst (v := (-1)) hX dX0_came_113 gl_c_m1 ?_
        refine gz_icmp_eq (tgt := 129) hX dX0_came_114 (by decide) (fun c18 => ?_) (fun c18 => ?_)
        · have h := gz_ifp c18 h
          refine gz_iinc (q := 3) (lv2 := [(4, .int (v4 + 1)), (3, .int x16), (0, .ref (ad (10, 0, 0))), (2, .int v2)]) hX dX0_came_129 rfl gl_c_1 (by decide) rfl ?_
          refine gz_goto (tgt := 44) hX dX0_came_132 (by decide) ?_
          exact gz_lv [2, 3, 1, 0] rfl (ih h)
        · have h := gz_ifn c18 h
          refine gz_iload_n (q := 0) hX dX0_came_117 rfl rfl ?_
          refine gz_iload_n (q := 2) hX dX0_came_118 rfl rfl ?_
          refine gz_ishr hX dX0_came_119 ?_
          refine gz_iconst (v := 1) hX dX0_came_120 gl_c_1 ?_
          refine gz_iand hX dX0_came_121 ?_
          refine gz_iconst (v := 1) hX dX0_came_122 gl_c_1 ?_
          refine gz_icmp_ne (tgt := 129) hX dX0_came_123 (by decide) (fun c19 => ?_) (fun c19 => ?_)
          · have h := gz_ifn c19 h
            refine gz_iinc (q := 3) (lv2 := [(4, .int (v4 + 1)), (3, .int x16), (0, .ref (ad (10, 0, 0))), (2, .int v2)]) hX dX0_came_129 rfl gl_c_1 (by decide) rfl ?_
            refine gz_goto (tgt := 44) hX dX0_came_132 (by decide) ?_
            exact gz_lv [2, 3, 1, 0] rfl (ih h)
          · have h := gz_ifp c19 h
            refine gz_iload (q := 3) hX dX0_came_126 rfl ?_
            obtain rfl := gz_in1 h
            obtain ⟨_, e0, hF⟩ | ⟨_, e0, _⟩ := hout
            · cases e0
              exact gu_iret hX hZ hF rfl rfl rfl dX0_came_128
            · cases e0
      refine gz_if_eq (tgt := 109) hX dX0_came_101 (by decide) (fun c15 => ?_) (fun c15 => ?_)
      · have g13 := gz_ifp c15 g13
        refine gz_iconst (v := 0) hX dX0_came_109 gl_c_0 ?_
        obtain rfl := g13
        exact gz_lv [1, 2, 4] rfl J14
      · have g13 := gz_ifn c15 g13
        refine gz_iload (q := 0) hX dX0_came_104 rfl ?_
        refine gz_goto (tgt := 110) hX dX0_came_106 (by decide) ?_
        obtain rfl := g13
        exact gz_lv [1, 2, 4] rfl J14
noncomputable def x0_came (N : Nat) (V : gz_V) (a1 : Int32) (a2 : Int32) : Option (Int32) := (if a1 = (-1) then gz_bd (x0_odd N V) (fun r11 => some r11) else (if (x0_isIn a1 0 11) = 0 then some (-1) else (if (x0_isIn a2 (-1) 11) = 0 then some (-1) else (if a1 = a2 then some (-1) else gz_let (((1 : Int32) <<< (a1 &&& 31))) (fun x5 => gz_lp (x0_came_L44 N V a2 N x5 0) some (fun x7 => (if a2 = (-1) then some x7 else some (-1))))))))
theorem c_x0_came {l : Launch} {D : va_G} {aC : Nat → ClassId} {ad : gz_A0} {N : Nat} {Ds : gz_S} {Df : gz_R} {V : gz_V} {a1 : Int32} {a2 : Int32} {r : Int32} (h : x0_came N V a1 a2 = some r) : gz_Met l yX0_came cX0_came 6 (some .int) rm_x0_came D aC ad (xw_s Ds) V (xw_c Df) [.ref (ad (10, 0, 0)), .int a1, .int a2] (gz_F1 (xw_s Ds) (xw_c Df) ad V (some (.int r))) 0 0 := by
  refine gu_ofW (own := RX0) (mn := "came") (lv := [(0, .ref (ad (10, 0, 0))), (1, .int a1), (2, .int a2)]) (by decide) rfl rfl (Nat.le_of_ble_eq_true rfl) rfl ?_
  intro X hX hZ hF
  rw [x0_came] at h
  refine gz_iload_n (q := 1) hX dX0_came_0 rfl rfl ?_
  refine gz_iconst (v := (-1)) hX dX0_came_1 gl_c_m1 ?_
  refine gz_icmp_ne (tgt := 10) hX dX0_came_2 (by decide) (fun c1 => ?_) (fun c1 => ?_)
  · have h := gz_ifn c1 h
    refine gz_iload_n (q := 1) hX dX0_came_10 rfl rfl ?_
    refine gz_iconst (v := 0) hX dX0_came_11 gl_c_0 ?_
    refine gz_bipush (v := 11) hX dX0_came_12 gl_b_11 ?_
    refine gu_callS (As := [.int a1, .int 0, .int 11]) hX (c_x0_isIn rfl) (lw_x0_isIn_ q502) rfl rfl nn_x0_isIn ⟨Nat.le_of_ble_eq_true rfl, Nat.le_of_ble_eq_true rfl⟩ ⟨Nat.zero_le _, Nat.zero_le _⟩ rfl rfl (Nat.le_of_ble_eq_true rfl) dX0_came_14 rfl ?_
    refine gz_if_eq (tgt := 35) hX dX0_came_17 (by decide) (fun c2 => ?_) (fun c2 => ?_)
    · have h := gz_ifp c2 h
      refine gz_iconst (v := (-1)) hX dX0_came_35 gl_c_m1 ?_
      exact gu_iret hX hZ hF rfl rfl (gz_in1 h) dX0_came_36
    · have h := gz_ifn c2 h
      refine gz_iload_n (q := 2) hX dX0_came_20 rfl rfl ?_
      refine gz_iconst (v := (-1)) hX dX0_came_21 gl_c_m1 ?_
      refine gz_bipush (v := 11) hX dX0_came_22 gl_b_11 ?_
      refine gu_callS (As := [.int a2, .int (-1), .int 11]) hX (c_x0_isIn rfl) (lw_x0_isIn_ q502) rfl rfl nn_x0_isIn ⟨Nat.le_of_ble_eq_true rfl, Nat.le_of_ble_eq_true rfl⟩ ⟨Nat.zero_le _, Nat.zero_le _⟩ rfl rfl (Nat.le_of_ble_eq_true rfl) dX0_came_24 rfl ?_
      refine gz_if_eq (tgt := 35) hX dX0_came_27 (by decide) (fun c3 => ?_) (fun c3 => ?_)
      · have h := gz_ifp c3 h
        refine gz_iconst (v := (-1)) hX dX0_came_35 gl_c_m1 ?_
        exact gu_iret hX hZ hF rfl rfl (gz_in1 h) dX0_came_36
      · have h := gz_ifn c3 h
        refine gz_iload_n (q := 1) hX dX0_came_30 rfl rfl ?_
        refine gz_iload_n (q := 2) hX dX0_came_31 rfl rfl ?_
        refine gz_icmp_ne (tgt := 37) hX dX0_came_32 (by decide) (fun c4 => ?_) (fun c4 => ?_)
        · have h := gz_ifn c4 h
          refine gz_iconst (v := 1) hX dX0_came_37 gl_c_1 ?_
          refine gz_iload_n (q := 1) hX dX0_came_38 rfl rfl ?_
          refine gz_ishl hX dX0_came_39 ?_
          obtain ⟨x5, e6, h⟩ := gz_let_o h
          refine gz_nm e6 ?_
          refine gz_istore_n (lv2 := [(3, .int x5), (0, .ref (ad (10, 0, 0))), (1, .int a1), (2, .int a2)]) hX dX0_came_40 rfl (by decide) rfl ?_
          refine gz_iconst (v := 0) hX dX0_came_41 gl_c_0 ?_
          refine gz_istore (lv2 := [(4, .int 0), (3, .int x5), (0, .ref (ad (10, 0, 0))), (1, .int a1), (2, .int a2)]) hX dX0_came_42 (by decide) rfl ?_
          rcases gz_lp_o h with ⟨p10, e8, h⟩ | ⟨x7, e8, h⟩
          · obtain rfl := gz_in1 h
            exact gz_lv [2, 4, 1, 0] rfl (w_x0_came_L44 hX hZ (Or.inl ⟨_, rfl, hF⟩) N e8)
          · refine gz_lv [2, 4, 1, 0] rfl (w_x0_came_L44 hX hZ (Or.inr ⟨x7, rfl, ?_⟩) N e8)
            refine gz_iload_n (q := 0) hX dX0_came_135 rfl rfl ?_
            refine gz_iconst (v := (-1)) hX dX0_came_136 gl_c_m1 ?_
            refine gz_icmp_ne (tgt := 144) hX dX0_came_137 (by decide) (fun c9 => ?_) (fun c9 => ?_)
            · have h := gz_ifn c9 h
              refine gz_iconst (v := (-1)) hX dX0_came_144 gl_c_m1 ?_
              exact gu_iret hX hZ hF rfl rfl (gz_in1 h) dX0_came_145
            · have h := gz_ifp c9 h
              refine gz_iload_n (q := 1) hX dX0_came_140 rfl rfl ?_
              refine gz_goto (tgt := 145) hX dX0_came_141 (by decide) ?_
              exact gu_iret hX hZ hF rfl rfl (gz_in1 h) dX0_came_145
        · have h := gz_ifp c4 h
          refine gz_iconst (v := (-1)) hX dX0_came_35 gl_c_m1 ?_
          exact gu_iret hX hZ hF rfl rfl (gz_in1 h) dX0_came_36
  · have h := gz_ifp c1 h
    refine gz_aload_n (q := 0) hX dX0_came_5 rfl rfl ?_
    obtain ⟨r11, e12, h⟩ := gz_bd_o h
    refine gu_callV (ci := 0) (n := (10, 0, 0)) (As := []) hX (c_x0_odd e12) (lw_x0_odd_ q1314) rfl rfl nn_x0_odd ⟨Nat.le_of_ble_eq_true rfl, Nat.le_of_ble_eq_true rfl⟩ ⟨Nat.zero_le _, Nat.zero_le _⟩ (by decide) rfl xs_main rfl rfl (Nat.le_of_ble_eq_true rfl) dX0_came_6 rfl ?_
    exact gu_iret hX hZ hF rfl rfl (gz_in1 h) dX0_came_9
theorem lw_x0_came_ {o : String} {i : Nat} (hl : Cond.methodLink o i yX0_came ∈ lw_all) : GoodIn lw_all (wsV o i RX0 yX0_came (ws_ yX0_came cX0_came 6 (some .int))) := lw_V hl q1311 q1312 q144 q1313
theorem nn_x0_came : yX0_came.cls = RX0 ∧ yX0_came.cls ≠ "java/lang/invoke/MethodHandle" ∧ yX0_came.cls ≠ "java/lang/invoke/VarHandle" ∧ (parseMethodDescriptor yX0_came.desc).map (fun d => d.parameters.length) = some 2 := by decide +kernel
