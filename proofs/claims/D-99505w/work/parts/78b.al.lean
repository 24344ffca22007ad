/-! ArrayList.add and what it calls. Printed by wip/D-99505w/gen/mkal.py -/
set_option maxRecDepth 100000
theorem lw_j11_newLength_ {o : String} {i : Nat} (hl : Cond.methodLink o i yJ11_newLength ∈ lw_all) : GoodIn lw_all (va_wsS o i yJ11_newLength (ws_ yJ11_newLength cJ11_newLength 4 (some .int))) := lw_S hl q864 q170 q865
theorem nn_j11_newLength : yJ11_newLength.cls ≠ "java/lang/invoke/MethodHandle" ∧ yJ11_newLength.cls ≠ "java/lang/invoke/VarHandle" ∧ (parseMethodDescriptor yJ11_newLength.desc).map (fun d => d.parameters.length) = some 3 := by decide +kernel
theorem lw_j12_copyOf_ {o : String} {i : Nat} (hl : Cond.methodLink o i yJ12_copyOf ∈ lw_all) : GoodIn lw_all (va_wsS o i yJ12_copyOf (ws_ yJ12_copyOf cJ12_copyOf 2 (some (.array (.object "java/lang/Object"))))) := lw_S hl q874 q171 q875
theorem nn_j12_copyOf : yJ12_copyOf.cls ≠ "java/lang/invoke/MethodHandle" ∧ yJ12_copyOf.cls ≠ "java/lang/invoke/VarHandle" ∧ (parseMethodDescriptor yJ12_copyOf.desc).map (fun d => d.parameters.length) = some 2 := by decide +kernel
theorem lw_j12_copyOf_2_ {o : String} {i : Nat} (hl : Cond.methodLink o i yJ12_copyOf_2 ∈ lw_all) : GoodIn lw_all (va_wsS o i yJ12_copyOf_2 (ws_ yJ12_copyOf_2 cJ12_copyOf_2 4 (some (.array (.object "java/lang/Object"))))) := lw_S hl q900 q171 q901
theorem nn_j12_copyOf_2 : yJ12_copyOf_2.cls ≠ "java/lang/invoke/MethodHandle" ∧ yJ12_copyOf_2.cls ≠ "java/lang/invoke/VarHandle" ∧ (parseMethodDescriptor yJ12_copyOf_2.desc).map (fun d => d.parameters.length) = some 3 := by decide +kernel
theorem lw_j2_add_ {o : String} {i : Nat} (hl : Cond.methodLink o i yJ2_add ∈ lw_all) : GoodIn lw_all (wsV o i RJ2 yJ2_add (ws_ yJ2_add cJ2_add 2 (some .boolean))) := lw_V hl q848 q849 q150 q850
theorem nn_j2_add : yJ2_add.cls = RJ2 ∧ yJ2_add.cls ≠ "java/lang/invoke/MethodHandle" ∧ yJ2_add.cls ≠ "java/lang/invoke/VarHandle" ∧ (parseMethodDescriptor yJ2_add.desc).map (fun d => d.parameters.length) = some 1 := by decide +kernel
theorem lw_j2_add_2_ {o : String} {i : Nat} (hl : Cond.methodLink o i yJ2_add_2 ∈ lw_all) : GoodIn lw_all (wsV o i RJ2 yJ2_add_2 (ws_ yJ2_add_2 cJ2_add_2 4 none)) := lw_V hl q853 qs23 q150 q854
theorem nn_j2_add_2 : yJ2_add_2.cls = RJ2 ∧ yJ2_add_2.cls ≠ "java/lang/invoke/MethodHandle" ∧ yJ2_add_2.cls ≠ "java/lang/invoke/VarHandle" ∧ (parseMethodDescriptor yJ2_add_2.desc).map (fun d => d.parameters.length) = some 3 := by decide +kernel
theorem lw_j2_grow_ {o : String} {i : Nat} (hl : Cond.methodLink o i yJ2_grow ∈ lw_all) : GoodIn lw_all (wsV o i RJ2 yJ2_grow (ws_ yJ2_grow cJ2_grow 1 (some (.array (.object "java/lang/Object"))))) := lw_V hl q857 qs24 q150 q858
theorem nn_j2_grow : yJ2_grow.cls = RJ2 ∧ yJ2_grow.cls ≠ "java/lang/invoke/MethodHandle" ∧ yJ2_grow.cls ≠ "java/lang/invoke/VarHandle" ∧ (parseMethodDescriptor yJ2_grow.desc).map (fun d => d.parameters.length) = some 0 := by decide +kernel
theorem lw_j2_grow_2_ {o : String} {i : Nat} (hl : Cond.methodLink o i yJ2_grow_2 ∈ lw_all) : GoodIn lw_all (wsV o i RJ2 yJ2_grow_2 (ws_ yJ2_grow_2 cJ2_grow_2 4 (some (.array (.object "java/lang/Object"))))) := lw_V hl q861 qs25 q150 q862
theorem nn_j2_grow_2 : yJ2_grow_2.cls = RJ2 ∧ yJ2_grow_2.cls ≠ "java/lang/invoke/MethodHandle" ∧ yJ2_grow_2.cls ≠ "java/lang/invoke/VarHandle" ∧ (parseMethodDescriptor yJ2_grow_2.desc).map (fun d => d.parameters.length) = some 1 := by decide +kernel

def rm_j11_newLength : Room := { frames := 1, cells := 0, slots := 0, locals := 21 }
theorem c_j11_newLength {l : Launch} {D : va_G} {aC : Nat → ClassId} {ad : gz_A0} {sh : gz_S} {V : gz_V} {Rf : gz_R} {a0 a1 a2 r : Int32} (hr : a0 + gz_max a1 a2 = r) (h1 : ¬ r ≤ 0) (h2 : ¬ 2147483639 < r) : gz_Met l yJ11_newLength cJ11_newLength 4 (some .int) rm_j11_newLength D aC ad sh V Rf [.int a0, .int a1, .int a2] (gz_F1 sh Rf ad V (some (.int r))) 0 0 := by
  refine gu_ofW (own := RJ11) (mn := "newLength") (lv := [(0, .int a0), (1, .int a1), (2, .int a2)]) (by decide) rfl rfl (Nat.le_of_ble_eq_true rfl) rfl ?_
  intro X hX hZ hF
  refine gz_iload_n (q := 0) hX dJ11_newLength_0 rfl rfl ?_
  refine gz_iload_n (q := 1) hX dJ11_newLength_1 rfl rfl ?_
  refine gz_iload_n (q := 2) hX dJ11_newLength_2 rfl rfl ?_
  refine gz_mmax hX q866 q867 q156 q868 ⟨Nat.le_of_ble_eq_true rfl, Nat.le_of_ble_eq_true rfl, Nat.zero_le _, Nat.zero_le _⟩ (Nat.le_of_ble_eq_true rfl) dJ11_newLength_3 ?_
  refine gz_iadd hX dJ11_newLength_6 ?_
  refine gz_nm hr ?_
  refine gz_istore_n (lv2 := [(3, .int r), (0, .int a0), (1, .int a1), (2, .int a2)]) hX dJ11_newLength_7 rfl (by decide) rfl ?_
  refine gz_iconst (v := 0) hX dJ11_newLength_8 gl_c_0 ?_
  refine gz_iload_n (q := 0) hX dJ11_newLength_9 rfl rfl ?_
  refine gz_icmp_ge (tgt := 21) hX dJ11_newLength_10 (by decide) (fun z => absurd z h1) (fun _ => ?_)
  refine gz_iload_n (q := 0) hX dJ11_newLength_13 rfl rfl ?_
  refine gz_ldc (v := 2147483639) hX q869 dJ11_newLength_14 ?_
  refine gz_icmp_gt (tgt := 21) hX dJ11_newLength_16 (by decide) (fun z => absurd z h2) (fun _ => ?_)
  refine gz_iload_n (q := 0) hX dJ11_newLength_19 rfl rfl ?_
  exact gu_iret hX hZ hF rfl rfl rfl dJ11_newLength_20
/-- behind a copy: the new array nm holds a's elements -/
def gz_FC (Ds : gz_S) (Df : gz_R) (V : gz_V) (ad : gz_A0) (a nm : gz_N) (L L2 : Nat) : gz_Fi := fun sh3 V3 Rf3 ad3 rv => sh3 = xw_s (gz_us Ds nm (114, L2)) ∧ V3 = gz_uz V nm ∧ Rf3 = xw_c (j2_cpy (gz_un Df nm) a L nm) ∧ (∀ x, x ≠ nm → ad3 x = ad x) ∧ rv = some (.ref (ad3 nm))
theorem j2_cpy_x {Df : gz_R} {a b : gz_N} {L : Nat} (ha : 90 ≤ a.1) (hb : 90 ≤ b.1) : j2_cpy (xw_c Df) a L b = xw_c (j2_cpy Df a L b) := by
  funext x i
  by_cases e : x = b
  · subst e
    rw [j2_cpy_eq, gp_xr hb, gp_xr hb, gp_xr ha, j2_cpy_eq]
  · rw [j2_cpy_ne e]
    exact xr_ne (by rw [j2_cpy_ne e])
def rm_j12_copyOf_2 (L2 : Nat) : Room := { frames := 1, cells := 1, slots := L2, locals := 40 }
theorem c_j12_copyOf_2 {l : Launch} {D : va_G} {aC : Nat → ClassId} {ad : gz_A0} {Ds : gz_S} {Df : gz_R} {V : gz_V} {a : gz_N} {c L L2 : Nat} {n : Int32} (ha : 90 ≤ a.1 ∧ Ds a = some (114, L)) (hf : Ds (98, c, 0) = none) (hn0 : ¬ n < 0) (hn : n.toNatClampNeg = L2) (hL : L ≤ L2) (hL2 : L2 ≤ 100) (hmin : ∃ m : Int32, gz_min L.toInt32 n = m ∧ ¬ m < 0 ∧ m.toNatClampNeg = L) (hel : ∀ i e, i < L → Df a i = some e → gz_isO (xw_s Ds) e) : gz_Met l yJ12_copyOf_2 cJ12_copyOf_2 4 (some (.array (.object "java/lang/Object"))) (rm_j12_copyOf_2 L2) D aC ad (xw_s Ds) V (xw_c Df) [.ref (ad a), .int n, .ref (aC 1004)] (gz_FC Ds Df V ad a (98, c, 0) L L2) 1 L2 := by
  refine gz_ofW (own := RJ12) (mn := "copyOf") (lv := [(0, .ref (ad a)), (1, .int n), (2, .ref (aC 1004))]) (by decide) rfl rfl (Nat.le_of_ble_eq_true rfl) rfl ?_
  intro X hX _ _ hC h5 h6 h7 hE
  have hnm : xw_s Ds (98, c, 0) = none := by rw [gp_xs (by show 90 ≤ 98; decide)]; exact hf
  have han : a ≠ (98, c, 0) := fun e => by rw [e, hf] at ha; cases ha.2
  refine gz_aload_n (q := 2) hX dJ12_copyOf_2_0 rfl rfl ?_
  refine gz_ldcM hX q902 dJ12_copyOf_2_1 ?_
  rw [hC]
  refine gz_acmp_neF (tgt := 13) hX dJ12_copyOf_2_3 (by decide) ?_
  refine gz_iload_n (q := 1) hX dJ12_copyOf_2_6 rfl rfl ?_
  refine gz_anewO (nm := (98, c, 0)) (L := L2) (lvF := fun ad => [(0, .ref (ad a)), (1, .int n), (2, .ref (aC 1004))]) (stF := fun _ => []) hX q904 hn0 hn (by omega) (Nat.le_of_ble_eq_true rfl) (by show 0 + L2 ≤ L2; omega) hnm (by show (98 : Nat) ≠ 0; decide) (fun ad2 h2 => by have e := h2 a han; exact ⟨by simp only [e], rfl⟩) dJ12_copyOf_2_7 (fun ad2 h2 => ?_)
  rw [cd_us (by decide), cd_un (by decide)]
  have hsa : xw_s (gz_us Ds (98, c, 0) (114, L2)) a = some (114, L) := by rw [gp_xs ha.1, gz_us_ne han]; exact ha.2
  have hsb : xw_s (gz_us Ds (98, c, 0) (114, L2)) (98, c, 0) = some (114, L2) := by rw [gp_xs (by show 90 ≤ 98; decide)]; exact gz_us_eq
  obtain ⟨m, hm1, hm2, hm3⟩ := hmin
  refine gz_goto (tgt := 24) hX dJ12_copyOf_2_10 (by decide) ?_
  refine gz_astore_n (lv2 := [(3, .ref (ad2 (98, c, 0))), (0, .ref (ad2 a)), (1, .int n), (2, .ref (aC 1004))]) hX dJ12_copyOf_2_24 rfl (by decide) rfl ?_
  refine gz_aload_n (q := 1) hX dJ12_copyOf_2_25 rfl rfl ?_
  refine gz_iconst (v := 0) hX dJ12_copyOf_2_26 gl_c_0 ?_
  refine gz_aload_n (q := 0) hX dJ12_copyOf_2_27 rfl rfl ?_
  refine gz_iconst (v := 0) hX dJ12_copyOf_2_28 gl_c_0 ?_
  refine gz_aload_n (q := 1) hX dJ12_copyOf_2_29 rfl rfl ?_
  refine gz_alenq (t := 114) (t0 := 7) (ty := .object "java/lang/Object") hX (by decide) (by decide) (fun _ => rfl) hsa rfl dJ12_copyOf_2_30 ?_
  refine gz_iload_n (q := 2) hX dJ12_copyOf_2_31 rfl rfl ?_
  refine gz_mmin hX q905 q906 q156 q907 ⟨Nat.le_of_ble_eq_true rfl, Nat.le_of_ble_eq_true rfl, by show 0 + 1 ≤ 1; omega, by show 0 + L2 ≤ L2; omega⟩ (Nat.le_of_ble_eq_true rfl) dJ12_copyOf_2_32 ?_
  refine gz_nm hm1 ?_
  refine gz_acpy (L := L) (L2 := L2) hX hsa hsb (by show (98 : Nat) ≠ 0; decide) hL hm3 hm2 (fun i e hi he => ?_) q908 q910 q909 q172 ⟨Nat.le_of_ble_eq_true rfl, Nat.le_of_ble_eq_true rfl⟩ dJ12_copyOf_2_35 ?_
  · rw [gp_xr ha.1, gz_un_ne han] at he
    obtain ⟨ci, N0, q, g1, g2, g3, g4⟩ := hel i e hi he
    exact ⟨ci, N0, q, (gp_gr.us hf).xs _ _ g1, g2, g3, g4⟩
  rw [j2_cpy_x ha.1 (by show 90 ≤ 98; decide)]
  refine gz_aload_n (q := 0) hX dJ12_copyOf_2_38 rfl rfl ?_
  have g := gz_aretE (sh := xw_s (gz_us Ds (98, c, 0) (114, L2))) (V := gz_uz V (98, c, 0)) (Rf := xw_c (j2_cpy (gz_un Df (98, c, 0)) a L (98, c, 0))) (ad := ad2) (pc := 39) (lv := [(3, .ref (ad2 (98, c, 0))), (0, .ref (ad2 a)), (1, .int n), (2, .ref (aC 1004))]) (x := ad2 (98, c, 0)) hX hE rfl (Or.inr ⟨_, rfl⟩) (by rw [h5]; exact ⟨rfl, rfl, rfl, h2, rfl⟩) dJ12_copyOf_2_39
  rw [h6, h7] at g
  rw [Nat.zero_add, Nat.zero_add]
  exact g
def rm_j12_copyOf (L2 : Nat) : Room := { frames := 2, cells := 1, slots := L2, locals := 63 }
theorem c_j12_copyOf {l : Launch} {D : va_G} {aC : Nat → ClassId} {ad : gz_A0} {Ds : gz_S} {Df : gz_R} {V : gz_V} {a : gz_N} {c L L2 : Nat} {n : Int32} (ha : 90 ≤ a.1 ∧ Ds a = some (114, L)) (hf : Ds (98, c, 0) = none) (hn0 : ¬ n < 0) (hn : n.toNatClampNeg = L2) (hL : L ≤ L2) (hL2 : L2 ≤ 100) (hmin : ∃ m : Int32, gz_min L.toInt32 n = m ∧ ¬ m < 0 ∧ m.toNatClampNeg = L) (hel : ∀ i e, i < L → Df a i = some e → gz_isO (xw_s Ds) e) : gz_Met l yJ12_copyOf cJ12_copyOf 2 (some (.array (.object "java/lang/Object"))) (rm_j12_copyOf L2) D aC ad (xw_s Ds) V (xw_c Df) [.ref (ad a), .int n] (gz_FC Ds Df V ad a (98, c, 0) L L2) 1 L2 := by
  refine gz_ofW (own := RJ12) (mn := "copyOf") (lv := [(0, .ref (ad a)), (1, .int n)]) (by decide) rfl rfl (Nat.le_of_ble_eq_true rfl) rfl ?_
  intro X hX _ _ hC h5 h6 h7 hE
  refine gz_aload_n (q := 0) hX dJ12_copyOf_0 rfl rfl ?_
  refine gz_iload_n (q := 1) hX dJ12_copyOf_1 rfl rfl ?_
  refine gz_aload_n (q := 0) hX dJ12_copyOf_2 rfl rfl ?_
  refine gz_getC hX (xs_dyn ha) q876 ⟨Nat.le_of_ble_eq_true rfl, Nat.le_of_ble_eq_true rfl⟩ dJ12_copyOf_3 ?_
  refine gz_callS (As := [.ref (ad a), .int n, .ref (gx_C X 1004)]) (rest := []) hX (c_j12_copyOf_2 ha hf hn0 hn hL hL2 hmin hel) (lw_j12_copyOf_2_ q899) rfl rfl nn_j12_copyOf_2 ⟨Nat.le_of_ble_eq_true rfl, Nat.le_of_ble_eq_true rfl⟩ ⟨by show 0 + 1 ≤ 1; omega, by show 0 + L2 ≤ L2; omega⟩ rfl rfl (Nat.le_of_ble_eq_true rfl) dJ12_copyOf_6 ?_
  rintro sh2 V2 Rf2 ad2 rv ⟨rfl, rfl, rfl, h2, rfl⟩
  have g := gz_aretE (sh := xw_s (gz_us Ds (98, c, 0) (114, L2))) (V := gz_uz V (98, c, 0)) (Rf := xw_c (j2_cpy (gz_un Df (98, c, 0)) a L (98, c, 0))) (ad := ad2) (pc := 9) (lv := [(0, .ref (ad a)), (1, .int n)]) (x := ad2 (98, c, 0)) hX hE rfl (Or.inr ⟨_, rfl⟩) (by rw [h5]; exact ⟨rfl, rfl, rfl, h2, rfl⟩) dJ12_copyOf_9
  rw [h6, h7] at g
  rw [Nat.zero_add, Nat.zero_add]
  exact g
/-! grow -/
def j2_cap (L : Nat) : Option Nat := if L = 10 then some 15 else if L = 15 then some 22 else none
noncomputable def j2_grow (Ds : gz_S) (Df : gz_R) (V : gz_V) (c : Nat) (u a : gz_N) (L : Nat) : gp_O gz_N :=
  if L = 0 then gz_gd (a = (0, 0, 0) ∧ V u 2 = 0) (gp_nw (114, 10) Ds Df V c (fun Ds2 Df2 V2 c2 => gz_let (gz_ur Df2 u 1 (some (98, c, 0))) (fun Df3 => some (.inr (Ds2, Df3, V2, c2, (98, c, 0))))))
  else gz_bd (j2_cap L) (fun L2 => @gz_gd _ ((90 ≤ a.1 ∧ V u 2 = L.toInt32) ∧ ∀ i e, i < L → Df a i = some e → gp_el Ds e) (Classical.propDecidable _) (gp_nw (114, L2) Ds Df V c (fun Ds2 Df2 V2 c2 => gz_let (gz_ur (j2_cpy Df2 a L (98, c, 0)) u 1 (some (98, c, 0))) (fun Df3 => some (.inr (Ds2, Df3, V2, c2, (98, c, 0)))))))
def j2_pA (c : Nat) : gz_S → gz_N → Prop := fun _ r => r = (98, c, 0)
