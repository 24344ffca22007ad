/-! THE TWIN, walked. Printed by wip/D-99505w/gen/mkx6.py -/
set_option maxRecDepth 100000
def rm_added : Room := { frames := 0, cells := 0, slots := 0, locals := 0 }
noncomputable def m_added (a1 : Int32) (a2 : Int32) : Int32 := (if a1 < (1000000007 - a2) then (a1 + a2) else (a1 - (1000000007 - a2)))
theorem c_added {l : Launch} {D : va_G} {aC : Nat → ClassId} {ad : gz_A0} {V : gz_V} {a1 : Int32} {a2 : Int32} {r : Int32} (h : m_added a1 a2 = r) : gz_Met l yX6_added cX6_added 3 (some .int) rm_added D aC ad tw_S V tw_R [.ref (ad (1, 0, 0)), .int a1, .int a2] (gz_F1 tw_S tw_R ad V (some (.int r))) 0 0 := by
  refine gt_ofW (own := RX6) (mn := "added") (lv := [(0, .ref (ad (1, 0, 0))), (1, .int a1), (2, .int a2)]) (by decide) rfl rfl (Nat.le_of_ble_eq_true rfl) rfl ?_
  intro X hX hZ hF
  rw [m_added] at h
  refine gz_iload_n (q := 1) hX dX6_added_0 rfl rfl ?_
  refine gz_ldc (v := 1000000007) hX q2082 dX6_added_1 ?_
  refine gz_iload_n (q := 2) hX dX6_added_3 rfl rfl ?_
  refine gz_isub hX dX6_added_4 ?_
  refine gz_icmp_lt (tgt := 17) hX dX6_added_5 (by decide) (fun c1 => ?_) (fun c1 => ?_)
  · have h := gz_ifp c1 h
    refine gz_iload_n (q := 1) hX dX6_added_17 rfl rfl ?_
    refine gz_iload_n (q := 2) hX dX6_added_18 rfl rfl ?_
    refine gz_iadd hX dX6_added_19 ?_
    exact gt_iret hX hZ hF rfl h dX6_added_20
  · have h := gz_ifn c1 h
    refine gz_iload_n (q := 1) hX dX6_added_8 rfl rfl ?_
    refine gz_ldc (v := 1000000007) hX q2082 dX6_added_9 ?_
    refine gz_iload_n (q := 2) hX dX6_added_11 rfl rfl ?_
    refine gz_isub hX dX6_added_12 ?_
    refine gz_isub hX dX6_added_13 ?_
    refine gz_goto (tgt := 20) hX dX6_added_14 (by decide) ?_
    exact gt_iret hX hZ hF rfl h dX6_added_20
theorem lw_added_ {i : Nat} (hl : Cond.methodLink RX6 i yX6_added ∈ lw_all) : GoodIn lw_all (wsV RX6 i RX6 yX6_added (ws_ yX6_added cX6_added 3 (some .int))) := lw_V hl q2080 qs126 q153 q2081
theorem nn_added : yX6_added.cls = RX6 ∧ yX6_added.cls ≠ "java/lang/invoke/MethodHandle" ∧ yX6_added.cls ≠ "java/lang/invoke/VarHandle" ∧ (parseMethodDescriptor yX6_added.desc).map (fun d => d.parameters.length) = some 2 := by decide +kernel
theorem gk_c_0 : Int32.ofInt 0 = 0 := by decide
theorem gk_c_1 : Int32.ofInt 1 = 1 := by decide
def rm_isPerson : Room := { frames := 0, cells := 0, slots := 0, locals := 0 }
noncomputable def m_isPerson (V : gz_V) (a1 : Int32) : Int32 := (if a1 < 0 then 0 else (if (V (1, 0, 0) 6) ≤ a1 then 0 else 1))
theorem c_isPerson {l : Launch} {D : va_G} {aC : Nat → ClassId} {ad : gz_A0} {V : gz_V} {a1 : Int32} {r : Int32} (h : m_isPerson V a1 = r) : gz_Met l yX6_isPerson cX6_isPerson 2 (some .boolean) rm_isPerson D aC ad tw_S V tw_R [.ref (ad (1, 0, 0)), .int a1] (gz_F1 tw_S tw_R ad V (some (.int r))) 0 0 := by
  refine gt_ofW (own := RX6) (mn := "isPerson") (lv := [(0, .ref (ad (1, 0, 0))), (1, .int a1)]) (by decide) rfl rfl (Nat.le_of_ble_eq_true rfl) rfl ?_
  intro X hX hZ hF
  rw [m_isPerson] at h
  refine gz_iload_n (q := 1) hX dX6_isPerson_0 rfl rfl ?_
  refine gz_if_lt (tgt := 16) hX dX6_isPerson_1 (by decide) (fun c1 => ?_) (fun c1 => ?_)
  · have h := gz_ifp c1 h
    refine gz_iconst (v := 0) hX dX6_isPerson_16 gk_c_0 ?_
    exact gt_zret hX hZ rfl hF rfl h dX6_isPerson_17
  · have h := gz_ifn c1 h
    refine gz_iload_n (q := 1) hX dX6_isPerson_4 rfl rfl ?_
    refine gz_aload_n (q := 0) hX dX6_isPerson_5 rfl rfl ?_
    refine tg_people hX dX6_isPerson_6 ?_
    refine gz_icmp_ge (tgt := 16) hX dX6_isPerson_9 (by decide) (fun c2 => ?_) (fun c2 => ?_)
    · have h := gz_ifp c2 h
      refine gz_iconst (v := 0) hX dX6_isPerson_16 gk_c_0 ?_
      exact gt_zret hX hZ rfl hF rfl h dX6_isPerson_17
    · have h := gz_ifn c2 h
      refine gz_iconst (v := 1) hX dX6_isPerson_12 gk_c_1 ?_
      refine gz_goto (tgt := 17) hX dX6_isPerson_13 (by decide) ?_
      exact gt_zret hX hZ rfl hF rfl h dX6_isPerson_17
theorem lw_isPerson_ {i : Nat} (hl : Cond.methodLink RX6 i yX6_isPerson ∈ lw_all) : GoodIn lw_all (wsV RX6 i RX6 yX6_isPerson (ws_ yX6_isPerson cX6_isPerson 2 (some .boolean))) := lw_V hl q1710 qs56 q153 q1711
theorem nn_isPerson : yX6_isPerson.cls = RX6 ∧ yX6_isPerson.cls ≠ "java/lang/invoke/MethodHandle" ∧ yX6_isPerson.cls ≠ "java/lang/invoke/VarHandle" ∧ (parseMethodDescriptor yX6_isPerson.desc).map (fun d => d.parameters.length) = some 1 := by decide +kernel
theorem b_isPerson {V : gz_V} {a1 : Int32} : m_isPerson V a1 = 0 ∨ m_isPerson V a1 = 1 := by
  unfold m_isPerson
  try simp only [gz_let]
  repeat' split
  all_goals first | exact Or.inl rfl | exact Or.inr rfl
theorem gk_c_5 : Int32.ofInt 5 = 5 := by decide
def rm_traitOf : Room := { frames := 0, cells := 0, slots := 0, locals := 0 }
noncomputable def m_traitOf (V : gz_V) (a1 : Int32) (a2 : Int32) : Option Int32 := gz_gd (gz_inb ((5 + (5 * a1)) + a2) 121 = true) (some (V (2, 1, 0) ((5 + (5 * a1)) + a2).toNatClampNeg))
theorem c_traitOf {l : Launch} {D : va_G} {aC : Nat → ClassId} {ad : gz_A0} {V : gz_V} {a1 : Int32} {a2 : Int32} {r : Int32} (h : m_traitOf V a1 a2 = some r) : gz_Met l yX6_traitOf cX6_traitOf 3 (some .int) rm_traitOf D aC ad tw_S V tw_R [.ref (ad (1, 0, 0)), .int a1, .int a2] (gz_F1 tw_S tw_R ad V (some (.int r))) 0 0 := by
  refine gt_ofW (own := RX6) (mn := "traitOf") (lv := [(0, .ref (ad (1, 0, 0))), (1, .int a1), (2, .int a2)]) (by decide) rfl rfl (Nat.le_of_ble_eq_true rfl) rfl ?_
  intro X hX hZ hF
  rw [m_traitOf] at h
  refine gz_aload_n (q := 0) hX dX6_traitOf_0 rfl rfl ?_
  refine tg_now hX dX6_traitOf_1 ?_
  refine gz_iconst (v := 5) hX dX6_traitOf_4 gk_c_5 ?_
  refine gz_iconst (v := 5) hX dX6_traitOf_5 gk_c_5 ?_
  refine gz_iload_n (q := 1) hX dX6_traitOf_6 rfl rfl ?_
  refine gz_imul hX dX6_traitOf_7 ?_
  refine gz_iadd hX dX6_traitOf_8 ?_
  refine gz_iload_n (q := 2) hX dX6_traitOf_9 rfl rfl ?_
  refine gz_iadd hX dX6_traitOf_10 ?_
  obtain ⟨b1, h⟩ := gz_gd_o h
  refine gz_iald (L := 121) hX tw_S1 (gz_inb_o b1) dX6_traitOf_11 ?_
  exact gt_iret hX hZ hF rfl (gz_in1 h) dX6_traitOf_12
theorem lw_traitOf_ {i : Nat} (hl : Cond.methodLink RX6 i yX6_traitOf ∈ lw_all) : GoodIn lw_all (wsV RX6 i RX6 yX6_traitOf (ws_ yX6_traitOf cX6_traitOf 3 (some .int))) := lw_V hl q1898 qs97 q153 q1899
theorem nn_traitOf : yX6_traitOf.cls = RX6 ∧ yX6_traitOf.cls ≠ "java/lang/invoke/MethodHandle" ∧ yX6_traitOf.cls ≠ "java/lang/invoke/VarHandle" ∧ (parseMethodDescriptor yX6_traitOf.desc).map (fun d => d.parameters.length) = some 2 := by decide +kernel
def rm_apart : Room := { frames := 0, cells := 0, slots := 0, locals := 0 }
noncomputable def m_apart (a1 : Int32) (a2 : Int32) : Int32 := (if a1 ≤ a2 then (a2 - a1) else (a1 - a2))
theorem c_apart {l : Launch} {D : va_G} {aC : Nat → ClassId} {ad : gz_A0} {V : gz_V} {a1 : Int32} {a2 : Int32} {r : Int32} (h : m_apart a1 a2 = r) : gz_Met l yX6_apart cX6_apart 3 (some .int) rm_apart D aC ad tw_S V tw_R [.ref (ad (1, 0, 0)), .int a1, .int a2] (gz_F1 tw_S tw_R ad V (some (.int r))) 0 0 := by
  refine gt_ofW (own := RX6) (mn := "apart") (lv := [(0, .ref (ad (1, 0, 0))), (1, .int a1), (2, .int a2)]) (by decide) rfl rfl (Nat.le_of_ble_eq_true rfl) rfl ?_
  intro X hX hZ hF
  rw [m_apart] at h
  refine gz_iload_n (q := 1) hX dX6_apart_0 rfl rfl ?_
  refine gz_iload_n (q := 2) hX dX6_apart_1 rfl rfl ?_
  refine gz_icmp_le (tgt := 11) hX dX6_apart_2 (by decide) (fun c1 => ?_) (fun c1 => ?_)
  · have h := gz_ifp c1 h
    refine gz_iload_n (q := 2) hX dX6_apart_11 rfl rfl ?_
    refine gz_iload_n (q := 1) hX dX6_apart_12 rfl rfl ?_
    refine gz_isub hX dX6_apart_13 ?_
    exact gt_iret hX hZ hF rfl h dX6_apart_14
  · have h := gz_ifn c1 h
    refine gz_iload_n (q := 1) hX dX6_apart_5 rfl rfl ?_
    refine gz_iload_n (q := 2) hX dX6_apart_6 rfl rfl ?_
    refine gz_isub hX dX6_apart_7 ?_
    refine gz_goto (tgt := 14) hX dX6_apart_8 (by decide) ?_
    exact gt_iret hX hZ hF rfl h dX6_apart_14
theorem lw_apart_ {i : Nat} (hl : Cond.methodLink RX6 i yX6_apart ∈ lw_all) : GoodIn lw_all (wsV RX6 i RX6 yX6_apart (ws_ yX6_apart cX6_apart 3 (some .int))) := lw_V hl q2146 qs135 q153 q2147
theorem nn_apart : yX6_apart.cls = RX6 ∧ yX6_apart.cls ≠ "java/lang/invoke/MethodHandle" ∧ yX6_apart.cls ≠ "java/lang/invoke/VarHandle" ∧ (parseMethodDescriptor yX6_apart.desc).map (fun d => d.parameters.length) = some 2 := by decide +kernel
def rm_unlike : Room := { frames := 1, cells := 0, slots := 0, locals := 22 }
noncomputable def m_unlike_L5 (N : Nat) (V : gz_V) (v1 : Int32) (v2 : Int32) : Nat → Int32 → Int32 → Option (Int32)
  | 0, _, _ => none
  | n + 1, v3, v4 => (if 5 ≤ v4 then some v3 else gz_bd (m_traitOf V v1 v4) (fun r2 => gz_bd (m_traitOf V v2 v4) (fun r4 => gz_let (v3 + (m_apart r2 r4)) (fun x6 => m_unlike_L5 N V v1 v2 n x6 (v4 + 1)))))
theorem w_m_unlike_L5 {X : gz_X} {ad : gz_A0} (hX : gz_ok X cX6_unlike RX6 "unlike" 5 rm_unlike (some .int)) (hZ : gz_Z X) {N : Nat} {V : gz_V} {v1 : Int32} {v2 : Int32} {o3 : Int32} (k : gW X 5 tw_S tw_R ad V 0 0 38 [(3, .int o3)] []) : ∀ (n : Nat) {v3 : Int32} {v4 : Int32}, m_unlike_L5 N V v1 v2 n v3 v4 = some o3 → gW X 5 tw_S tw_R ad V 0 0 5 [(0, .ref (ad (1, 0, 0))), (1, .int v1), (2, .int v2), (3, .int v3), (4, .int v4)] [] := by
  intro n
  induction n with
  | zero => intro v3 v4 h; rw [m_unlike_L5] at h; cases h
  | succ n ih =>
    intro v3 v4 h
    rw [m_unlike_L5] at h
    refine gz_iload (q := 4) hX dX6_unlike_5 rfl ?_
    refine gz_iconst (v := 5) hX dX6_unlike_7 gk_c_5 ?_
    refine gz_icmp_ge (tgt := 38) hX dX6_unlike_8 (by decide) (fun c1 => ?_) (fun c1 => ?_)
    · have h := gz_ifp c1 h
      obtain rfl := gz_in1 h
      exact gz_lv [3] rfl k
    · have h := gz_ifn c1 h
      refine gz_iload_n (q := 3) hX dX6_unlike_11 rfl rfl ?_
      refine gz_aload_n (q := 0) hX dX6_unlike_12 rfl rfl ?_
      refine gz_aload_n (q := 0) hX dX6_unlike_13 rfl rfl ?_
      refine gz_iload_n (q := 1) hX dX6_unlike_14 rfl rfl ?_
      refine gz_iload (q := 4) hX dX6_unlike_15 rfl ?_
      obtain ⟨r2, e3, h⟩ := gz_bd_o h
      refine tc_V (As := [.int v1, .int v4]) hX (c_traitOf e3) (lw_traitOf_ q1896) rfl rfl nn_traitOf ⟨Nat.le_of_ble_eq_true rfl, Nat.le_of_ble_eq_true rfl⟩ rfl rfl (Nat.le_of_ble_eq_true rfl) dX6_unlike_17 rfl ?_
      refine gz_aload_n (q := 0) hX dX6_unlike_20 rfl rfl ?_
      refine gz_iload_n (q := 2) hX dX6_unlike_21 rfl rfl ?_
      refine gz_iload (q := 4) hX dX6_unlike_22 rfl ?_
      obtain ⟨r4, e5, h⟩ := gz_bd_o h
      refine tc_V (As := [.int v2, .int v4]) hX (c_traitOf e5) (lw_traitOf_ q1896) rfl rfl nn_traitOf ⟨Nat.le_of_ble_eq_true rfl, Nat.le_of_ble_eq_true rfl⟩ rfl rfl (Nat.le_of_ble_eq_true rfl) dX6_unlike_24 rfl ?_
      refine tc_V (As := [.int r2, .int r4]) hX (c_apart rfl) (lw_apart_ q2144) rfl rfl nn_apart ⟨Nat.le_of_ble_eq_true rfl, Nat.le_of_ble_eq_true rfl⟩ rfl rfl (Nat.le_of_ble_eq_true rfl) dX6_unlike_27 rfl ?_
      refine gz_iadd hX dX6_unlike_30 ?_
      obtain ⟨x6, e7, h⟩ := gz_let_o h
      refine gz_nm e7 ?_
      refine gz_istore_n (lv2 := [(3, .int x6), (0, .ref (ad (1, 0, 0))), (1, .int v1), (2, .int v2), (4, .int v4)]) hX dX6_unlike_31 rfl (by decide) rfl ?_
      refine gz_iinc (q := 4) (lv2 := [(4, .int (v4 + 1)), (3, .int x6), (0, .ref (ad (1, 0, 0))), (1, .int v1), (2, .int v2)]) hX dX6_unlike_32 rfl gk_c_1 (by decide) rfl ?_
      refine gz_goto (tgt := 5) hX dX6_unlike_35 (by decide) ?_
      exact gz_lv [2, 3, 4, 1, 0] rfl (ih h)
noncomputable def m_unlike (N : Nat) (V : gz_V) (a1 : Int32) (a2 : Int32) : Option Int32 := gz_bd (m_unlike_L5 N V a1 a2 N 0 0) (fun x1 => some x1)
theorem c_unlike {l : Launch} {D : va_G} {aC : Nat → ClassId} {ad : gz_A0} {N : Nat} {V : gz_V} {a1 : Int32} {a2 : Int32} {r : Int32} (h : m_unlike N V a1 a2 = some r) : gz_Met l yX6_unlike cX6_unlike 5 (some .int) rm_unlike D aC ad tw_S V tw_R [.ref (ad (1, 0, 0)), .int a1, .int a2] (gz_F1 tw_S tw_R ad V (some (.int r))) 0 0 := by
  refine gt_ofW (own := RX6) (mn := "unlike") (lv := [(0, .ref (ad (1, 0, 0))), (1, .int a1), (2, .int a2)]) (by decide) rfl rfl (Nat.le_of_ble_eq_true rfl) rfl ?_
  intro X hX hZ hF
  rw [m_unlike] at h
  refine gz_iconst (v := 0) hX dX6_unlike_0 gk_c_0 ?_
  refine gz_istore_n (lv2 := [(3, .int 0), (0, .ref (ad (1, 0, 0))), (1, .int a1), (2, .int a2)]) hX dX6_unlike_1 rfl (by decide) rfl ?_
  refine gz_iconst (v := 0) hX dX6_unlike_2 gk_c_0 ?_
  refine gz_istore (lv2 := [(4, .int 0), (3, .int 0), (0, .ref (ad (1, 0, 0))), (1, .int a1), (2, .int a2)]) hX dX6_unlike_3 (by decide) rfl ?_
  obtain ⟨x1, e2, h⟩ := gz_bd_o h
  refine gz_lv [2, 3, 4, 1, 0] rfl (w_m_unlike_L5 hX hZ ?_ N e2)
  refine gz_iload_n (q := 0) hX dX6_unlike_38 rfl rfl ?_
  exact gt_iret hX hZ hF rfl (gz_in1 h) dX6_unlike_39
theorem lw_unlike_ {i : Nat} (hl : Cond.methodLink RX6 i yX6_unlike ∈ lw_all) : GoodIn lw_all (wsV RX6 i RX6 yX6_unlike (ws_ yX6_unlike cX6_unlike 5 (some .int))) := lw_V hl q2142 qs134 q153 q2143
theorem nn_unlike : yX6_unlike.cls = RX6 ∧ yX6_unlike.cls ≠ "java/lang/invoke/MethodHandle" ∧ yX6_unlike.cls ≠ "java/lang/invoke/VarHandle" ∧ (parseMethodDescriptor yX6_unlike.desc).map (fun d => d.parameters.length) = some 2 := by decide +kernel
theorem gk_c_m1 : Int32.ofInt (-1) = (-1) := by decide
def rm_alike : Room := { frames := 2, cells := 0, slots := 0, locals := 46 }
noncomputable def m_alike_L45 (N : Nat) (V : gz_V) (v1 : Int32) : Nat → Int32 → Int32 → Option (Int32)
  | 0, _, _ => none
  | n + 1, v3, v4 => (if (V (1, 0, 0) 6) ≤ v4 then some v3 else gz_bd (if v4 = v1 then some v3 else (if v3 = (-1) then some v4 else gz_bd (m_unlike N V v1 v4) (fun r12 => gz_bd (m_unlike N V v1 v3) (fun r14 => (if r14 ≤ r12 then some v3 else some v4))))) (fun y7 => m_alike_L45 N V v1 n y7 (v4 + 1)))
theorem w_m_alike_L45 {X : gz_X} {ad : gz_A0} (hX : gz_ok X cX6_alike RX6 "alike" 5 rm_alike (some .int)) (hZ : gz_Z X) {N : Nat} {V : gz_V} {v1 : Int32} {o3 : Int32} (k : gW X 5 tw_S tw_R ad V 0 0 90 [(3, .int o3)] []) : ∀ (n : Nat) {v3 : Int32} {v4 : Int32}, m_alike_L45 N V v1 n v3 v4 = some o3 → gW X 5 tw_S tw_R ad V 0 0 45 [(0, .ref (ad (1, 0, 0))), (1, .int v1), (3, .int v3), (4, .int v4)] [] := by
  intro n
  induction n with
  | zero => intro v3 v4 h; rw [m_alike_L45] at h; cases h
  | succ n ih =>
    intro v3 v4 h
    rw [m_alike_L45] at h
    refine gz_iload (q := 3) hX dX6_alike_45 rfl ?_
    refine gz_aload_n (q := 0) hX dX6_alike_47 rfl rfl ?_
    refine tg_people hX dX6_alike_48 ?_
    refine gz_icmp_ge (tgt := 90) hX dX6_alike_51 (by decide) (fun c6 => ?_) (fun c6 => ?_)
    · have h := gz_ifp c6 h
      obtain rfl := gz_in1 h
      exact gz_lv [2] rfl k
    · have h := gz_ifn c6 h
      refine gz_iload (q := 3) hX dX6_alike_54 rfl ?_
      refine gz_iload_n (q := 1) hX dX6_alike_56 rfl rfl ?_
      obtain ⟨y7, g8, h⟩ := gz_bd_o h
      have J9 : gW X 5 tw_S tw_R ad V 0 0 84 [(0, .ref (ad (1, 0, 0))), (1, .int v1), (3, .int y7), (4, .int v4)] [] := by
        refine gz_iinc (q := 3) (lv2 := [(4, .int (v4 + 1)), (0, .ref (ad (1, 0, 0))), (1, .int v1), (3, .int y7)]) hX dX6_alike_84 rfl gk_c_1 (by decide) rfl ?_
        refine gz_goto (tgt := 45) hX dX6_alike_87 (by decide) ?_
        exact gz_lv [1, 2, 3, 0] rfl (ih h)
      refine gz_icmp_eq (tgt := 84) hX dX6_alike_57 (by decide) (fun c10 => ?_) (fun c10 => ?_)
      · have g8 := gz_ifp c10 g8
        obtain rfl := gz_in1 g8
        exact gz_lv [0, 1, 2, 3] rfl J9
      · have g8 := gz_ifn c10 g8
        refine gz_iload_n (q := 2) hX dX6_alike_60 rfl rfl ?_
        refine gz_iconst (v := (-1)) hX dX6_alike_61 gk_c_m1 ?_
        refine gz_icmp_eq (tgt := 81) hX dX6_alike_62 (by decide) (fun c11 => ?_) (fun c11 => ?_)
        · have g8 := gz_ifp c11 g8
          refine gz_iload (q := 3) hX dX6_alike_81 rfl ?_
          refine gz_istore_n (lv2 := [(3, .int v4), (0, .ref (ad (1, 0, 0))), (1, .int v1), (4, .int v4)]) hX dX6_alike_83 rfl (by decide) rfl ?_
          obtain rfl := gz_in1 g8
          exact gz_lv [1, 2, 0, 3] rfl J9
        · have g8 := gz_ifn c11 g8
          refine gz_aload_n (q := 0) hX dX6_alike_65 rfl rfl ?_
          refine gz_iload_n (q := 1) hX dX6_alike_66 rfl rfl ?_
          refine gz_iload (q := 3) hX dX6_alike_67 rfl ?_
          obtain ⟨r12, e13, g8⟩ := gz_bd_o g8
          refine tc_V (As := [.int v1, .int v4]) hX (c_unlike e13) (lw_unlike_ q2140) rfl rfl nn_unlike ⟨Nat.le_of_ble_eq_true rfl, Nat.le_of_ble_eq_true rfl⟩ rfl rfl (Nat.le_of_ble_eq_true rfl) dX6_alike_69 rfl ?_
          refine gz_aload_n (q := 0) hX dX6_alike_72 rfl rfl ?_
          refine gz_iload_n (q := 1) hX dX6_alike_73 rfl rfl ?_
          refine gz_iload_n (q := 2) hX dX6_alike_74 rfl rfl ?_
          obtain ⟨r14, e15, g8⟩ := gz_bd_o g8
          refine tc_V (As := [.int v1, .int v3]) hX (c_unlike e15) (lw_unlike_ q2140) rfl rfl nn_unlike ⟨Nat.le_of_ble_eq_true rfl, Nat.le_of_ble_eq_true rfl⟩ rfl rfl (Nat.le_of_ble_eq_true rfl) dX6_alike_75 rfl ?_
          refine gz_icmp_ge (tgt := 84) hX dX6_alike_78 (by decide) (fun c16 => ?_) (fun c16 => ?_)
          · have g8 := gz_ifp c16 g8
            obtain rfl := gz_in1 g8
            exact gz_lv [0, 1, 2, 3] rfl J9
          · have g8 := gz_ifn c16 g8
            refine gz_iload (q := 3) hX dX6_alike_81 rfl ?_
            refine gz_istore_n (lv2 := [(3, .int v4), (0, .ref (ad (1, 0, 0))), (1, .int v1), (4, .int v4)]) hX dX6_alike_83 rfl (by decide) rfl ?_
            obtain rfl := gz_in1 g8
            exact gz_lv [1, 2, 0, 3] rfl J9
noncomputable def m_alike (N : Nat) (V : gz_V) (a1 : Int32) (a2 : Int32) : Option (gz_V × Int32) := gz_let (gz_up V (1, 0, 0) 0 0) (fun V1 => (if (m_isPerson V1 a1) = 0 then some (V1, (-1)) else (if a2 = (-1) then (if a2 = (-1) then gz_bd (m_alike_L45 N V1 a1 N (-1) 0) (fun x6 => some (V1, x6)) else gz_bd (m_unlike N V1 a1 a2) (fun r8 => some (V1, r8))) else (if (m_isPerson V1 a2) = 0 then some (V1, (-1)) else (if a2 = (-1) then gz_bd (m_alike_L45 N V1 a1 N (-1) 0) (fun x12 => some (V1, x12)) else gz_bd (m_unlike N V1 a1 a2) (fun r14 => some (V1, r14)))))))
theorem c_alike {l : Launch} {D : va_G} {aC : Nat → ClassId} {ad : gz_A0} {N : Nat} {V : gz_V} {a1 : Int32} {a2 : Int32} {W1 : gz_V} {r : Int32} (h : m_alike N V a1 a2 = some (W1, r)) : gz_Met l yX6_alike cX6_alike 5 (some .int) rm_alike D aC ad tw_S V tw_R [.ref (ad (1, 0, 0)), .int a1, .int a2] (gz_F1 tw_S tw_R ad W1 (some (.int r))) 0 0 := by
  refine gt_ofW (own := RX6) (mn := "alike") (lv := [(0, .ref (ad (1, 0, 0))), (1, .int a1), (2, .int a2)]) (by decide) rfl rfl (Nat.le_of_ble_eq_true rfl) rfl ?_
  intro X hX hZ hF
  rw [m_alike] at h
  refine gz_aload_n (q := 0) hX dX6_alike_0 rfl rfl ?_
  refine gz_iconst (v := 0) hX dX6_alike_1 gk_c_0 ?_
  obtain ⟨V1, e2, h⟩ := gz_let_o h
  refine tp_told hX dX6_alike_2 e2 ?_
  refine gz_aload_n (q := 0) hX dX6_alike_5 rfl rfl ?_
  refine gz_iload_n (q := 1) hX dX6_alike_6 rfl rfl ?_
  refine tc_V (As := [.int a1]) hX (c_isPerson rfl) (lw_isPerson_ q1708) rfl rfl nn_isPerson ⟨Nat.le_of_ble_eq_true rfl, Nat.le_of_ble_eq_true rfl⟩ rfl rfl (Nat.le_of_ble_eq_true rfl) dX6_alike_7 rfl ?_
  refine gz_if_eq (tgt := 26) hX dX6_alike_10 (by decide) (fun c3 => ?_) (fun c3 => ?_)
  · have h := gz_ifp c3 h
    refine gz_iconst (v := (-1)) hX dX6_alike_26 gk_c_m1 ?_
    obtain ⟨e1, e2⟩ := gz_in2 h
    exact gt_iret hX hZ hF e1 e2 dX6_alike_27
  · have h := gz_ifn c3 h
    refine gz_iload_n (q := 2) hX dX6_alike_13 rfl rfl ?_
    refine gz_iconst (v := (-1)) hX dX6_alike_14 gk_c_m1 ?_
    refine gz_icmp_eq (tgt := 28) hX dX6_alike_15 (by decide) (fun c4 => ?_) (fun c4 => ?_)
    · have h := gz_ifp c4 h
      refine gz_iload_n (q := 2) hX dX6_alike_28 rfl rfl ?_
      refine gz_iconst (v := (-1)) hX dX6_alike_29 gk_c_m1 ?_
      refine gz_icmp_eq (tgt := 40) hX dX6_alike_30 (by decide) (fun c5 => ?_) (fun c5 => ?_)
      · have h := gz_ifp c5 h
        refine gz_iconst (v := (-1)) hX dX6_alike_40 gk_c_m1 ?_
        refine gz_istore_n (lv2 := [(3, .int (-1)), (0, .ref (ad (1, 0, 0))), (1, .int a1), (2, .int a2)]) hX dX6_alike_41 rfl (by decide) rfl ?_
        refine gz_iconst (v := 0) hX dX6_alike_42 gk_c_0 ?_
        refine gz_istore (lv2 := [(4, .int 0), (3, .int (-1)), (0, .ref (ad (1, 0, 0))), (1, .int a1), (2, .int a2)]) hX dX6_alike_43 (by decide) rfl ?_
        obtain ⟨x6, e7, h⟩ := gz_bd_o h
        refine gz_lv [2, 3, 1, 0] rfl (w_m_alike_L45 hX hZ ?_ N e7)
        refine gz_iload_n (q := 0) hX dX6_alike_90 rfl rfl ?_
        obtain ⟨e1, e2⟩ := gz_in2 h
        exact gt_iret hX hZ hF e1 e2 dX6_alike_91
      · have h := gz_ifn c5 h
        refine gz_aload_n (q := 0) hX dX6_alike_33 rfl rfl ?_
        refine gz_iload_n (q := 1) hX dX6_alike_34 rfl rfl ?_
        refine gz_iload_n (q := 2) hX dX6_alike_35 rfl rfl ?_
        obtain ⟨r8, e9, h⟩ := gz_bd_o h
        refine tc_V (As := [.int a1, .int a2]) hX (c_unlike e9) (lw_unlike_ q2140) rfl rfl nn_unlike ⟨Nat.le_of_ble_eq_true rfl, Nat.le_of_ble_eq_true rfl⟩ rfl rfl (Nat.le_of_ble_eq_true rfl) dX6_alike_36 rfl ?_
        obtain ⟨e1, e2⟩ := gz_in2 h
        exact gt_iret hX hZ hF e1 e2 dX6_alike_39
    · have h := gz_ifn c4 h
      refine gz_aload_n (q := 0) hX dX6_alike_18 rfl rfl ?_
      refine gz_iload_n (q := 2) hX dX6_alike_19 rfl rfl ?_
      refine tc_V (As := [.int a2]) hX (c_isPerson rfl) (lw_isPerson_ q1708) rfl rfl nn_isPerson ⟨Nat.le_of_ble_eq_true rfl, Nat.le_of_ble_eq_true rfl⟩ rfl rfl (Nat.le_of_ble_eq_true rfl) dX6_alike_20 rfl ?_
      refine gz_if_ne (tgt := 28) hX dX6_alike_23 (by decide) (fun c10 => ?_) (fun c10 => ?_)
      · have h := gz_ifn c10 h
        refine gz_iload_n (q := 2) hX dX6_alike_28 rfl rfl ?_
        refine gz_iconst (v := (-1)) hX dX6_alike_29 gk_c_m1 ?_
        refine gz_icmp_eq (tgt := 40) hX dX6_alike_30 (by decide) (fun c11 => ?_) (fun c11 => ?_)
        · have h := gz_ifp c11 h
          refine gz_iconst (v := (-1)) hX dX6_alike_40 gk_c_m1 ?_
          refine gz_istore_n (lv2 := [(3, .int (-1)), (0, .ref (ad (1, 0, 0))), (1, .int a1), (2, .int a2)]) hX dX6_alike_41 rfl (by decide) rfl ?_
          refine gz_iconst (v := 0) hX dX6_alike_42 gk_c_0 ?_
          refine gz_istore (lv2 := [(4, .int 0), (3, .int (-1)), (0, .ref (ad (1, 0, 0))), (1, .int a1), (2, .int a2)]) hX dX6_alike_43 (by decide) rfl ?_
          obtain ⟨x12, e13, h⟩ := gz_bd_o h
          refine gz_lv [2, 3, 1, 0] rfl (w_m_alike_L45 hX hZ ?_ N e13)
          refine gz_iload_n (q := 0) hX dX6_alike_90 rfl rfl ?_
          obtain ⟨e1, e2⟩ := gz_in2 h
          exact gt_iret hX hZ hF e1 e2 dX6_alike_91
        · have h := gz_ifn c11 h
          refine gz_aload_n (q := 0) hX dX6_alike_33 rfl rfl ?_
          refine gz_iload_n (q := 1) hX dX6_alike_34 rfl rfl ?_
          refine gz_iload_n (q := 2) hX dX6_alike_35 rfl rfl ?_
          obtain ⟨r14, e15, h⟩ := gz_bd_o h
          refine tc_V (As := [.int a1, .int a2]) hX (c_unlike e15) (lw_unlike_ q2140) rfl rfl nn_unlike ⟨Nat.le_of_ble_eq_true rfl, Nat.le_of_ble_eq_true rfl⟩ rfl rfl (Nat.le_of_ble_eq_true rfl) dX6_alike_36 rfl ?_
          obtain ⟨e1, e2⟩ := gz_in2 h
          exact gt_iret hX hZ hF e1 e2 dX6_alike_39
      · have h := gz_ifp c10 h
        refine gz_iconst (v := (-1)) hX dX6_alike_26 gk_c_m1 ?_
        obtain ⟨e1, e2⟩ := gz_in2 h
        exact gt_iret hX hZ hF e1 e2 dX6_alike_27
theorem lw_alike_ {i : Nat} (hl : Cond.methodLink RX6 i yX6_alike ∈ lw_all) : GoodIn lw_all (wsV RX6 i RX6 yX6_alike (ws_ yX6_alike cX6_alike 5 (some .int))) := lw_V hl q2137 q2138 q153 q2139
theorem nn_alike : yX6_alike.cls = RX6 ∧ yX6_alike.cls ≠ "java/lang/invoke/MethodHandle" ∧ yX6_alike.cls ≠ "java/lang/invoke/VarHandle" ∧ (parseMethodDescriptor yX6_alike.desc).map (fun d => d.parameters.length) = some 2 := by decide +kernel
theorem gk_b_77 : (Int8.ofInt 77).toInt32 = 77 := by decide
def rm_areBare : Room := { frames := 0, cells := 0, slots := 0, locals := 0 }
noncomputable def m_areBare (V : gz_V) (a1 : Int32) (a2 : Int32) : Option Int32 := gz_gd (gz_inb (77 + a1) 121 = true) ((if (V (2, 1, 0) (77 + a1).toNatClampNeg) = 1 then some 0 else gz_gd (gz_inb (77 + a2) 121 = true) ((if (V (2, 1, 0) (77 + a2).toNatClampNeg) = 1 then some 0 else some 1))))
theorem c_areBare {l : Launch} {D : va_G} {aC : Nat → ClassId} {ad : gz_A0} {V : gz_V} {a1 : Int32} {a2 : Int32} {r : Int32} (h : m_areBare V a1 a2 = some r) : gz_Met l yX6_areBare cX6_areBare 3 (some .boolean) rm_areBare D aC ad tw_S V tw_R [.ref (ad (1, 0, 0)), .int a1, .int a2] (gz_F1 tw_S tw_R ad V (some (.int r))) 0 0 := by
  refine gt_ofW (own := RX6) (mn := "areBare") (lv := [(0, .ref (ad (1, 0, 0))), (1, .int a1), (2, .int a2)]) (by decide) rfl rfl (Nat.le_of_ble_eq_true rfl) rfl ?_
  intro X hX hZ hF
  rw [m_areBare] at h
  refine gz_aload_n (q := 0) hX dX6_areBare_0 rfl rfl ?_
  refine tg_now hX dX6_areBare_1 ?_
  refine gz_bipush (v := 77) hX dX6_areBare_4 gk_b_77 ?_
  refine gz_iload_n (q := 1) hX dX6_areBare_6 rfl rfl ?_
  refine gz_iadd hX dX6_areBare_7 ?_
  obtain ⟨b1, h⟩ := gz_gd_o h
  refine gz_iald (L := 121) hX tw_S1 (gz_inb_o b1) dX6_areBare_8 ?_
  refine gz_iconst (v := 1) hX dX6_areBare_9 gk_c_1 ?_
  refine gz_icmp_eq (tgt := 30) hX dX6_areBare_10 (by decide) (fun c2 => ?_) (fun c2 => ?_)
  · have h := gz_ifp c2 h
    refine gz_iconst (v := 0) hX dX6_areBare_30 gk_c_0 ?_
    exact gt_zret hX hZ rfl hF rfl (gz_in1 h) dX6_areBare_31
  · have h := gz_ifn c2 h
    refine gz_aload_n (q := 0) hX dX6_areBare_13 rfl rfl ?_
    refine tg_now hX dX6_areBare_14 ?_
    refine gz_bipush (v := 77) hX dX6_areBare_17 gk_b_77 ?_
    refine gz_iload_n (q := 2) hX dX6_areBare_19 rfl rfl ?_
    refine gz_iadd hX dX6_areBare_20 ?_
    obtain ⟨b3, h⟩ := gz_gd_o h
    refine gz_iald (L := 121) hX tw_S1 (gz_inb_o b3) dX6_areBare_21 ?_
    refine gz_iconst (v := 1) hX dX6_areBare_22 gk_c_1 ?_
    refine gz_icmp_eq (tgt := 30) hX dX6_areBare_23 (by decide) (fun c4 => ?_) (fun c4 => ?_)
    · have h := gz_ifp c4 h
      refine gz_iconst (v := 0) hX dX6_areBare_30 gk_c_0 ?_
      exact gt_zret hX hZ rfl hF rfl (gz_in1 h) dX6_areBare_31
    · have h := gz_ifn c4 h
      refine gz_iconst (v := 1) hX dX6_areBare_26 gk_c_1 ?_
      refine gz_goto (tgt := 31) hX dX6_areBare_27 (by decide) ?_
      exact gt_zret hX hZ rfl hF rfl (gz_in1 h) dX6_areBare_31
theorem lw_areBare_ {i : Nat} (hl : Cond.methodLink RX6 i yX6_areBare ∈ lw_all) : GoodIn lw_all (wsV RX6 i RX6 yX6_areBare (ws_ yX6_areBare cX6_areBare 3 (some .boolean))) := lw_V hl q1946 qs109 q153 q1947
theorem nn_areBare : yX6_areBare.cls = RX6 ∧ yX6_areBare.cls ≠ "java/lang/invoke/MethodHandle" ∧ yX6_areBare.cls ≠ "java/lang/invoke/VarHandle" ∧ (parseMethodDescriptor yX6_areBare.desc).map (fun d => d.parameters.length) = some 2 := by decide +kernel
def rm_isIn : Room := { frames := 0, cells := 0, slots := 0, locals := 0 }
noncomputable def m_isIn (a1 : Int32) (a2 : Int32) (a3 : Int32) : Int32 := (if a1 < a2 then 0 else (if a3 < a1 then 0 else 1))
theorem c_isIn {l : Launch} {D : va_G} {aC : Nat → ClassId} {ad : gz_A0} {V : gz_V} {a1 : Int32} {a2 : Int32} {a3 : Int32} {r : Int32} (h : m_isIn a1 a2 a3 = r) : gz_Met l yX6_isIn cX6_isIn 4 (some .boolean) rm_isIn D aC ad tw_S V tw_R [.ref (ad (1, 0, 0)), .int a1, .int a2, .int a3] (gz_F1 tw_S tw_R ad V (some (.int r))) 0 0 := by
  refine gt_ofW (own := RX6) (mn := "isIn") (lv := [(0, .ref (ad (1, 0, 0))), (1, .int a1), (2, .int a2), (3, .int a3)]) (by decide) rfl rfl (Nat.le_of_ble_eq_true rfl) rfl ?_
  intro X hX hZ hF
  rw [m_isIn] at h
  refine gz_iload_n (q := 1) hX dX6_isIn_0 rfl rfl ?_
  refine gz_iload_n (q := 2) hX dX6_isIn_1 rfl rfl ?_
  refine gz_icmp_lt (tgt := 14) hX dX6_isIn_2 (by decide) (fun c1 => ?_) (fun c1 => ?_)
  · have h := gz_ifp c1 h
    refine gz_iconst (v := 0) hX dX6_isIn_14 gk_c_0 ?_
    exact gt_zret hX hZ rfl hF rfl h dX6_isIn_15
  · have h := gz_ifn c1 h
    refine gz_iload_n (q := 1) hX dX6_isIn_5 rfl rfl ?_
    refine gz_iload_n (q := 3) hX dX6_isIn_6 rfl rfl ?_
    refine gz_icmp_gt (tgt := 14) hX dX6_isIn_7 (by decide) (fun c2 => ?_) (fun c2 => ?_)
    · have h := gz_ifp c2 h
      refine gz_iconst (v := 0) hX dX6_isIn_14 gk_c_0 ?_
      exact gt_zret hX hZ rfl hF rfl h dX6_isIn_15
    · have h := gz_ifn c2 h
      refine gz_iconst (v := 1) hX dX6_isIn_10 gk_c_1 ?_
      refine gz_goto (tgt := 15) hX dX6_isIn_11 (by decide) ?_
      exact gt_zret hX hZ rfl hF rfl h dX6_isIn_15
theorem lw_isIn_ {i : Nat} (hl : Cond.methodLink RX6 i yX6_isIn ∈ lw_all) : GoodIn lw_all (wsV RX6 i RX6 yX6_isIn (ws_ yX6_isIn cX6_isIn 4 (some .boolean))) := lw_V hl q1694 qs53 q153 q1695
theorem nn_isIn : yX6_isIn.cls = RX6 ∧ yX6_isIn.cls ≠ "java/lang/invoke/MethodHandle" ∧ yX6_isIn.cls ≠ "java/lang/invoke/VarHandle" ∧ (parseMethodDescriptor yX6_isIn.desc).map (fun d => d.parameters.length) = some 3 := by decide +kernel
theorem b_isIn {a1 : Int32} {a2 : Int32} {a3 : Int32} : m_isIn a1 a2 a3 = 0 ∨ m_isIn a1 a2 a3 = 1 := by
  unfold m_isIn
  try simp only [gz_let]
  repeat' split
  all_goals first | exact Or.inl rfl | exact Or.inr rfl
theorem gk_b_9 : (Int8.ofInt 9).toInt32 = 9 := by decide
def rm_areTwo : Room := { frames := 1, cells := 0, slots := 0, locals := 23 }
noncomputable def m_areTwo (V : gz_V) (a1 : Int32) (a2 : Int32) (a3 : Int32) : Int32 := (if (m_isPerson V a1) = 0 then 0 else (if (m_isPerson V a2) = 0 then 0 else (if a1 = a2 then 0 else (if (m_isIn a3 1 9) = 0 then 0 else 1))))
theorem c_areTwo {l : Launch} {D : va_G} {aC : Nat → ClassId} {ad : gz_A0} {V : gz_V} {a1 : Int32} {a2 : Int32} {a3 : Int32} {r : Int32} (h : m_areTwo V a1 a2 a3 = r) : gz_Met l yX6_areTwo cX6_areTwo 4 (some .boolean) rm_areTwo D aC ad tw_S V tw_R [.ref (ad (1, 0, 0)), .int a1, .int a2, .int a3] (gz_F1 tw_S tw_R ad V (some (.int r))) 0 0 := by
  refine gt_ofW (own := RX6) (mn := "areTwo") (lv := [(0, .ref (ad (1, 0, 0))), (1, .int a1), (2, .int a2), (3, .int a3)]) (by decide) rfl rfl (Nat.le_of_ble_eq_true rfl) rfl ?_
  intro X hX hZ hF
  rw [m_areTwo] at h
  refine gz_aload_n (q := 0) hX dX6_areTwo_0 rfl rfl ?_
  refine gz_iload_n (q := 1) hX dX6_areTwo_1 rfl rfl ?_
  refine tc_V (As := [.int a1]) hX (c_isPerson rfl) (lw_isPerson_ q1708) rfl rfl nn_isPerson ⟨Nat.le_of_ble_eq_true rfl, Nat.le_of_ble_eq_true rfl⟩ rfl rfl (Nat.le_of_ble_eq_true rfl) dX6_areTwo_2 rfl ?_
  refine gz_if_eq (tgt := 36) hX dX6_areTwo_5 (by decide) (fun c1 => ?_) (fun c1 => ?_)
  · have h := gz_ifp c1 h
    refine gz_iconst (v := 0) hX dX6_areTwo_36 gk_c_0 ?_
    exact gt_zret hX hZ rfl hF rfl h dX6_areTwo_37
  · have h := gz_ifn c1 h
    refine gz_aload_n (q := 0) hX dX6_areTwo_8 rfl rfl ?_
    refine gz_iload_n (q := 2) hX dX6_areTwo_9 rfl rfl ?_
    refine tc_V (As := [.int a2]) hX (c_isPerson rfl) (lw_isPerson_ q1708) rfl rfl nn_isPerson ⟨Nat.le_of_ble_eq_true rfl, Nat.le_of_ble_eq_true rfl⟩ rfl rfl (Nat.le_of_ble_eq_true rfl) dX6_areTwo_10 rfl ?_
    refine gz_if_eq (tgt := 36) hX dX6_areTwo_13 (by decide) (fun c2 => ?_) (fun c2 => ?_)
    · have h := gz_ifp c2 h
      refine gz_iconst (v := 0) hX dX6_areTwo_36 gk_c_0 ?_
      exact gt_zret hX hZ rfl hF rfl h dX6_areTwo_37
    · have h := gz_ifn c2 h
      refine gz_iload_n (q := 1) hX dX6_areTwo_16 rfl rfl ?_
      refine gz_iload_n (q := 2) hX dX6_areTwo_17 rfl rfl ?_
      refine gz_icmp_eq (tgt := 36) hX dX6_areTwo_18 (by decide) (fun c3 => ?_) (fun c3 => ?_)
      · have h := gz_ifp c3 h
        refine gz_iconst (v := 0) hX dX6_areTwo_36 gk_c_0 ?_
        exact gt_zret hX hZ rfl hF rfl h dX6_areTwo_37
      · have h := gz_ifn c3 h
        refine gz_aload_n (q := 0) hX dX6_areTwo_21 rfl rfl ?_
        refine gz_iload_n (q := 3) hX dX6_areTwo_22 rfl rfl ?_
        refine gz_iconst (v := 1) hX dX6_areTwo_23 gk_c_1 ?_
        refine gz_bipush (v := 9) hX dX6_areTwo_24 gk_b_9 ?_
        refine tc_V (As := [.int a3, .int 1, .int 9]) hX (c_isIn rfl) (lw_isIn_ q1692) rfl rfl nn_isIn ⟨Nat.le_of_ble_eq_true rfl, Nat.le_of_ble_eq_true rfl⟩ rfl rfl (Nat.le_of_ble_eq_true rfl) dX6_areTwo_26 rfl ?_
        refine gz_if_eq (tgt := 36) hX dX6_areTwo_29 (by decide) (fun c4 => ?_) (fun c4 => ?_)
        · have h := gz_ifp c4 h
          refine gz_iconst (v := 0) hX dX6_areTwo_36 gk_c_0 ?_
          exact gt_zret hX hZ rfl hF rfl h dX6_areTwo_37
        · have h := gz_ifn c4 h
          refine gz_iconst (v := 1) hX dX6_areTwo_32 gk_c_1 ?_
          refine gz_goto (tgt := 37) hX dX6_areTwo_33 (by decide) ?_
          exact gt_zret hX hZ rfl hF rfl h dX6_areTwo_37
theorem lw_areTwo_ {i : Nat} (hl : Cond.methodLink RX6 i yX6_areTwo ∈ lw_all) : GoodIn lw_all (wsV RX6 i RX6 yX6_areTwo (ws_ yX6_areTwo cX6_areTwo 4 (some .boolean))) := lw_V hl q2008 qs118 q153 q2009
theorem nn_areTwo : yX6_areTwo.cls = RX6 ∧ yX6_areTwo.cls ≠ "java/lang/invoke/MethodHandle" ∧ yX6_areTwo.cls ≠ "java/lang/invoke/VarHandle" ∧ (parseMethodDescriptor yX6_areTwo.desc).map (fun d => d.parameters.length) = some 3 := by decide +kernel
theorem b_areTwo {V : gz_V} {a1 : Int32} {a2 : Int32} {a3 : Int32} : m_areTwo V a1 a2 a3 = 0 ∨ m_areTwo V a1 a2 a3 = 1 := by
  unfold m_areTwo
  try simp only [gz_let]
  repeat' split
  all_goals first | exact Or.inl rfl | exact Or.inr rfl | exact b_isPerson | exact b_isPerson | exact b_isIn
def rm_isHorse : Room := { frames := 0, cells := 0, slots := 0, locals := 0 }
noncomputable def m_isHorse (V : gz_V) (a1 : Int32) : Int32 := (if a1 < 0 then 0 else (if (V (1, 0, 0) 7) ≤ a1 then 0 else 1))
theorem c_isHorse {l : Launch} {D : va_G} {aC : Nat → ClassId} {ad : gz_A0} {V : gz_V} {a1 : Int32} {r : Int32} (h : m_isHorse V a1 = r) : gz_Met l yX6_isHorse cX6_isHorse 2 (some .boolean) rm_isHorse D aC ad tw_S V tw_R [.ref (ad (1, 0, 0)), .int a1] (gz_F1 tw_S tw_R ad V (some (.int r))) 0 0 := by
  refine gt_ofW (own := RX6) (mn := "isHorse") (lv := [(0, .ref (ad (1, 0, 0))), (1, .int a1)]) (by decide) rfl rfl (Nat.le_of_ble_eq_true rfl) rfl ?_
  intro X hX hZ hF
  rw [m_isHorse] at h
  refine gz_iload_n (q := 1) hX dX6_isHorse_0 rfl rfl ?_
  refine gz_if_lt (tgt := 16) hX dX6_isHorse_1 (by decide) (fun c1 => ?_) (fun c1 => ?_)
  · have h := gz_ifp c1 h
    refine gz_iconst (v := 0) hX dX6_isHorse_16 gk_c_0 ?_
    exact gt_zret hX hZ rfl hF rfl h dX6_isHorse_17
  · have h := gz_ifn c1 h
    refine gz_iload_n (q := 1) hX dX6_isHorse_4 rfl rfl ?_
    refine gz_aload_n (q := 0) hX dX6_isHorse_5 rfl rfl ?_
    refine tg_horses hX dX6_isHorse_6 ?_
    refine gz_icmp_ge (tgt := 16) hX dX6_isHorse_9 (by decide) (fun c2 => ?_) (fun c2 => ?_)
    · have h := gz_ifp c2 h
      refine gz_iconst (v := 0) hX dX6_isHorse_16 gk_c_0 ?_
      exact gt_zret hX hZ rfl hF rfl h dX6_isHorse_17
    · have h := gz_ifn c2 h
      refine gz_iconst (v := 1) hX dX6_isHorse_12 gk_c_1 ?_
      refine gz_goto (tgt := 17) hX dX6_isHorse_13 (by decide) ?_
      exact gt_zret hX hZ rfl hF rfl h dX6_isHorse_17
theorem lw_isHorse_ {i : Nat} (hl : Cond.methodLink RX6 i yX6_isHorse ∈ lw_all) : GoodIn lw_all (wsV RX6 i RX6 yX6_isHorse (ws_ yX6_isHorse cX6_isHorse 2 (some .boolean))) := lw_V hl q1722 qs58 q153 q1723
theorem nn_isHorse : yX6_isHorse.cls = RX6 ∧ yX6_isHorse.cls ≠ "java/lang/invoke/MethodHandle" ∧ yX6_isHorse.cls ≠ "java/lang/invoke/VarHandle" ∧ (parseMethodDescriptor yX6_isHorse.desc).map (fun d => d.parameters.length) = some 1 := by decide +kernel
theorem b_isHorse {V : gz_V} {a1 : Int32} : m_isHorse V a1 = 0 ∨ m_isHorse V a1 = 1 := by
  unfold m_isHorse
  try simp only [gz_let]
  repeat' split
  all_goals first | exact Or.inl rfl | exact Or.inr rfl
def rm_isBy : Room := { frames := 0, cells := 0, slots := 0, locals := 0 }
noncomputable def m_isBy (V : gz_V) (a1 : Int32) (a2 : Int32) (a3 : Int32) : Option gz_V := gz_let (gz_up V (1, 0, 0) 42 a1) (fun V1 => gz_let (gz_up V1 (1, 0, 0) 43 a2) (fun V3 => gz_let (gz_up V3 (1, 0, 0) 44 a3) (fun V5 => some V5)))
theorem c_isBy {l : Launch} {D : va_G} {aC : Nat → ClassId} {ad : gz_A0} {V : gz_V} {a1 : Int32} {a2 : Int32} {a3 : Int32} {W1 : gz_V} (h : m_isBy V a1 a2 a3 = some W1) : gz_Met l yX6_isBy cX6_isBy 4 none rm_isBy D aC ad tw_S V tw_R [.ref (ad (1, 0, 0)), .int a1, .int a2, .int a3] (gz_F1 tw_S tw_R ad W1 none) 0 0 := by
  refine gt_ofW (own := RX6) (mn := "isBy") (lv := [(0, .ref (ad (1, 0, 0))), (1, .int a1), (2, .int a2), (3, .int a3)]) (by decide) rfl rfl (Nat.le_of_ble_eq_true rfl) rfl ?_
  intro X hX hZ hF
  rw [m_isBy] at h
  refine gz_aload_n (q := 0) hX dX6_isBy_0 rfl rfl ?_
  refine gz_iload_n (q := 1) hX dX6_isBy_1 rfl rfl ?_
  obtain ⟨V1, e2, h⟩ := gz_let_o h
  refine tp_byGrip hX dX6_isBy_2 e2 ?_
  refine gz_aload_n (q := 0) hX dX6_isBy_5 rfl rfl ?_
  refine gz_iload_n (q := 2) hX dX6_isBy_6 rfl rfl ?_
  obtain ⟨V3, e4, h⟩ := gz_let_o h
  refine tp_byPrice hX dX6_isBy_7 e4 ?_
  refine gz_aload_n (q := 0) hX dX6_isBy_10 rfl rfl ?_
  refine gz_iload_n (q := 3) hX dX6_isBy_11 rfl rfl ?_
  obtain ⟨V5, e6, h⟩ := gz_let_o h
  refine tp_byHorse hX dX6_isBy_12 e6 ?_
  exact gt_vret hX hZ hF (gz_in1 h) dX6_isBy_15
theorem lw_isBy_ {i : Nat} (hl : Cond.methodLink RX6 i yX6_isBy ∈ lw_all) : GoodIn lw_all (wsV RX6 i RX6 yX6_isBy (ws_ yX6_isBy cX6_isBy 4 none)) := lw_V hl q1886 qs94 q153 q1887
theorem nn_isBy : yX6_isBy.cls = RX6 ∧ yX6_isBy.cls ≠ "java/lang/invoke/MethodHandle" ∧ yX6_isBy.cls ≠ "java/lang/invoke/VarHandle" ∧ (parseMethodDescriptor yX6_isBy.desc).map (fun d => d.parameters.length) = some 3 := by decide +kernel
def rm_has : Room := { frames := 0, cells := 0, slots := 0, locals := 0 }
noncomputable def m_has (a1 : Int32) (a2 : Int32) : Int32 := (if ((a1 >>> (a2 &&& 31)) &&& 1) = 1 then 1 else 0)
theorem c_has {l : Launch} {D : va_G} {aC : Nat → ClassId} {ad : gz_A0} {V : gz_V} {a1 : Int32} {a2 : Int32} {r : Int32} (h : m_has a1 a2 = r) : gz_Met l yX6_has cX6_has 3 (some .boolean) rm_has D aC ad tw_S V tw_R [.ref (ad (1, 0, 0)), .int a1, .int a2] (gz_F1 tw_S tw_R ad V (some (.int r))) 0 0 := by
  refine gt_ofW (own := RX6) (mn := "has") (lv := [(0, .ref (ad (1, 0, 0))), (1, .int a1), (2, .int a2)]) (by decide) rfl rfl (Nat.le_of_ble_eq_true rfl) rfl ?_
  intro X hX hZ hF
  rw [m_has] at h
  refine gz_iload_n (q := 1) hX dX6_has_0 rfl rfl ?_
  refine gz_iload_n (q := 2) hX dX6_has_1 rfl rfl ?_
  refine gz_ishr hX dX6_has_2 ?_
  refine gz_iconst (v := 1) hX dX6_has_3 gk_c_1 ?_
  refine gz_iand hX dX6_has_4 ?_
  refine gz_iconst (v := 1) hX dX6_has_5 gk_c_1 ?_
  refine gz_icmp_ne (tgt := 13) hX dX6_has_6 (by decide) (fun c1 => ?_) (fun c1 => ?_)
  · have h := gz_ifn c1 h
    refine gz_iconst (v := 0) hX dX6_has_13 gk_c_0 ?_
    exact gt_zret hX hZ rfl hF rfl h dX6_has_14
  · have h := gz_ifp c1 h
    refine gz_iconst (v := 1) hX dX6_has_9 gk_c_1 ?_
    refine gz_goto (tgt := 14) hX dX6_has_10 (by decide) ?_
    exact gt_zret hX hZ rfl hF rfl h dX6_has_14
theorem lw_has_ {i : Nat} (hl : Cond.methodLink RX6 i yX6_has ∈ lw_all) : GoodIn lw_all (wsV RX6 i RX6 yX6_has (ws_ yX6_has cX6_has 3 (some .boolean))) := lw_V hl q1902 qs98 q153 q1903
theorem nn_has : yX6_has.cls = RX6 ∧ yX6_has.cls ≠ "java/lang/invoke/MethodHandle" ∧ yX6_has.cls ≠ "java/lang/invoke/VarHandle" ∧ (parseMethodDescriptor yX6_has.desc).map (fun d => d.parameters.length) = some 2 := by decide +kernel
theorem b_has {a1 : Int32} {a2 : Int32} : m_has a1 a2 = 0 ∨ m_has a1 a2 = 1 := by
  unfold m_has
  try simp only [gz_let]
  repeat' split
  all_goals first | exact Or.inl rfl | exact Or.inr rfl
theorem gk_b_6 : (Int8.ofInt 6).toInt32 = 6 := by decide
theorem gk_b_7 : (Int8.ofInt 7).toInt32 = 7 := by decide
theorem gk_b_8 : (Int8.ofInt 8).toInt32 = 8 := by decide
theorem gk_b_10 : (Int8.ofInt 10).toInt32 = 10 := by decide
theorem gk_b_65 : (Int8.ofInt 65).toInt32 = 65 := by decide
theorem gk_b_89 : (Int8.ofInt 89).toInt32 = 89 := by decide
theorem gk_c_2 : Int32.ofInt 2 = 2 := by decide
theorem gk_c_3 : Int32.ofInt 3 = 3 := by decide
theorem gk_c_4 : Int32.ofInt 4 = 4 := by decide
def rm_looks : Room := { frames := 1, cells := 0, slots := 0, locals := 22 }
noncomputable def m_looks (V : gz_V) (a1 : Int32) (a2 : Int32) (a3 : Int32) (a4 : Int32) : Option gz_V := gz_let (gz_up V (2, 40, 0) (0 : Int32).toNatClampNeg a3) (fun V1 => gz_bd (if a4 = 0 then some (0 : Int32) else gz_bd (m_traitOf V1 a1 a3) (fun r7 => some r7)) (fun y3 => gz_let (gz_up V1 (2, 40, 0) (1 : Int32).toNatClampNeg y3) (fun V9 => gz_bd (if a4 = 0 then some (0 : Int32) else gz_bd (m_traitOf V9 a2 a3) (fun r15 => some r15)) (fun y11 => gz_let (gz_up V9 (2, 40, 0) (2 : Int32).toNatClampNeg y11) (fun V17 => gz_let (gz_up V17 (2, 40, 0) (3 : Int32).toNatClampNeg (V17 (1, 0, 0) 42)) (fun V19 => gz_let (gz_up V19 (2, 40, 0) (4 : Int32).toNatClampNeg (V19 (1, 0, 0) 43)) (fun V21 => gz_bd (if (V21 (1, 0, 0) 44) = (-1) then some (0 : Int32) else gz_gd (gz_inb (V21 (1, 0, 0) 44) 10 = true) (some (V21 (2, 8, 0) (V21 (1, 0, 0) 44).toNatClampNeg))) (fun y23 => gz_let (gz_up V21 (2, 40, 0) (5 : Int32).toNatClampNeg y23) (fun V28 => gz_bd (if (V28 (1, 0, 0) 44) = (-1) then some (0 : Int32) else gz_gd (gz_inb (V28 (1, 0, 0) 44) 10 = true) (some (V28 (2, 9, 0) (V28 (1, 0, 0) 44).toNatClampNeg))) (fun y30 => gz_let (gz_up V28 (2, 40, 0) (6 : Int32).toNatClampNeg y30) (fun V35 => gz_gd (gz_inb (89 + a1) 121 = true) (gz_let (gz_up V35 (2, 40, 0) (7 : Int32).toNatClampNeg (V35 (2, 1, 0) (89 + a1).toNatClampNeg)) (fun V38 => gz_gd (gz_inb (65 + a1) 121 = true) (gz_let (gz_up V38 (2, 40, 0) (8 : Int32).toNatClampNeg (V38 (2, 1, 0) (65 + a1).toNatClampNeg)) (fun V41 => gz_gd (gz_inb a1 24 = true) (gz_let (if (m_has (V41 (2, 39, 0) a1.toNatClampNeg) a2) = 0 then (0 : Int32) else (1 : Int32)) (fun y44 => gz_let (gz_up V41 (2, 40, 0) (9 : Int32).toNatClampNeg y44) (fun V48 => gz_let (gz_up V48 (2, 40, 0) (10 : Int32).toNatClampNeg (V48 (2, 1, 0) (0 : Int32).toNatClampNeg)) (fun V50 => some V50)))))))))))))))))))
theorem c_looks {l : Launch} {D : va_G} {aC : Nat → ClassId} {ad : gz_A0} {V : gz_V} {a1 : Int32} {a2 : Int32} {a3 : Int32} {a4 : Int32} {W1 : gz_V} (h : m_looks V a1 a2 a3 a4 = some W1) : gz_Met l yX6_looks cX6_looks 5 none rm_looks D aC ad tw_S V tw_R [.ref (ad (1, 0, 0)), .int a1, .int a2, .int a3, .int a4] (gz_F1 tw_S tw_R ad W1 none) 0 0 := by
  refine gt_ofW (own := RX6) (mn := "looks") (lv := [(0, .ref (ad (1, 0, 0))), (1, .int a1), (2, .int a2), (3, .int a3), (4, .int a4)]) (by decide) rfl rfl (Nat.le_of_ble_eq_true rfl) rfl ?_
  intro X hX hZ hF
  rw [m_looks] at h
  refine gz_aload_n (q := 0) hX dX6_looks_0 rfl rfl ?_
  refine tg_asked hX dX6_looks_1 ?_
  refine gz_iconst (v := 0) hX dX6_looks_4 gk_c_0 ?_
  refine gz_iload_n (q := 3) hX dX6_looks_5 rfl rfl ?_
  obtain ⟨V1, e2, h⟩ := gz_let_o h
  refine gz_iast (L := 11) hX tw_S40 (by decide) (gz_inb_o (by decide)) dX6_looks_6 e2 ?_
  refine gz_aload_n (q := 0) hX dX6_looks_7 rfl rfl ?_
  refine tg_asked hX dX6_looks_8 ?_
  refine gz_iconst (v := 1) hX dX6_looks_11 gk_c_1 ?_
  refine gz_iload (q := 4) hX dX6_looks_12 rfl ?_
  obtain ⟨y3, g4, h⟩ := gz_bd_o h
  have J5 : gW X 5 tw_S tw_R ad V1 0 0 27 [(0, .ref (ad (1, 0, 0))), (1, .int a1), (2, .int a2), (3, .int a3), (4, .int a4)] [.int y3, .int 1, .ref (ad (2, 40, 0))] := by
    obtain ⟨V9, e10, h⟩ := gz_let_o h
    refine gz_iast (L := 11) hX tw_S40 (by decide) (gz_inb_o (by decide)) dX6_looks_27 e10 ?_
    refine gz_aload_n (q := 0) hX dX6_looks_28 rfl rfl ?_
    refine tg_asked hX dX6_looks_29 ?_
    refine gz_iconst (v := 2) hX dX6_looks_32 gk_c_2 ?_
    refine gz_iload (q := 4) hX dX6_looks_33 rfl ?_
    obtain ⟨y11, g12, h⟩ := gz_bd_o h
    have J13 : gW X 5 tw_S tw_R ad V9 0 0 48 [(0, .ref (ad (1, 0, 0))), (1, .int a1), (2, .int a2)] [.int y11, .int 2, .ref (ad (2, 40, 0))] := by
      obtain ⟨V17, e18, h⟩ := gz_let_o h
      refine gz_iast (L := 11) hX tw_S40 (by decide) (gz_inb_o (by decide)) dX6_looks_48 e18 ?_
      refine gz_aload_n (q := 0) hX dX6_looks_49 rfl rfl ?_
      refine tg_asked hX dX6_looks_50 ?_
      refine gz_iconst (v := 3) hX dX6_looks_53 gk_c_3 ?_
      refine gz_aload_n (q := 0) hX dX6_looks_54 rfl rfl ?_
      refine tg_byGrip hX dX6_looks_55 ?_
      obtain ⟨V19, e20, h⟩ := gz_let_o h
      refine gz_iast (L := 11) hX tw_S40 (by decide) (gz_inb_o (by decide)) dX6_looks_58 e20 ?_
      refine gz_aload_n (q := 0) hX dX6_looks_59 rfl rfl ?_
      refine tg_asked hX dX6_looks_60 ?_
      refine gz_iconst (v := 4) hX dX6_looks_63 gk_c_4 ?_
      refine gz_aload_n (q := 0) hX dX6_looks_64 rfl rfl ?_
      refine tg_byPrice hX dX6_looks_65 ?_
      obtain ⟨V21, e22, h⟩ := gz_let_o h
      refine gz_iast (L := 11) hX tw_S40 (by decide) (gz_inb_o (by decide)) dX6_looks_68 e22 ?_
      refine gz_aload_n (q := 0) hX dX6_looks_69 rfl rfl ?_
      refine tg_asked hX dX6_looks_70 ?_
      refine gz_iconst (v := 5) hX dX6_looks_73 gk_c_5 ?_
      refine gz_aload_n (q := 0) hX dX6_looks_74 rfl rfl ?_
      refine tg_byHorse hX dX6_looks_75 ?_
      refine gz_iconst (v := (-1)) hX dX6_looks_78 gk_c_m1 ?_
      obtain ⟨y23, g24, h⟩ := gz_bd_o h
      have J25 : gW X 5 tw_S tw_R ad V21 0 0 95 [(0, .ref (ad (1, 0, 0))), (1, .int a1), (2, .int a2)] [.int y23, .int 5, .ref (ad (2, 40, 0))] := by
        obtain ⟨V28, e29, h⟩ := gz_let_o h
        refine gz_iast (L := 11) hX tw_S40 (by decide) (gz_inb_o (by decide)) dX6_looks_95 e29 ?_
        refine gz_aload_n (q := 0) hX dX6_looks_96 rfl rfl ?_
        refine tg_asked hX dX6_looks_97 ?_
        refine gz_bipush (v := 6) hX dX6_looks_100 gk_b_6 ?_
        refine gz_aload_n (q := 0) hX dX6_looks_102 rfl rfl ?_
        refine tg_byHorse hX dX6_looks_103 ?_
        refine gz_iconst (v := (-1)) hX dX6_looks_106 gk_c_m1 ?_
        obtain ⟨y30, g31, h⟩ := gz_bd_o h
        have J32 : gW X 5 tw_S tw_R ad V28 0 0 123 [(0, .ref (ad (1, 0, 0))), (1, .int a1), (2, .int a2)] [.int y30, .int 6, .ref (ad (2, 40, 0))] := by
          obtain ⟨V35, e36, h⟩ := gz_let_o h
          refine gz_iast (L := 11) hX tw_S40 (by decide) (gz_inb_o (by decide)) dX6_looks_123 e36 ?_
          refine gz_aload_n (q := 0) hX dX6_looks_124 rfl rfl ?_
          refine tg_asked hX dX6_looks_125 ?_
          refine gz_bipush (v := 7) hX dX6_looks_128 gk_b_7 ?_
          refine gz_aload_n (q := 0) hX dX6_looks_130 rfl rfl ?_
          refine tg_now hX dX6_looks_131 ?_
          refine gz_bipush (v := 89) hX dX6_looks_134 gk_b_89 ?_
          refine gz_iload_n (q := 1) hX dX6_looks_136 rfl rfl ?_
          refine gz_iadd hX dX6_looks_137 ?_
          obtain ⟨b37, h⟩ := gz_gd_o h
          refine gz_iald (L := 121) hX tw_S1 (gz_inb_o b37) dX6_looks_138 ?_
          obtain ⟨V38, e39, h⟩ := gz_let_o h
          refine gz_iast (L := 11) hX tw_S40 (by decide) (gz_inb_o (by decide)) dX6_looks_139 e39 ?_
          refine gz_aload_n (q := 0) hX dX6_looks_140 rfl rfl ?_
          refine tg_asked hX dX6_looks_141 ?_
          refine gz_bipush (v := 8) hX dX6_looks_144 gk_b_8 ?_
          refine gz_aload_n (q := 0) hX dX6_looks_146 rfl rfl ?_
          refine tg_now hX dX6_looks_147 ?_
          refine gz_bipush (v := 65) hX dX6_looks_150 gk_b_65 ?_
          refine gz_iload_n (q := 1) hX dX6_looks_152 rfl rfl ?_
          refine gz_iadd hX dX6_looks_153 ?_
          obtain ⟨b40, h⟩ := gz_gd_o h
          refine gz_iald (L := 121) hX tw_S1 (gz_inb_o b40) dX6_looks_154 ?_
          obtain ⟨V41, e42, h⟩ := gz_let_o h
          refine gz_iast (L := 11) hX tw_S40 (by decide) (gz_inb_o (by decide)) dX6_looks_155 e42 ?_
          refine gz_aload_n (q := 0) hX dX6_looks_156 rfl rfl ?_
          refine tg_asked hX dX6_looks_157 ?_
          refine gz_bipush (v := 9) hX dX6_looks_160 gk_b_9 ?_
          refine gz_aload_n (q := 0) hX dX6_looks_162 rfl rfl ?_
          refine gz_aload_n (q := 0) hX dX6_looks_163 rfl rfl ?_
          refine tg_kinOf hX dX6_looks_164 ?_
          refine gz_iload_n (q := 1) hX dX6_looks_167 rfl rfl ?_
          obtain ⟨b43, h⟩ := gz_gd_o h
          refine gz_iald (L := 24) hX tw_S39 (gz_inb_o b43) dX6_looks_168 ?_
          refine gz_iload_n (q := 2) hX dX6_looks_169 rfl rfl ?_
          refine tc_V (As := [.int (V41 (2, 39, 0) a1.toNatClampNeg), .int a2]) hX (c_has rfl) (lw_has_ q1900) rfl rfl nn_has ⟨Nat.le_of_ble_eq_true rfl, Nat.le_of_ble_eq_true rfl⟩ rfl rfl (Nat.le_of_ble_eq_true rfl) dX6_looks_170 rfl ?_
          obtain ⟨y44, g45, h⟩ := gz_let_o h
          have J46 : gW X 5 tw_S tw_R ad V41 0 0 181 [(0, .ref (ad (1, 0, 0)))] [.int y44, .int 9, .ref (ad (2, 40, 0))] := by
            obtain ⟨V48, e49, h⟩ := gz_let_o h
            refine gz_iast (L := 11) hX tw_S40 (by decide) (gz_inb_o (by decide)) dX6_looks_181 e49 ?_
            refine gz_aload_n (q := 0) hX dX6_looks_182 rfl rfl ?_
            refine tg_asked hX dX6_looks_183 ?_
            refine gz_bipush (v := 10) hX dX6_looks_186 gk_b_10 ?_
            refine gz_aload_n (q := 0) hX dX6_looks_188 rfl rfl ?_
            refine tg_now hX dX6_looks_189 ?_
            refine gz_iconst (v := 0) hX dX6_looks_192 gk_c_0 ?_
            refine gz_iald (L := 121) hX tw_S1 (gz_inb_o (by decide)) dX6_looks_193 ?_
            obtain ⟨V50, e51, h⟩ := gz_let_o h
            refine gz_iast (L := 11) hX tw_S40 (by decide) (gz_inb_o (by decide)) dX6_looks_194 e51 ?_
            exact gt_vret hX hZ hF (gz_in1 h) dX6_looks_195
          refine gz_if_eq (tgt := 180) hX dX6_looks_173 (by decide) (fun c47 => ?_) (fun c47 => ?_)
          · have g45 := gz_ifp c47 g45
            refine gz_iconst (v := 0) hX dX6_looks_180 gk_c_0 ?_
            obtain rfl := g45
            exact gz_lv [0] rfl J46
          · have g45 := gz_ifn c47 g45
            refine gz_iconst (v := 1) hX dX6_looks_176 gk_c_1 ?_
            refine gz_goto (tgt := 181) hX dX6_looks_177 (by decide) ?_
            obtain rfl := g45
            exact gz_lv [0] rfl J46
        refine gz_icmp_ne (tgt := 114) hX dX6_looks_107 (by decide) (fun c33 => ?_) (fun c33 => ?_)
        · have g31 := gz_ifn c33 g31
          refine gz_aload_n (q := 0) hX dX6_looks_114 rfl rfl ?_
          refine tg_spirit hX dX6_looks_115 ?_
          refine gz_aload_n (q := 0) hX dX6_looks_118 rfl rfl ?_
          refine tg_byHorse hX dX6_looks_119 ?_
          obtain ⟨b34, g31⟩ := gz_gd_o g31
          refine gz_iald (L := 10) hX tw_S9 (gz_inb_o b34) dX6_looks_122 ?_
          obtain rfl := gz_in1 g31
          exact gz_lv [0, 1, 2] rfl J32
        · have g31 := gz_ifp c33 g31
          refine gz_iconst (v := 0) hX dX6_looks_110 gk_c_0 ?_
          refine gz_goto (tgt := 123) hX dX6_looks_111 (by decide) ?_
          obtain rfl := gz_in1 g31
          exact gz_lv [0, 1, 2] rfl J32
      refine gz_icmp_ne (tgt := 86) hX dX6_looks_79 (by decide) (fun c26 => ?_) (fun c26 => ?_)
      · have g24 := gz_ifn c26 g24
        refine gz_aload_n (q := 0) hX dX6_looks_86 rfl rfl ?_
        refine tg_worth hX dX6_looks_87 ?_
        refine gz_aload_n (q := 0) hX dX6_looks_90 rfl rfl ?_
        refine tg_byHorse hX dX6_looks_91 ?_
        obtain ⟨b27, g24⟩ := gz_gd_o g24
        refine gz_iald (L := 10) hX tw_S8 (gz_inb_o b27) dX6_looks_94 ?_
        obtain rfl := gz_in1 g24
        exact gz_lv [0, 1, 2] rfl J25
      · have g24 := gz_ifp c26 g24
        refine gz_iconst (v := 0) hX dX6_looks_82 gk_c_0 ?_
        refine gz_goto (tgt := 95) hX dX6_looks_83 (by decide) ?_
        obtain rfl := gz_in1 g24
        exact gz_lv [0, 1, 2] rfl J25
    refine gz_if_eq (tgt := 47) hX dX6_looks_35 (by decide) (fun c14 => ?_) (fun c14 => ?_)
    · have g12 := gz_ifp c14 g12
      refine gz_iconst (v := 0) hX dX6_looks_47 gk_c_0 ?_
      obtain rfl := gz_in1 g12
      exact gz_lv [0, 1, 2] rfl J13
    · have g12 := gz_ifn c14 g12
      refine gz_aload_n (q := 0) hX dX6_looks_38 rfl rfl ?_
      refine gz_iload_n (q := 2) hX dX6_looks_39 rfl rfl ?_
      refine gz_iload_n (q := 3) hX dX6_looks_40 rfl rfl ?_
      obtain ⟨r15, e16, g12⟩ := gz_bd_o g12
      refine tc_V (As := [.int a2, .int a3]) hX (c_traitOf e16) (lw_traitOf_ q1896) rfl rfl nn_traitOf ⟨Nat.le_of_ble_eq_true rfl, Nat.le_of_ble_eq_true rfl⟩ rfl rfl (Nat.le_of_ble_eq_true rfl) dX6_looks_41 rfl ?_
      refine gz_goto (tgt := 48) hX dX6_looks_44 (by decide) ?_
      obtain rfl := gz_in1 g12
      exact gz_lv [0, 1, 2] rfl J13
  refine gz_if_eq (tgt := 26) hX dX6_looks_14 (by decide) (fun c6 => ?_) (fun c6 => ?_)
  · have g4 := gz_ifp c6 g4
    refine gz_iconst (v := 0) hX dX6_looks_26 gk_c_0 ?_
    obtain rfl := gz_in1 g4
    exact gz_lv [0, 1, 2, 3, 4] rfl J5
  · have g4 := gz_ifn c6 g4
    refine gz_aload_n (q := 0) hX dX6_looks_17 rfl rfl ?_
    refine gz_iload_n (q := 1) hX dX6_looks_18 rfl rfl ?_
    refine gz_iload_n (q := 3) hX dX6_looks_19 rfl rfl ?_
    obtain ⟨r7, e8, g4⟩ := gz_bd_o g4
    refine tc_V (As := [.int a1, .int a3]) hX (c_traitOf e8) (lw_traitOf_ q1896) rfl rfl nn_traitOf ⟨Nat.le_of_ble_eq_true rfl, Nat.le_of_ble_eq_true rfl⟩ rfl rfl (Nat.le_of_ble_eq_true rfl) dX6_looks_20 rfl ?_
    refine gz_goto (tgt := 27) hX dX6_looks_23 (by decide) ?_
    obtain rfl := gz_in1 g4
    exact gz_lv [0, 1, 2, 3, 4] rfl J5
theorem lw_looks_ {i : Nat} (hl : Cond.methodLink RX6 i yX6_looks ∈ lw_all) : GoodIn lw_all (wsV RX6 i RX6 yX6_looks (ws_ yX6_looks cX6_looks 5 none)) := lw_V hl q1894 qs96 q153 q1895
theorem nn_looks : yX6_looks.cls = RX6 ∧ yX6_looks.cls ≠ "java/lang/invoke/MethodHandle" ∧ yX6_looks.cls ≠ "java/lang/invoke/VarHandle" ∧ (parseMethodDescriptor yX6_looks.desc).map (fun d => d.parameters.length) = some 4 := by decide +kernel
def rm_twoOf : Room := { frames := 0, cells := 0, slots := 0, locals := 0 }
noncomputable def m_twoOf (a1 : Int32) (a2 : Int32) (a3 : Int32) : Option Int32 := (if a1 = 2 then some (a2 + a3) else (if a1 = 3 then some (a2 - a3) else (if a1 = 4 then some (a2 * a3) else (if a1 = 5 then gz_gd (¬ a3 = 0) (some (a2 / a3)) else (if a1 = 6 then (if a3 ≤ a2 then some 0 else some 1) else (if a1 = 7 then (if a2 = a3 then some 1 else some 0) else (if a1 = 8 then (if a2 ≤ a3 then some 0 else some 1) else (if a1 = 10 then some (a2 * a3) else (if (a2 + a3) ≤ 0 then some 0 else some 1)))))))))
theorem c_twoOf {l : Launch} {D : va_G} {aC : Nat → ClassId} {ad : gz_A0} {V : gz_V} {a1 : Int32} {a2 : Int32} {a3 : Int32} {r : Int32} (h : m_twoOf a1 a2 a3 = some r) : gz_Met l yX6_twoOf cX6_twoOf 4 (some .int) rm_twoOf D aC ad tw_S V tw_R [.ref (ad (1, 0, 0)), .int a1, .int a2, .int a3] (gz_F1 tw_S tw_R ad V (some (.int r))) 0 0 := by
  refine gt_ofW (own := RX6) (mn := "twoOf") (lv := [(0, .ref (ad (1, 0, 0))), (1, .int a1), (2, .int a2), (3, .int a3)]) (by decide) rfl rfl (Nat.le_of_ble_eq_true rfl) rfl ?_
  intro X hX hZ hF
  rw [m_twoOf] at h
  refine gz_iload_n (q := 1) hX dX6_twoOf_0 rfl rfl ?_
  refine gz_iconst (v := 2) hX dX6_twoOf_1 gk_c_2 ?_
  refine gz_icmp_ne (tgt := 9) hX dX6_twoOf_2 (by decide) (fun c1 => ?_) (fun c1 => ?_)
  · have h := gz_ifn c1 h
    refine gz_iload_n (q := 1) hX dX6_twoOf_9 rfl rfl ?_
    refine gz_iconst (v := 3) hX dX6_twoOf_10 gk_c_3 ?_
    refine gz_icmp_ne (tgt := 18) hX dX6_twoOf_11 (by decide) (fun c2 => ?_) (fun c2 => ?_)
    · have h := gz_ifn c2 h
      refine gz_iload_n (q := 1) hX dX6_twoOf_18 rfl rfl ?_
      refine gz_iconst (v := 4) hX dX6_twoOf_19 gk_c_4 ?_
      refine gz_icmp_ne (tgt := 27) hX dX6_twoOf_20 (by decide) (fun c3 => ?_) (fun c3 => ?_)
      · have h := gz_ifn c3 h
        refine gz_iload_n (q := 1) hX dX6_twoOf_27 rfl rfl ?_
        refine gz_iconst (v := 5) hX dX6_twoOf_28 gk_c_5 ?_
        refine gz_icmp_ne (tgt := 36) hX dX6_twoOf_29 (by decide) (fun c4 => ?_) (fun c4 => ?_)
        · have h := gz_ifn c4 h
          refine gz_iload_n (q := 1) hX dX6_twoOf_36 rfl rfl ?_
          refine gz_bipush (v := 6) hX dX6_twoOf_37 gk_b_6 ?_
          refine gz_icmp_ne (tgt := 53) hX dX6_twoOf_39 (by decide) (fun c5 => ?_) (fun c5 => ?_)
          · have h := gz_ifn c5 h
            refine gz_iload_n (q := 1) hX dX6_twoOf_53 rfl rfl ?_
            refine gz_bipush (v := 7) hX dX6_twoOf_54 gk_b_7 ?_
            refine gz_icmp_ne (tgt := 70) hX dX6_twoOf_56 (by decide) (fun c6 => ?_) (fun c6 => ?_)
            · have h := gz_ifn c6 h
              refine gz_iload_n (q := 1) hX dX6_twoOf_70 rfl rfl ?_
              refine gz_bipush (v := 8) hX dX6_twoOf_71 gk_b_8 ?_
              refine gz_icmp_ne (tgt := 87) hX dX6_twoOf_73 (by decide) (fun c7 => ?_) (fun c7 => ?_)
              · have h := gz_ifn c7 h
                refine gz_iload_n (q := 1) hX dX6_twoOf_87 rfl rfl ?_
                refine gz_bipush (v := 10) hX dX6_twoOf_88 gk_b_10 ?_
                refine gz_icmp_ne (tgt := 99) hX dX6_twoOf_90 (by decide) (fun c8 => ?_) (fun c8 => ?_)
                · have h := gz_ifn c8 h
                  refine gz_iload_n (q := 2) hX dX6_twoOf_99 rfl rfl ?_
                  refine gz_iload_n (q := 3) hX dX6_twoOf_100 rfl rfl ?_
                  refine gz_iadd hX dX6_twoOf_101 ?_
                  refine gz_if_le (tgt := 109) hX dX6_twoOf_102 (by decide) (fun c9 => ?_) (fun c9 => ?_)
                  · have h := gz_ifp c9 h
                    refine gz_iconst (v := 0) hX dX6_twoOf_109 gk_c_0 ?_
                    exact gt_iret hX hZ hF rfl (gz_in1 h) dX6_twoOf_110
                  · have h := gz_ifn c9 h
                    refine gz_iconst (v := 1) hX dX6_twoOf_105 gk_c_1 ?_
                    refine gz_goto (tgt := 110) hX dX6_twoOf_106 (by decide) ?_
                    exact gt_iret hX hZ hF rfl (gz_in1 h) dX6_twoOf_110
                · have h := gz_ifp c8 h
                  refine gz_iload_n (q := 2) hX dX6_twoOf_93 rfl rfl ?_
                  refine gz_iload_n (q := 3) hX dX6_twoOf_94 rfl rfl ?_
                  refine gz_imul hX dX6_twoOf_95 ?_
                  refine gz_goto (tgt := 110) hX dX6_twoOf_96 (by decide) ?_
                  exact gt_iret hX hZ hF rfl (gz_in1 h) dX6_twoOf_110
              · have h := gz_ifp c7 h
                refine gz_iload_n (q := 2) hX dX6_twoOf_76 rfl rfl ?_
                refine gz_iload_n (q := 3) hX dX6_twoOf_77 rfl rfl ?_
                refine gz_icmp_le (tgt := 85) hX dX6_twoOf_78 (by decide) (fun c10 => ?_) (fun c10 => ?_)
                · have h := gz_ifp c10 h
                  refine gz_iconst (v := 0) hX dX6_twoOf_85 gk_c_0 ?_
                  exact gt_iret hX hZ hF rfl (gz_in1 h) dX6_twoOf_86
                · have h := gz_ifn c10 h
                  refine gz_iconst (v := 1) hX dX6_twoOf_81 gk_c_1 ?_
                  refine gz_goto (tgt := 86) hX dX6_twoOf_82 (by decide) ?_
                  exact gt_iret hX hZ hF rfl (gz_in1 h) dX6_twoOf_86
            · have h := gz_ifp c6 h
              refine gz_iload_n (q := 2) hX dX6_twoOf_59 rfl rfl ?_
              refine gz_iload_n (q := 3) hX dX6_twoOf_60 rfl rfl ?_
              refine gz_icmp_ne (tgt := 68) hX dX6_twoOf_61 (by decide) (fun c11 => ?_) (fun c11 => ?_)
              · have h := gz_ifn c11 h
                refine gz_iconst (v := 0) hX dX6_twoOf_68 gk_c_0 ?_
                exact gt_iret hX hZ hF rfl (gz_in1 h) dX6_twoOf_69
              · have h := gz_ifp c11 h
                refine gz_iconst (v := 1) hX dX6_twoOf_64 gk_c_1 ?_
                refine gz_goto (tgt := 69) hX dX6_twoOf_65 (by decide) ?_
                exact gt_iret hX hZ hF rfl (gz_in1 h) dX6_twoOf_69
          · have h := gz_ifp c5 h
            refine gz_iload_n (q := 2) hX dX6_twoOf_42 rfl rfl ?_
            refine gz_iload_n (q := 3) hX dX6_twoOf_43 rfl rfl ?_
            refine gz_icmp_ge (tgt := 51) hX dX6_twoOf_44 (by decide) (fun c12 => ?_) (fun c12 => ?_)
            · have h := gz_ifp c12 h
              refine gz_iconst (v := 0) hX dX6_twoOf_51 gk_c_0 ?_
              exact gt_iret hX hZ hF rfl (gz_in1 h) dX6_twoOf_52
            · have h := gz_ifn c12 h
              refine gz_iconst (v := 1) hX dX6_twoOf_47 gk_c_1 ?_
              refine gz_goto (tgt := 52) hX dX6_twoOf_48 (by decide) ?_
              exact gt_iret hX hZ hF rfl (gz_in1 h) dX6_twoOf_52
        · have h := gz_ifp c4 h
          refine gz_iload_n (q := 2) hX dX6_twoOf_32 rfl rfl ?_
          refine gz_iload_n (q := 3) hX dX6_twoOf_33 rfl rfl ?_
          obtain ⟨b13, h⟩ := gz_gd_o h
          refine gz_idiv hX dX6_twoOf_34 b13 ?_
          exact gt_iret hX hZ hF rfl (gz_in1 h) dX6_twoOf_35
      · have h := gz_ifp c3 h
        refine gz_iload_n (q := 2) hX dX6_twoOf_23 rfl rfl ?_
        refine gz_iload_n (q := 3) hX dX6_twoOf_24 rfl rfl ?_
        refine gz_imul hX dX6_twoOf_25 ?_
        exact gt_iret hX hZ hF rfl (gz_in1 h) dX6_twoOf_26
    · have h := gz_ifp c2 h
      refine gz_iload_n (q := 2) hX dX6_twoOf_14 rfl rfl ?_
      refine gz_iload_n (q := 3) hX dX6_twoOf_15 rfl rfl ?_
      refine gz_isub hX dX6_twoOf_16 ?_
      exact gt_iret hX hZ hF rfl (gz_in1 h) dX6_twoOf_17
  · have h := gz_ifp c1 h
    refine gz_iload_n (q := 2) hX dX6_twoOf_5 rfl rfl ?_
    refine gz_iload_n (q := 3) hX dX6_twoOf_6 rfl rfl ?_
    refine gz_iadd hX dX6_twoOf_7 ?_
    exact gt_iret hX hZ hF rfl (gz_in1 h) dX6_twoOf_8
theorem lw_twoOf_ {i : Nat} (hl : Cond.methodLink RX6 i yX6_twoOf ∈ lw_all) : GoodIn lw_all (wsV RX6 i RX6 yX6_twoOf (ws_ yX6_twoOf cX6_twoOf 4 (some .int))) := lw_V hl q1918 qs102 q153 q1919
theorem nn_twoOf : yX6_twoOf.cls = RX6 ∧ yX6_twoOf.cls ≠ "java/lang/invoke/MethodHandle" ∧ yX6_twoOf.cls ≠ "java/lang/invoke/VarHandle" ∧ (parseMethodDescriptor yX6_twoOf.desc).map (fun d => d.parameters.length) = some 3 := by decide +kernel
theorem gk_s_400 : (Int16.ofInt 400).toInt32 = 400 := by decide
def rm_runs : Room := { frames := 1, cells := 0, slots := 0, locals := 23 }
noncomputable def m_runs_L12 (N : Nat) (v1 : Int32) (v3 : Int32) : Nat → gz_V → Int32 → Int32 → Option (gz_V)
  | 0, _, _, _ => none
  | n + 1, V, v4, v5 => (if ((400 * v1) + v3) ≤ v5 then some V else gz_gd (gz_inb v5 1200 = true) (gz_b2 (if (V (2, 23, 0) v5.toNatClampNeg) = 0 then gz_gd (gz_inb v5 1200 = true) (gz_bd (if (V (2, 23, 0) v5.toNatClampNeg) = 0 then gz_gd (gz_inb v5 1200 = true) (some (V (2, 24, 0) v5.toNatClampNeg)) else gz_gd (gz_inb v5 1200 = true) (gz_gd (gz_inb (V (2, 24, 0) v5.toNatClampNeg) 11 = true) (some (V (2, 40, 0) (V (2, 24, 0) v5.toNatClampNeg).toNatClampNeg)))) (fun y11 => gz_gd (gz_inb v4 420 = true) (gz_let (gz_up V (2, 41, 0) v4.toNatClampNeg y11) (fun V19 => gz_let (v4 + 1) (fun x21 => some (V19, x21)))))) else gz_gd (gz_inb v5 1200 = true) ((if (V (2, 23, 0) v5.toNatClampNeg) = 1 then gz_gd (gz_inb v5 1200 = true) (gz_bd (if (V (2, 23, 0) v5.toNatClampNeg) = 0 then gz_gd (gz_inb v5 1200 = true) (some (V (2, 24, 0) v5.toNatClampNeg)) else gz_gd (gz_inb v5 1200 = true) (gz_gd (gz_inb (V (2, 24, 0) v5.toNatClampNeg) 11 = true) (some (V (2, 40, 0) (V (2, 24, 0) v5.toNatClampNeg).toNatClampNeg)))) (fun y42 => gz_gd (gz_inb v4 420 = true) (gz_let (gz_up V (2, 41, 0) v4.toNatClampNeg y42) (fun V50 => gz_let (v4 + 1) (fun x52 => some (V50, x52)))))) else gz_gd (gz_inb v5 1200 = true) ((if (V (2, 23, 0) v5.toNatClampNeg) = 9 then gz_gd (gz_inb (v4 - 1) 420 = true) (gz_gd (gz_inb (v4 - 1) 420 = true) (gz_let (gz_up V (2, 41, 0) (v4 - 1).toNatClampNeg (1 - (V (2, 41, 0) (v4 - 1).toNatClampNeg))) (fun V39 => some (V39, v4)))) else gz_let (v4 - 1) (fun x27 => gz_gd (gz_inb v5 1200 = true) (gz_gd (gz_inb (x27 - 1) 420 = true) (gz_gd (gz_inb x27 420 = true) (gz_bd (m_twoOf (V (2, 23, 0) v5.toNatClampNeg) (V (2, 41, 0) (x27 - 1).toNatClampNeg) (V (2, 41, 0) x27.toNatClampNeg)) (fun r32 => gz_gd (gz_inb (x27 - 1) 420 = true) (gz_let (gz_up V (2, 41, 0) (x27 - 1).toNatClampNeg r32) (fun V35 => some (V35, x27))))))))))))) (fun V5 y6 => m_runs_L12 N v1 v3 n V5 y6 (v5 + 1))))
theorem w_m_runs_L12 {X : gz_X} {ad : gz_A0} (hX : gz_ok X cX6_runs RX6 "runs" 6 rm_runs (some .int)) (hZ : gz_Z X) {N : Nat} {v1 : Int32} {v3 : Int32} {W1 : gz_V} (k : gW X 6 tw_S tw_R ad W1 0 0 176 [(0, .ref (ad (1, 0, 0)))] []) : ∀ (n : Nat) {V : gz_V} {v4 : Int32} {v5 : Int32}, m_runs_L12 N v1 v3 n V v4 v5 = some W1 → gW X 6 tw_S tw_R ad V 0 0 12 [(0, .ref (ad (1, 0, 0))), (1, .int v1), (3, .int v3), (4, .int v4), (5, .int v5)] [] := by
  intro n
  induction n with
  | zero => intro V v4 v5 h; rw [m_runs_L12] at h; cases h
  | succ n ih =>
    intro V v4 v5 h
    rw [m_runs_L12] at h
    refine gz_iload (q := 4) hX dX6_runs_12 rfl ?_
    refine gz_sipush (v := 400) hX dX6_runs_14 gk_s_400 ?_
    refine gz_iload_n (q := 1) hX dX6_runs_17 rfl rfl ?_
    refine gz_imul hX dX6_runs_18 ?_
    refine gz_iload_n (q := 2) hX dX6_runs_19 rfl rfl ?_
    refine gz_iadd hX dX6_runs_20 ?_
    refine gz_icmp_ge (tgt := 176) hX dX6_runs_21 (by decide) (fun c3 => ?_) (fun c3 => ?_)
    · have h := gz_ifp c3 h
      obtain rfl := gz_in1 h
      exact gz_lv [0] rfl k
    · have h := gz_ifn c3 h
      refine gz_aload_n (q := 0) hX dX6_runs_24 rfl rfl ?_
      refine tg_op hX dX6_runs_25 ?_
      refine gz_iload (q := 4) hX dX6_runs_28 rfl ?_
      obtain ⟨b4, h⟩ := gz_gd_o h
      refine gz_iald (L := 1200) hX tw_S23 (gz_inb_o b4) dX6_runs_30 ?_
      obtain ⟨V5, y6, g7, h⟩ := gz_b2_o h
      have J8 : gW X 6 tw_S tw_R ad V5 0 0 170 [(0, .ref (ad (1, 0, 0))), (1, .int v1), (3, .int v3), (4, .int y6), (5, .int v5)] [] := by
        refine gz_iinc (q := 4) (lv2 := [(5, .int (v5 + 1)), (0, .ref (ad (1, 0, 0))), (1, .int v1), (3, .int v3), (4, .int y6)]) hX dX6_runs_170 rfl gk_c_1 (by decide) rfl ?_
        refine gz_goto (tgt := 12) hX dX6_runs_173 (by decide) ?_
        exact gz_lv [1, 2, 3, 4, 0] rfl (ih h)
      refine gz_if_eq (tgt := 45) hX dX6_runs_31 (by decide) (fun c9 => ?_) (fun c9 => ?_)
      · have g7 := gz_ifp c9 g7
        refine gz_aload_n (q := 0) hX dX6_runs_45 rfl rfl ?_
        refine tg_stack hX dX6_runs_46 ?_
        refine gz_iload (q := 3) hX dX6_runs_49 rfl ?_
        refine gz_aload_n (q := 0) hX dX6_runs_51 rfl rfl ?_
        refine tg_op hX dX6_runs_52 ?_
        refine gz_iload (q := 4) hX dX6_runs_55 rfl ?_
        obtain ⟨b10, g7⟩ := gz_gd_o g7
        refine gz_iald (L := 1200) hX tw_S23 (gz_inb_o b10) dX6_runs_57 ?_
        obtain ⟨y11, g12, g7⟩ := gz_bd_o g7
        have J13 : gW X 6 tw_S tw_R ad V 0 0 83 [(0, .ref (ad (1, 0, 0))), (1, .int v1), (3, .int v3), (4, .int v4), (5, .int v5)] [.int y11, .int v4, .ref (ad (2, 41, 0))] := by
          obtain ⟨b18, g7⟩ := gz_gd_o g7
          obtain ⟨V19, e20, g7⟩ := gz_let_o g7
          refine gz_iast (L := 420) hX tw_S41 (by decide) (gz_inb_o b18) dX6_runs_83 e20 ?_
          refine gz_iload (q := 3) hX dX6_runs_84 rfl ?_
          refine gz_iconst (v := 1) hX dX6_runs_86 gk_c_1 ?_
          refine gz_iadd hX dX6_runs_87 ?_
          obtain ⟨x21, e22, g7⟩ := gz_let_o g7
          refine gz_nm e22 ?_
          refine gz_istore (lv2 := [(4, .int x21), (0, .ref (ad (1, 0, 0))), (1, .int v1), (3, .int v3), (5, .int v5)]) hX dX6_runs_88 (by decide) rfl ?_
          refine gz_goto (tgt := 170) hX dX6_runs_90 (by decide) ?_
          obtain ⟨rfl, rfl⟩ := gz_in2 g7
          exact gz_lv [1, 2, 3, 0, 4] rfl J8
        refine gz_if_ne (tgt := 71) hX dX6_runs_58 (by decide) (fun c14 => ?_) (fun c14 => ?_)
        · have g12 := gz_ifn c14 g12
          refine gz_aload_n (q := 0) hX dX6_runs_71 rfl rfl ?_
          refine tg_asked hX dX6_runs_72 ?_
          refine gz_aload_n (q := 0) hX dX6_runs_75 rfl rfl ?_
          refine tg_arg hX dX6_runs_76 ?_
          refine gz_iload (q := 4) hX dX6_runs_79 rfl ?_
          obtain ⟨b15, g12⟩ := gz_gd_o g12
          refine gz_iald (L := 1200) hX tw_S24 (gz_inb_o b15) dX6_runs_81 ?_
          obtain ⟨b16, g12⟩ := gz_gd_o g12
          refine gz_iald (L := 11) hX tw_S40 (gz_inb_o b16) dX6_runs_82 ?_
          obtain rfl := gz_in1 g12
          exact gz_lv [0, 1, 2, 3, 4] rfl J13
        · have g12 := gz_ifp c14 g12
          refine gz_aload_n (q := 0) hX dX6_runs_61 rfl rfl ?_
          refine tg_arg hX dX6_runs_62 ?_
          refine gz_iload (q := 4) hX dX6_runs_65 rfl ?_
          obtain ⟨b17, g12⟩ := gz_gd_o g12
          refine gz_iald (L := 1200) hX tw_S24 (gz_inb_o b17) dX6_runs_67 ?_
          refine gz_goto (tgt := 83) hX dX6_runs_68 (by decide) ?_
          obtain rfl := gz_in1 g12
          exact gz_lv [0, 1, 2, 3, 4] rfl J13
      · have g7 := gz_ifn c9 g7
        refine gz_aload_n (q := 0) hX dX6_runs_34 rfl rfl ?_
        refine tg_op hX dX6_runs_35 ?_
        refine gz_iload (q := 4) hX dX6_runs_38 rfl ?_
        obtain ⟨b23, g7⟩ := gz_gd_o g7
        refine gz_iald (L := 1200) hX tw_S23 (gz_inb_o b23) dX6_runs_40 ?_
        refine gz_iconst (v := 1) hX dX6_runs_41 gk_c_1 ?_
        refine gz_icmp_ne (tgt := 93) hX dX6_runs_42 (by decide) (fun c24 => ?_) (fun c24 => ?_)
        · have g7 := gz_ifn c24 g7
          refine gz_aload_n (q := 0) hX dX6_runs_93 rfl rfl ?_
          refine tg_op hX dX6_runs_94 ?_
          refine gz_iload (q := 4) hX dX6_runs_97 rfl ?_
          obtain ⟨b25, g7⟩ := gz_gd_o g7
          refine gz_iald (L := 1200) hX tw_S23 (gz_inb_o b25) dX6_runs_99 ?_
          refine gz_bipush (v := 9) hX dX6_runs_100 gk_b_9 ?_
          refine gz_icmp_ne (tgt := 128) hX dX6_runs_102 (by decide) (fun c26 => ?_) (fun c26 => ?_)
          · have g7 := gz_ifn c26 g7
            refine gz_iload (q := 3) hX dX6_runs_128 rfl ?_
            refine gz_iconst (v := 1) hX dX6_runs_130 gk_c_1 ?_
            refine gz_isub hX dX6_runs_131 ?_
            obtain ⟨x27, e28, g7⟩ := gz_let_o g7
            refine gz_nm e28 ?_
            refine gz_istore (lv2 := [(4, .int x27), (0, .ref (ad (1, 0, 0))), (1, .int v1), (3, .int v3), (5, .int v5)]) hX dX6_runs_132 (by decide) rfl ?_
            refine gz_aload_n (q := 1) hX dX6_runs_134 rfl rfl ?_
            refine tg_stack hX dX6_runs_135 ?_
            refine gz_iload (q := 0) hX dX6_runs_138 rfl ?_
            refine gz_iconst (v := 1) hX dX6_runs_140 gk_c_1 ?_
            refine gz_isub hX dX6_runs_141 ?_
            refine gz_aload_n (q := 1) hX dX6_runs_142 rfl rfl ?_
            refine gz_aload_n (q := 1) hX dX6_runs_143 rfl rfl ?_
            refine tg_op hX dX6_runs_144 ?_
            refine gz_iload (q := 4) hX dX6_runs_147 rfl ?_
            obtain ⟨b29, g7⟩ := gz_gd_o g7
            refine gz_iald (L := 1200) hX tw_S23 (gz_inb_o b29) dX6_runs_149 ?_
            refine gz_aload_n (q := 1) hX dX6_runs_150 rfl rfl ?_
            refine tg_stack hX dX6_runs_151 ?_
            refine gz_iload (q := 0) hX dX6_runs_154 rfl ?_
            refine gz_iconst (v := 1) hX dX6_runs_156 gk_c_1 ?_
            refine gz_isub hX dX6_runs_157 ?_
            obtain ⟨b30, g7⟩ := gz_gd_o g7
            refine gz_iald (L := 420) hX tw_S41 (gz_inb_o b30) dX6_runs_158 ?_
            refine gz_aload_n (q := 1) hX dX6_runs_159 rfl rfl ?_
            refine tg_stack hX dX6_runs_160 ?_
            refine gz_iload (q := 0) hX dX6_runs_163 rfl ?_
            obtain ⟨b31, g7⟩ := gz_gd_o g7
            refine gz_iald (L := 420) hX tw_S41 (gz_inb_o b31) dX6_runs_165 ?_
            obtain ⟨r32, e33, g7⟩ := gz_bd_o g7
            refine tc_V (As := [.int (V (2, 23, 0) v5.toNatClampNeg), .int (V (2, 41, 0) (x27 - 1).toNatClampNeg), .int (V (2, 41, 0) x27.toNatClampNeg)]) hX (c_twoOf e33) (lw_twoOf_ q1916) rfl rfl nn_twoOf ⟨Nat.le_of_ble_eq_true rfl, Nat.le_of_ble_eq_true rfl⟩ rfl rfl (Nat.le_of_ble_eq_true rfl) dX6_runs_166 rfl ?_
            obtain ⟨b34, g7⟩ := gz_gd_o g7
            obtain ⟨V35, e36, g7⟩ := gz_let_o g7
            refine gz_iast (L := 420) hX tw_S41 (by decide) (gz_inb_o b34) dX6_runs_169 e36 ?_
            obtain ⟨rfl, rfl⟩ := gz_in2 g7
            exact gz_lv [1, 2, 3, 0, 4] rfl J8
          · have g7 := gz_ifp c26 g7
            refine gz_aload_n (q := 0) hX dX6_runs_105 rfl rfl ?_
            refine tg_stack hX dX6_runs_106 ?_
            refine gz_iload (q := 3) hX dX6_runs_109 rfl ?_
            refine gz_iconst (v := 1) hX dX6_runs_111 gk_c_1 ?_
            refine gz_isub hX dX6_runs_112 ?_
            refine gz_iconst (v := 1) hX dX6_runs_113 gk_c_1 ?_
            refine gz_aload_n (q := 0) hX dX6_runs_114 rfl rfl ?_
            refine tg_stack hX dX6_runs_115 ?_
            refine gz_iload (q := 3) hX dX6_runs_118 rfl ?_
            refine gz_iconst (v := 1) hX dX6_runs_120 gk_c_1 ?_
            refine gz_isub hX dX6_runs_121 ?_
            obtain ⟨b37, g7⟩ := gz_gd_o g7
            refine gz_iald (L := 420) hX tw_S41 (gz_inb_o b37) dX6_runs_122 ?_
            refine gz_isub hX dX6_runs_123 ?_
            obtain ⟨b38, g7⟩ := gz_gd_o g7
            obtain ⟨V39, e40, g7⟩ := gz_let_o g7
            refine gz_iast (L := 420) hX tw_S41 (by decide) (gz_inb_o b38) dX6_runs_124 e40 ?_
            refine gz_goto (tgt := 170) hX dX6_runs_125 (by decide) ?_
            obtain ⟨rfl, rfl⟩ := gz_in2 g7
            exact gz_lv [0, 1, 2, 3, 4] rfl J8
        · have g7 := gz_ifp c24 g7
          refine gz_aload_n (q := 0) hX dX6_runs_45 rfl rfl ?_
          refine tg_stack hX dX6_runs_46 ?_
          refine gz_iload (q := 3) hX dX6_runs_49 rfl ?_
          refine gz_aload_n (q := 0) hX dX6_runs_51 rfl rfl ?_
          refine tg_op hX dX6_runs_52 ?_
          refine gz_iload (q := 4) hX dX6_runs_55 rfl ?_
          obtain ⟨b41, g7⟩ := gz_gd_o g7
          refine gz_iald (L := 1200) hX tw_S23 (gz_inb_o b41) dX6_runs_57 ?_
          obtain ⟨y42, g43, g7⟩ := gz_bd_o g7
          have J44 : gW X 6 tw_S tw_R ad V 0 0 83 [(0, .ref (ad (1, 0, 0))), (1, .int v1), (3, .int v3), (4, .int v4), (5, .int v5)] [.int y42, .int v4, .ref (ad (2, 41, 0))] := by
            obtain ⟨b49, g7⟩ := gz_gd_o g7
            obtain ⟨V50, e51, g7⟩ := gz_let_o g7
            refine gz_iast (L := 420) hX tw_S41 (by decide) (gz_inb_o b49) dX6_runs_83 e51 ?_
            refine gz_iload (q := 3) hX dX6_runs_84 rfl ?_
            refine gz_iconst (v := 1) hX dX6_runs_86 gk_c_1 ?_
            refine gz_iadd hX dX6_runs_87 ?_
            obtain ⟨x52, e53, g7⟩ := gz_let_o g7
            refine gz_nm e53 ?_
            refine gz_istore (lv2 := [(4, .int x52), (0, .ref (ad (1, 0, 0))), (1, .int v1), (3, .int v3), (5, .int v5)]) hX dX6_runs_88 (by decide) rfl ?_
            refine gz_goto (tgt := 170) hX dX6_runs_90 (by decide) ?_
            obtain ⟨rfl, rfl⟩ := gz_in2 g7
            exact gz_lv [1, 2, 3, 0, 4] rfl J8
          refine gz_if_ne (tgt := 71) hX dX6_runs_58 (by decide) (fun c45 => ?_) (fun c45 => ?_)
          · have g43 := gz_ifn c45 g43
            refine gz_aload_n (q := 0) hX dX6_runs_71 rfl rfl ?_
            refine tg_asked hX dX6_runs_72 ?_
            refine gz_aload_n (q := 0) hX dX6_runs_75 rfl rfl ?_
            refine tg_arg hX dX6_runs_76 ?_
            refine gz_iload (q := 4) hX dX6_runs_79 rfl ?_
            obtain ⟨b46, g43⟩ := gz_gd_o g43
            refine gz_iald (L := 1200) hX tw_S24 (gz_inb_o b46) dX6_runs_81 ?_
            obtain ⟨b47, g43⟩ := gz_gd_o g43
            refine gz_iald (L := 11) hX tw_S40 (gz_inb_o b47) dX6_runs_82 ?_
            obtain rfl := gz_in1 g43
            exact gz_lv [0, 1, 2, 3, 4] rfl J44
          · have g43 := gz_ifp c45 g43
            refine gz_aload_n (q := 0) hX dX6_runs_61 rfl rfl ?_
            refine tg_arg hX dX6_runs_62 ?_
            refine gz_iload (q := 4) hX dX6_runs_65 rfl ?_
            obtain ⟨b48, g43⟩ := gz_gd_o g43
            refine gz_iald (L := 1200) hX tw_S24 (gz_inb_o b48) dX6_runs_67 ?_
            refine gz_goto (tgt := 83) hX dX6_runs_68 (by decide) ?_
            obtain rfl := gz_in1 g43
            exact gz_lv [0, 1, 2, 3, 4] rfl J44
noncomputable def m_runs (N : Nat) (V : gz_V) (a1 : Int32) (a2 : Int32) (a3 : Int32) : Option (gz_V × Int32) := gz_let ((400 * a1) + a2) (fun x1 => gz_bd (m_runs_L12 N a1 a3 N V 0 x1) (fun V3 => some (V3, (V3 (2, 41, 0) (0 : Int32).toNatClampNeg))))
theorem c_runs {l : Launch} {D : va_G} {aC : Nat → ClassId} {ad : gz_A0} {N : Nat} {V : gz_V} {a1 : Int32} {a2 : Int32} {a3 : Int32} {W1 : gz_V} {r : Int32} (h : m_runs N V a1 a2 a3 = some (W1, r)) : gz_Met l yX6_runs cX6_runs 6 (some .int) rm_runs D aC ad tw_S V tw_R [.ref (ad (1, 0, 0)), .int a1, .int a2, .int a3] (gz_F1 tw_S tw_R ad W1 (some (.int r))) 0 0 := by
  refine gt_ofW (own := RX6) (mn := "runs") (lv := [(0, .ref (ad (1, 0, 0))), (1, .int a1), (2, .int a2), (3, .int a3)]) (by decide) rfl rfl (Nat.le_of_ble_eq_true rfl) rfl ?_
  intro X hX hZ hF
  rw [m_runs] at h
  refine gz_iconst (v := 0) hX dX6_runs_0 gk_c_0 ?_
  refine gz_istore (lv2 := [(4, .int 0), (0, .ref (ad (1, 0, 0))), (1, .int a1), (2, .int a2), (3, .int a3)]) hX dX6_runs_1 (by decide) rfl ?_
  refine gz_sipush (v := 400) hX dX6_runs_3 gk_s_400 ?_
  refine gz_iload_n (q := 2) hX dX6_runs_6 rfl rfl ?_
  refine gz_imul hX dX6_runs_7 ?_
  refine gz_iload_n (q := 3) hX dX6_runs_8 rfl rfl ?_
  refine gz_iadd hX dX6_runs_9 ?_
  obtain ⟨x1, e2, h⟩ := gz_let_o h
  refine gz_nm e2 ?_
  refine gz_istore (lv2 := [(5, .int x1), (4, .int 0), (0, .ref (ad (1, 0, 0))), (1, .int a1), (2, .int a2), (3, .int a3)]) hX dX6_runs_10 (by decide) rfl ?_
  obtain ⟨V3, e4, h⟩ := gz_bd_o h
  refine gz_lv [2, 3, 5, 1, 0] rfl (w_m_runs_L12 hX hZ ?_ N e4)
  refine gz_aload_n (q := 0) hX dX6_runs_176 rfl rfl ?_
  refine tg_stack hX dX6_runs_177 ?_
  refine gz_iconst (v := 0) hX dX6_runs_180 gk_c_0 ?_
  refine gz_iald (L := 420) hX tw_S41 (gz_inb_o (by decide)) dX6_runs_181 ?_
  obtain ⟨e1, e2⟩ := gz_in2 h
  exact gt_iret hX hZ hF e1 e2 dX6_runs_182
theorem lw_runs_ {i : Nat} (hl : Cond.methodLink RX6 i yX6_runs ∈ lw_all) : GoodIn lw_all (wsV RX6 i RX6 yX6_runs (ws_ yX6_runs cX6_runs 6 (some .int))) := lw_V hl q1914 qs101 q153 q1915
theorem nn_runs : yX6_runs.cls = RX6 ∧ yX6_runs.cls ≠ "java/lang/invoke/MethodHandle" ∧ yX6_runs.cls ≠ "java/lang/invoke/VarHandle" ∧ (parseMethodDescriptor yX6_runs.desc).map (fun d => d.parameters.length) = some 3 := by decide +kernel
def rm_lineOf : Room := { frames := 2, cells := 0, slots := 0, locals := 48 }
noncomputable def m_lineOf_L2 (N : Nat) (v1 : Int32) : Nat → gz_V → Int32 → Option ((gz_V × Int32) ⊕ (gz_V))
  | 0, _, _ => none
  | n + 1, V, v2 => (if (V (2, 18, 0) (0 : Int32).toNatClampNeg) ≤ v2 then some (.inr V) else gz_gd (gz_inb v2 48 = true) ((if (V (2, 19, 0) v2.toNatClampNeg) = v1 then gz_gd (gz_inb v2 48 = true) (gz_gd (gz_inb v2 48 = true) ((if (V (2, 21, 0) v2.toNatClampNeg) = (V (2, 22, 0) v2.toNatClampNeg) then some (.inl (V, v2)) else gz_gd (gz_inb v2 48 = true) (gz_gd (gz_inb v2 48 = true) (gz_b2 (m_runs N V 0 (V (2, 21, 0) v2.toNatClampNeg) (V (2, 22, 0) v2.toNatClampNeg)) (fun V11 r9 => (if r9 = 0 then m_lineOf_L2 N v1 n V11 (v2 + 1) else some (.inl (V11, v2))))))))) else m_lineOf_L2 N v1 n V (v2 + 1))))
theorem w_m_lineOf_L2 {X : gz_X} {ad : gz_A0} (hX : gz_ok X cX6_lineOf RX6 "lineOf" 3 rm_lineOf (some .int)) (hZ : gz_Z X) {N : Nat} {v1 : Int32} {out : (gz_V × Int32) ⊕ (gz_V)} (hout : (∃ (W2 : gz_V) (r : Int32), out = .inl (W2, r) ∧ gx_F X tw_S W2 tw_R ad (some (.int r))) ∨ (∃ (W1 : gz_V), out = .inr W1 ∧ gW X 3 tw_S tw_R ad W1 0 0 65 [] [])) : ∀ (n : Nat) {V : gz_V} {v2 : Int32}, m_lineOf_L2 N v1 n V v2 = some out → gW X 3 tw_S tw_R ad V 0 0 2 [(0, .ref (ad (1, 0, 0))), (1, .int v1), (2, .int v2)] [] := by
  intro n
  induction n with
  | zero => intro V v2 h; rw [m_lineOf_L2] at h; cases h
  | succ n ih =>
    intro V v2 h
    rw [m_lineOf_L2] at h
    refine gz_iload_n (q := 2) hX dX6_lineOf_2 rfl rfl ?_
    refine gz_aload_n (q := 0) hX dX6_lineOf_3 rfl rfl ?_
    refine tg_lineMany hX dX6_lineOf_4 ?_
    refine gz_iconst (v := 0) hX dX6_lineOf_7 gk_c_0 ?_
    refine gz_iald (L := 2) hX tw_S18 (gz_inb_o (by decide)) dX6_lineOf_8 ?_
    refine gz_icmp_ge (tgt := 65) hX dX6_lineOf_9 (by decide) (fun c1 => ?_) (fun c1 => ?_)
    · have h := gz_ifp c1 h
      obtain rfl := gz_in1 h
      obtain ⟨_, _, e0, _⟩ | ⟨_, e0, k⟩ := hout
      · cases e0
      · cases e0
        exact gz_lv [] rfl k
    · have h := gz_ifn c1 h
      refine gz_aload_n (q := 0) hX dX6_lineOf_12 rfl rfl ?_
      refine tg_lineWord hX dX6_lineOf_13 ?_
      refine gz_iload_n (q := 2) hX dX6_lineOf_16 rfl rfl ?_
      obtain ⟨b2, h⟩ := gz_gd_o h
      refine gz_iald (L := 48) hX tw_S19 (gz_inb_o b2) dX6_lineOf_17 ?_
      refine gz_iload_n (q := 1) hX dX6_lineOf_18 rfl rfl ?_
      refine gz_icmp_ne (tgt := 59) hX dX6_lineOf_19 (by decide) (fun c3 => ?_) (fun c3 => ?_)
      · have h := gz_ifn c3 h
        refine gz_iinc (q := 2) (lv2 := [(2, .int (v2 + 1)), (0, .ref (ad (1, 0, 0))), (1, .int v1)]) hX dX6_lineOf_59 rfl gk_c_1 (by decide) rfl ?_
        refine gz_goto (tgt := 2) hX dX6_lineOf_62 (by decide) ?_
        exact gz_lv [1, 2, 0] rfl (ih h)
      · have h := gz_ifp c3 h
        refine gz_aload_n (q := 0) hX dX6_lineOf_22 rfl rfl ?_
        refine tg_lineWhen hX dX6_lineOf_23 ?_
        refine gz_iload_n (q := 2) hX dX6_lineOf_26 rfl rfl ?_
        obtain ⟨b4, h⟩ := gz_gd_o h
        refine gz_iald (L := 48) hX tw_S21 (gz_inb_o b4) dX6_lineOf_27 ?_
        refine gz_aload_n (q := 0) hX dX6_lineOf_28 rfl rfl ?_
        refine tg_lineTo hX dX6_lineOf_29 ?_
        refine gz_iload_n (q := 2) hX dX6_lineOf_32 rfl rfl ?_
        obtain ⟨b5, h⟩ := gz_gd_o h
        refine gz_iald (L := 48) hX tw_S22 (gz_inb_o b5) dX6_lineOf_33 ?_
        refine gz_icmp_eq (tgt := 57) hX dX6_lineOf_34 (by decide) (fun c6 => ?_) (fun c6 => ?_)
        · have h := gz_ifp c6 h
          refine gz_iload_n (q := 2) hX dX6_lineOf_57 rfl rfl ?_
          obtain rfl := gz_in1 h
          obtain ⟨_, _, e0, hF⟩ | ⟨_, e0, _⟩ := hout
          · cases e0
            exact gt_iret hX hZ hF rfl rfl dX6_lineOf_58
          · cases e0
        · have h := gz_ifn c6 h
          refine gz_aload_n (q := 0) hX dX6_lineOf_37 rfl rfl ?_
          refine gz_iconst (v := 0) hX dX6_lineOf_38 gk_c_0 ?_
          refine gz_aload_n (q := 0) hX dX6_lineOf_39 rfl rfl ?_
          refine tg_lineWhen hX dX6_lineOf_40 ?_
          refine gz_iload_n (q := 2) hX dX6_lineOf_43 rfl rfl ?_
          obtain ⟨b7, h⟩ := gz_gd_o h
          refine gz_iald (L := 48) hX tw_S21 (gz_inb_o b7) dX6_lineOf_44 ?_
          refine gz_aload_n (q := 0) hX dX6_lineOf_45 rfl rfl ?_
          refine tg_lineTo hX dX6_lineOf_46 ?_
          refine gz_iload_n (q := 2) hX dX6_lineOf_49 rfl rfl ?_
          obtain ⟨b8, h⟩ := gz_gd_o h
          refine gz_iald (L := 48) hX tw_S22 (gz_inb_o b8) dX6_lineOf_50 ?_
          obtain ⟨V11, r9, e10, h⟩ := gz_b2_o h
          refine tc_V (As := [.int 0, .int (V (2, 21, 0) v2.toNatClampNeg), .int (V (2, 22, 0) v2.toNatClampNeg)]) hX (c_runs e10) (lw_runs_ q1912) rfl rfl nn_runs ⟨Nat.le_of_ble_eq_true rfl, Nat.le_of_ble_eq_true rfl⟩ rfl rfl (Nat.le_of_ble_eq_true rfl) dX6_lineOf_51 rfl ?_
          refine gz_if_eq (tgt := 59) hX dX6_lineOf_54 (by decide) (fun c12 => ?_) (fun c12 => ?_)
          · have h := gz_ifp c12 h
            refine gz_iinc (q := 2) (lv2 := [(2, .int (v2 + 1)), (0, .ref (ad (1, 0, 0))), (1, .int v1)]) hX dX6_lineOf_59 rfl gk_c_1 (by decide) rfl ?_
            refine gz_goto (tgt := 2) hX dX6_lineOf_62 (by decide) ?_
            exact gz_lv [1, 2, 0] rfl (ih h)
          · have h := gz_ifn c12 h
            refine gz_iload_n (q := 2) hX dX6_lineOf_57 rfl rfl ?_
            obtain rfl := gz_in1 h
            obtain ⟨_, _, e0, hF⟩ | ⟨_, e0, _⟩ := hout
            · cases e0
              exact gt_iret hX hZ hF rfl rfl dX6_lineOf_58
            · cases e0
noncomputable def m_lineOf (N : Nat) (V : gz_V) (a1 : Int32) : Option (gz_V × Int32) := gz_lp (m_lineOf_L2 N a1 N V 0) some (fun V1 => some (V1, (-1)))
theorem c_lineOf {l : Launch} {D : va_G} {aC : Nat → ClassId} {ad : gz_A0} {N : Nat} {V : gz_V} {a1 : Int32} {W1 : gz_V} {r : Int32} (h : m_lineOf N V a1 = some (W1, r)) : gz_Met l yX6_lineOf cX6_lineOf 3 (some .int) rm_lineOf D aC ad tw_S V tw_R [.ref (ad (1, 0, 0)), .int a1] (gz_F1 tw_S tw_R ad W1 (some (.int r))) 0 0 := by
  refine gt_ofW (own := RX6) (mn := "lineOf") (lv := [(0, .ref (ad (1, 0, 0))), (1, .int a1)]) (by decide) rfl rfl (Nat.le_of_ble_eq_true rfl) rfl ?_
  intro X hX hZ hF
  rw [m_lineOf] at h
  refine gz_iconst (v := 0) hX dX6_lineOf_0 gk_c_0 ?_
  refine gz_istore_n (lv2 := [(2, .int 0), (0, .ref (ad (1, 0, 0))), (1, .int a1)]) hX dX6_lineOf_1 rfl (by decide) rfl ?_
  rcases gz_lp_o h with ⟨p3, e2, h⟩ | ⟨V1, e2, h⟩
  · obtain rfl := gz_in1 h
    exact gz_lv [1, 2, 0] rfl (w_m_lineOf_L2 hX hZ (Or.inl ⟨_, _, rfl, hF⟩) N e2)
  · refine gz_lv [1, 2, 0] rfl (w_m_lineOf_L2 hX hZ (Or.inr ⟨V1, rfl, ?_⟩) N e2)
    refine gz_iconst (v := (-1)) hX dX6_lineOf_65 gk_c_m1 ?_
    obtain ⟨e1, e2⟩ := gz_in2 h
    exact gt_iret hX hZ hF e1 e2 dX6_lineOf_66
theorem lw_lineOf_ {i : Nat} (hl : Cond.methodLink RX6 i yX6_lineOf ∈ lw_all) : GoodIn lw_all (wsV RX6 i RX6 yX6_lineOf (ws_ yX6_lineOf cX6_lineOf 3 (some .int))) := lw_V hl q1910 qs100 q153 q1911
theorem nn_lineOf : yX6_lineOf.cls = RX6 ∧ yX6_lineOf.cls ≠ "java/lang/invoke/MethodHandle" ∧ yX6_lineOf.cls ≠ "java/lang/invoke/VarHandle" ∧ (parseMethodDescriptor yX6_lineOf.desc).map (fun d => d.parameters.length) = some 1 := by decide +kernel
def rm_held : Room := { frames := 0, cells := 0, slots := 0, locals := 0 }
noncomputable def m_held (a1 : Int32) (a2 : Int32) (a3 : Int32) : Int32 := (if a2 ≤ a1 then (if a1 ≤ a3 then a1 else a3) else a2)
theorem c_held {l : Launch} {D : va_G} {aC : Nat → ClassId} {ad : gz_A0} {V : gz_V} {a1 : Int32} {a2 : Int32} {a3 : Int32} {r : Int32} (h : m_held a1 a2 a3 = r) : gz_Met l yX6_held cX6_held 4 (some .int) rm_held D aC ad tw_S V tw_R [.ref (ad (1, 0, 0)), .int a1, .int a2, .int a3] (gz_F1 tw_S tw_R ad V (some (.int r))) 0 0 := by
  refine gt_ofW (own := RX6) (mn := "held") (lv := [(0, .ref (ad (1, 0, 0))), (1, .int a1), (2, .int a2), (3, .int a3)]) (by decide) rfl rfl (Nat.le_of_ble_eq_true rfl) rfl ?_
  intro X hX hZ hF
  rw [m_held] at h
  refine gz_iload_n (q := 1) hX dX6_held_0 rfl rfl ?_
  refine gz_iload_n (q := 2) hX dX6_held_1 rfl rfl ?_
  refine gz_icmp_ge (tgt := 9) hX dX6_held_2 (by decide) (fun c1 => ?_) (fun c1 => ?_)
  · have h := gz_ifp c1 h
    refine gz_iload_n (q := 1) hX dX6_held_9 rfl rfl ?_
    refine gz_iload_n (q := 3) hX dX6_held_10 rfl rfl ?_
    refine gz_icmp_le (tgt := 18) hX dX6_held_11 (by decide) (fun c2 => ?_) (fun c2 => ?_)
    · have h := gz_ifp c2 h
      refine gz_iload_n (q := 1) hX dX6_held_18 rfl rfl ?_
      exact gt_iret hX hZ hF rfl h dX6_held_19
    · have h := gz_ifn c2 h
      refine gz_iload_n (q := 3) hX dX6_held_14 rfl rfl ?_
      refine gz_goto (tgt := 19) hX dX6_held_15 (by decide) ?_
      exact gt_iret hX hZ hF rfl h dX6_held_19
  · have h := gz_ifn c1 h
    refine gz_iload_n (q := 2) hX dX6_held_5 rfl rfl ?_
    refine gz_goto (tgt := 19) hX dX6_held_6 (by decide) ?_
    exact gt_iret hX hZ hF rfl h dX6_held_19
theorem lw_held_ {i : Nat} (hl : Cond.methodLink RX6 i yX6_held ∈ lw_all) : GoodIn lw_all (wsV RX6 i RX6 yX6_held (ws_ yX6_held cX6_held 4 (some .int))) := lw_V hl q1702 qs55 q153 q1703
theorem nn_held : yX6_held.cls = RX6 ∧ yX6_held.cls ≠ "java/lang/invoke/MethodHandle" ∧ yX6_held.cls ≠ "java/lang/invoke/VarHandle" ∧ (parseMethodDescriptor yX6_held.desc).map (fun d => d.parameters.length) = some 3 := by decide +kernel
def rm_lawTells : Room := { frames := 3, cells := 0, slots := 0, locals := 70 }
noncomputable def m_lawTells (N : Nat) (V : gz_V) (a1 : Int32) (a2 : Int32) (a3 : Int32) : Option (gz_V × Int32) := gz_b2 (m_lineOf N V a1) (fun V3 r1 => gz_b2 (if r1 = (-1) then some (V3, a2) else gz_gd (gz_inb r1 48 = true) (gz_gd (gz_inb r1 48 = true) (gz_b2 (m_runs N V3 0 (V3 (2, 20, 0) r1.toNatClampNeg) (V3 (2, 21, 0) r1.toNatClampNeg)) (fun V13 r11 => some (V13, r11))))) (fun V4 y5 => some (V4, (m_held y5 0 a3))))
theorem c_lawTells {l : Launch} {D : va_G} {aC : Nat → ClassId} {ad : gz_A0} {N : Nat} {V : gz_V} {a1 : Int32} {a2 : Int32} {a3 : Int32} {W1 : gz_V} {r : Int32} (h : m_lawTells N V a1 a2 a3 = some (W1, r)) : gz_Met l yX6_lawTells cX6_lawTells 5 (some .int) rm_lawTells D aC ad tw_S V tw_R [.ref (ad (1, 0, 0)), .int a1, .int a2, .int a3] (gz_F1 tw_S tw_R ad W1 (some (.int r))) 0 0 := by
  refine gt_ofW (own := RX6) (mn := "lawTells") (lv := [(0, .ref (ad (1, 0, 0))), (1, .int a1), (2, .int a2), (3, .int a3)]) (by decide) rfl rfl (Nat.le_of_ble_eq_true rfl) rfl ?_
  intro X hX hZ hF
  rw [m_lawTells] at h
  refine gz_aload_n (q := 0) hX dX6_lawTells_0 rfl rfl ?_
  refine gz_iload_n (q := 1) hX dX6_lawTells_1 rfl rfl ?_
  obtain ⟨V3, r1, e2, h⟩ := gz_b2_o h
  refine tc_V (As := [.int a1]) hX (c_lineOf e2) (lw_lineOf_ q1908) rfl rfl nn_lineOf ⟨Nat.le_of_ble_eq_true rfl, Nat.le_of_ble_eq_true rfl⟩ rfl rfl (Nat.le_of_ble_eq_true rfl) dX6_lawTells_2 rfl ?_
  refine gz_istore (lv2 := [(4, .int r1), (0, .ref (ad (1, 0, 0))), (1, .int a1), (2, .int a2), (3, .int a3)]) hX dX6_lawTells_5 (by decide) rfl ?_
  refine gz_aload_n (q := 1) hX dX6_lawTells_7 rfl rfl ?_
  refine gz_iload (q := 0) hX dX6_lawTells_8 rfl ?_
  refine gz_iconst (v := (-1)) hX dX6_lawTells_10 gk_c_m1 ?_
  obtain ⟨V4, y5, g6, h⟩ := gz_b2_o h
  have J7 : gW X 5 tw_S tw_R ad V4 0 0 37 [(3, .int a3)] [.int y5, .ref (ad (1, 0, 0))] := by
    refine gz_iconst (v := 0) hX dX6_lawTells_37 gk_c_0 ?_
    refine gz_iload_n (q := 0) hX dX6_lawTells_38 rfl rfl ?_
    refine tc_V (As := [.int y5, .int 0, .int a3]) hX (c_held rfl) (lw_held_ q1700) rfl rfl nn_held ⟨Nat.le_of_ble_eq_true rfl, Nat.le_of_ble_eq_true rfl⟩ rfl rfl (Nat.le_of_ble_eq_true rfl) dX6_lawTells_39 rfl ?_
    obtain ⟨e1, e2⟩ := gz_in2 h
    exact gt_iret hX hZ hF e1 e2 dX6_lawTells_42
  refine gz_icmp_ne (tgt := 18) hX dX6_lawTells_11 (by decide) (fun c8 => ?_) (fun c8 => ?_)
  · have g6 := gz_ifn c8 g6
    refine gz_aload_n (q := 1) hX dX6_lawTells_18 rfl rfl ?_
    refine gz_iconst (v := 0) hX dX6_lawTells_19 gk_c_0 ?_
    refine gz_aload_n (q := 1) hX dX6_lawTells_20 rfl rfl ?_
    refine tg_lineFrom hX dX6_lawTells_21 ?_
    refine gz_iload (q := 0) hX dX6_lawTells_24 rfl ?_
    obtain ⟨b9, g6⟩ := gz_gd_o g6
    refine gz_iald (L := 48) hX tw_S20 (gz_inb_o b9) dX6_lawTells_26 ?_
    refine gz_aload_n (q := 1) hX dX6_lawTells_27 rfl rfl ?_
    refine tg_lineWhen hX dX6_lawTells_28 ?_
    refine gz_iload (q := 0) hX dX6_lawTells_31 rfl ?_
    obtain ⟨b10, g6⟩ := gz_gd_o g6
    refine gz_iald (L := 48) hX tw_S21 (gz_inb_o b10) dX6_lawTells_33 ?_
    obtain ⟨V13, r11, e12, g6⟩ := gz_b2_o g6
    refine tc_V (As := [.int 0, .int (V3 (2, 20, 0) r1.toNatClampNeg), .int (V3 (2, 21, 0) r1.toNatClampNeg)]) hX (c_runs e12) (lw_runs_ q1912) rfl rfl nn_runs ⟨Nat.le_of_ble_eq_true rfl, Nat.le_of_ble_eq_true rfl⟩ rfl rfl (Nat.le_of_ble_eq_true rfl) dX6_lawTells_34 rfl ?_
    obtain ⟨rfl, rfl⟩ := gz_in2 g6
    exact gz_lv [4] rfl J7
  · have g6 := gz_ifp c8 g6
    refine gz_iload_n (q := 3) hX dX6_lawTells_14 rfl rfl ?_
    refine gz_goto (tgt := 37) hX dX6_lawTells_15 (by decide) ?_
    obtain ⟨rfl, rfl⟩ := gz_in2 g6
    exact gz_lv [4] rfl J7
theorem lw_lawTells_ {i : Nat} (hl : Cond.methodLink RX6 i yX6_lawTells ∈ lw_all) : GoodIn lw_all (wsV RX6 i RX6 yX6_lawTells (ws_ yX6_lawTells cX6_lawTells 5 (some .int))) := lw_V hl q1906 qs99 q153 q1907
theorem nn_lawTells : yX6_lawTells.cls = RX6 ∧ yX6_lawTells.cls ≠ "java/lang/invoke/MethodHandle" ∧ yX6_lawTells.cls ≠ "java/lang/invoke/VarHandle" ∧ (parseMethodDescriptor yX6_lawTells.desc).map (fun d => d.parameters.length) = some 3 := by decide +kernel
theorem gk_s_9999 : (Int16.ofInt 9999).toInt32 = 9999 := by decide
def rm_asksOf : Room := { frames := 4, cells := 0, slots := 0, locals := 94 }
noncomputable def m_asksOf (N : Nat) (V : gz_V) (a1 : Int32) (a2 : Int32) : Option (gz_V × Int32) := gz_bd (m_looks V a1 a2 0 0) (fun V2 => gz_b2 (m_lawTells N V2 2 ((V2 (2, 40, 0) (5 : Int32).toNatClampNeg) - (10 * (V2 (1, 0, 0) 42))) 9999) (fun V5 r3 => some (V5, r3)))
theorem c_asksOf {l : Launch} {D : va_G} {aC : Nat → ClassId} {ad : gz_A0} {N : Nat} {V : gz_V} {a1 : Int32} {a2 : Int32} {W1 : gz_V} {r : Int32} (h : m_asksOf N V a1 a2 = some (W1, r)) : gz_Met l yX6_asksOf cX6_asksOf 3 (some .int) rm_asksOf D aC ad tw_S V tw_R [.ref (ad (1, 0, 0)), .int a1, .int a2] (gz_F1 tw_S tw_R ad W1 (some (.int r))) 0 0 := by
  refine gt_ofW (own := RX6) (mn := "asksOf") (lv := [(0, .ref (ad (1, 0, 0))), (1, .int a1), (2, .int a2)]) (by decide) rfl rfl (Nat.le_of_ble_eq_true rfl) rfl ?_
  intro X hX hZ hF
  rw [m_asksOf] at h
  refine gz_aload_n (q := 0) hX dX6_asksOf_0 rfl rfl ?_
  refine gz_iload_n (q := 1) hX dX6_asksOf_1 rfl rfl ?_
  refine gz_iload_n (q := 2) hX dX6_asksOf_2 rfl rfl ?_
  refine gz_iconst (v := 0) hX dX6_asksOf_3 gk_c_0 ?_
  refine gz_iconst (v := 0) hX dX6_asksOf_4 gk_c_0 ?_
  obtain ⟨V2, e1, h⟩ := gz_bd_o h
  refine tc_V (As := [.int a1, .int a2, .int 0, .int 0]) hX (c_looks e1) (lw_looks_ q1892) rfl rfl nn_looks ⟨Nat.le_of_ble_eq_true rfl, Nat.le_of_ble_eq_true rfl⟩ rfl rfl (Nat.le_of_ble_eq_true rfl) dX6_asksOf_5 rfl ?_
  refine gz_aload_n (q := 0) hX dX6_asksOf_8 rfl rfl ?_
  refine gz_iconst (v := 2) hX dX6_asksOf_9 gk_c_2 ?_
  refine gz_aload_n (q := 0) hX dX6_asksOf_10 rfl rfl ?_
  refine tg_asked hX dX6_asksOf_11 ?_
  refine gz_iconst (v := 5) hX dX6_asksOf_14 gk_c_5 ?_
  refine gz_iald (L := 11) hX tw_S40 (gz_inb_o (by decide)) dX6_asksOf_15 ?_
  refine gz_bipush (v := 10) hX dX6_asksOf_16 gk_b_10 ?_
  refine gz_aload_n (q := 0) hX dX6_asksOf_18 rfl rfl ?_
  refine tg_byGrip hX dX6_asksOf_19 ?_
  refine gz_imul hX dX6_asksOf_22 ?_
  refine gz_isub hX dX6_asksOf_23 ?_
  refine gz_sipush (v := 9999) hX dX6_asksOf_24 gk_s_9999 ?_
  obtain ⟨V5, r3, e4, h⟩ := gz_b2_o h
  refine tc_V (As := [.int 2, .int ((V2 (2, 40, 0) (5 : Int32).toNatClampNeg) - (10 * (V2 (1, 0, 0) 42))), .int 9999]) hX (c_lawTells e4) (lw_lawTells_ q1904) rfl rfl nn_lawTells ⟨Nat.le_of_ble_eq_true rfl, Nat.le_of_ble_eq_true rfl⟩ rfl rfl (Nat.le_of_ble_eq_true rfl) dX6_asksOf_27 rfl ?_
  obtain ⟨e1, e2⟩ := gz_in2 h
  exact gt_iret hX hZ hF e1 e2 dX6_asksOf_30
theorem lw_asksOf_ {i : Nat} (hl : Cond.methodLink RX6 i yX6_asksOf ∈ lw_all) : GoodIn lw_all (wsV RX6 i RX6 yX6_asksOf (ws_ yX6_asksOf cX6_asksOf 3 (some .int))) := lw_V hl q1890 qs95 q153 q1891
theorem nn_asksOf : yX6_asksOf.cls = RX6 ∧ yX6_asksOf.cls ≠ "java/lang/invoke/MethodHandle" ∧ yX6_asksOf.cls ≠ "java/lang/invoke/VarHandle" ∧ (parseMethodDescriptor yX6_asksOf.desc).map (fun d => d.parameters.length) = some 2 := by decide +kernel
theorem gk_b_101 : (Int8.ofInt 101).toInt32 = 101 := by decide
def rm_asks : Room := { frames := 5, cells := 0, slots := 0, locals := 116 }
noncomputable def m_asks (N : Nat) (V : gz_V) (a1 : Int32) (a2 : Int32) (a3 : Int32) : Option (gz_V × Int32) := gz_let (gz_up V (1, 0, 0) 0 0) (fun V1 => (if (m_isHorse V1 a2) = 0 then some (V1, (-1)) else gz_gd (gz_inb (101 + a2) 121 = true) ((if (m_areTwo V1 (V1 (2, 1, 0) (101 + a2).toNatClampNeg) a1 a3) = 0 then some (V1, (-1)) else gz_bd (m_isBy V1 a3 0 a2) (fun V7 => gz_gd (gz_inb (101 + a2) 121 = true) (gz_b2 (m_asksOf N V7 (V7 (2, 1, 0) (101 + a2).toNatClampNeg) a1) (fun V11 r9 => some (V11, r9))))))))
theorem c_asks {l : Launch} {D : va_G} {aC : Nat → ClassId} {ad : gz_A0} {N : Nat} {V : gz_V} {a1 : Int32} {a2 : Int32} {a3 : Int32} {W1 : gz_V} {r : Int32} (h : m_asks N V a1 a2 a3 = some (W1, r)) : gz_Met l yX6_asks cX6_asks 4 (some .int) rm_asks D aC ad tw_S V tw_R [.ref (ad (1, 0, 0)), .int a1, .int a2, .int a3] (gz_F1 tw_S tw_R ad W1 (some (.int r))) 0 0 := by
  refine gt_ofW (own := RX6) (mn := "asks") (lv := [(0, .ref (ad (1, 0, 0))), (1, .int a1), (2, .int a2), (3, .int a3)]) (by decide) rfl rfl (Nat.le_of_ble_eq_true rfl) rfl ?_
  intro X hX hZ hF
  rw [m_asks] at h
  refine gz_aload_n (q := 0) hX dX6_asks_0 rfl rfl ?_
  refine gz_iconst (v := 0) hX dX6_asks_1 gk_c_0 ?_
  obtain ⟨V1, e2, h⟩ := gz_let_o h
  refine tp_told hX dX6_asks_2 e2 ?_
  refine gz_aload_n (q := 0) hX dX6_asks_5 rfl rfl ?_
  refine gz_iload_n (q := 2) hX dX6_asks_6 rfl rfl ?_
  refine tc_V (As := [.int a2]) hX (c_isHorse rfl) (lw_isHorse_ q1720) rfl rfl nn_isHorse ⟨Nat.le_of_ble_eq_true rfl, Nat.le_of_ble_eq_true rfl⟩ rfl rfl (Nat.le_of_ble_eq_true rfl) dX6_asks_7 rfl ?_
  refine gz_if_eq (tgt := 31) hX dX6_asks_10 (by decide) (fun c3 => ?_) (fun c3 => ?_)
  · have h := gz_ifp c3 h
    refine gz_iconst (v := (-1)) hX dX6_asks_31 gk_c_m1 ?_
    obtain ⟨e1, e2⟩ := gz_in2 h
    exact gt_iret hX hZ hF e1 e2 dX6_asks_32
  · have h := gz_ifn c3 h
    refine gz_aload_n (q := 0) hX dX6_asks_13 rfl rfl ?_
    refine gz_aload_n (q := 0) hX dX6_asks_14 rfl rfl ?_
    refine tg_now hX dX6_asks_15 ?_
    refine gz_bipush (v := 101) hX dX6_asks_18 gk_b_101 ?_
    refine gz_iload_n (q := 2) hX dX6_asks_20 rfl rfl ?_
    refine gz_iadd hX dX6_asks_21 ?_
    obtain ⟨b4, h⟩ := gz_gd_o h
    refine gz_iald (L := 121) hX tw_S1 (gz_inb_o b4) dX6_asks_22 ?_
    refine gz_iload_n (q := 1) hX dX6_asks_23 rfl rfl ?_
    refine gz_iload_n (q := 3) hX dX6_asks_24 rfl rfl ?_
    refine tc_V (As := [.int (V1 (2, 1, 0) (101 + a2).toNatClampNeg), .int a1, .int a3]) hX (c_areTwo rfl) (lw_areTwo_ q2006) rfl rfl nn_areTwo ⟨Nat.le_of_ble_eq_true rfl, Nat.le_of_ble_eq_true rfl⟩ rfl rfl (Nat.le_of_ble_eq_true rfl) dX6_asks_25 rfl ?_
    refine gz_if_ne (tgt := 33) hX dX6_asks_28 (by decide) (fun c5 => ?_) (fun c5 => ?_)
    · have h := gz_ifn c5 h
      refine gz_aload_n (q := 0) hX dX6_asks_33 rfl rfl ?_
      refine gz_iload_n (q := 3) hX dX6_asks_34 rfl rfl ?_
      refine gz_iconst (v := 0) hX dX6_asks_35 gk_c_0 ?_
      refine gz_iload_n (q := 2) hX dX6_asks_36 rfl rfl ?_
      obtain ⟨V7, e6, h⟩ := gz_bd_o h
      refine tc_V (As := [.int a3, .int 0, .int a2]) hX (c_isBy e6) (lw_isBy_ q1884) rfl rfl nn_isBy ⟨Nat.le_of_ble_eq_true rfl, Nat.le_of_ble_eq_true rfl⟩ rfl rfl (Nat.le_of_ble_eq_true rfl) dX6_asks_37 rfl ?_
      refine gz_aload_n (q := 0) hX dX6_asks_40 rfl rfl ?_
      refine gz_aload_n (q := 0) hX dX6_asks_41 rfl rfl ?_
      refine tg_now hX dX6_asks_42 ?_
      refine gz_bipush (v := 101) hX dX6_asks_45 gk_b_101 ?_
      refine gz_iload_n (q := 2) hX dX6_asks_47 rfl rfl ?_
      refine gz_iadd hX dX6_asks_48 ?_
      obtain ⟨b8, h⟩ := gz_gd_o h
      refine gz_iald (L := 121) hX tw_S1 (gz_inb_o b8) dX6_asks_49 ?_
      refine gz_iload_n (q := 1) hX dX6_asks_50 rfl rfl ?_
      obtain ⟨V11, r9, e10, h⟩ := gz_b2_o h
      refine tc_V (As := [.int (V7 (2, 1, 0) (101 + a2).toNatClampNeg), .int a1]) hX (c_asksOf e10) (lw_asksOf_ q1888) rfl rfl nn_asksOf ⟨Nat.le_of_ble_eq_true rfl, Nat.le_of_ble_eq_true rfl⟩ rfl rfl (Nat.le_of_ble_eq_true rfl) dX6_asks_51 rfl ?_
      obtain ⟨e1, e2⟩ := gz_in2 h
      exact gt_iret hX hZ hF e1 e2 dX6_asks_54
    · have h := gz_ifp c5 h
      refine gz_iconst (v := (-1)) hX dX6_asks_31 gk_c_m1 ?_
      obtain ⟨e1, e2⟩ := gz_in2 h
      exact gt_iret hX hZ hF e1 e2 dX6_asks_32
theorem lw_asks_ {i : Nat} (hl : Cond.methodLink RX6 i yX6_asks ∈ lw_all) : GoodIn lw_all (wsV RX6 i RX6 yX6_asks (ws_ yX6_asks cX6_asks 4 (some .int))) := lw_V hl q2015 q2016 q153 q2017
theorem nn_asks : yX6_asks.cls = RX6 ∧ yX6_asks.cls ≠ "java/lang/invoke/MethodHandle" ∧ yX6_asks.cls ≠ "java/lang/invoke/VarHandle" ∧ (parseMethodDescriptor yX6_asks.desc).map (fun d => d.parameters.length) = some 3 := by decide +kernel
def rm_canWeigh : Room := { frames := 0, cells := 0, slots := 0, locals := 0 }
noncomputable def m_canWeigh_L5 (N : Nat) (V : gz_V) (v1 : Int32) (v2 : Int32) : Nat → Int32 → Int32 → Option (Int32)
  | 0, _, _ => none
  | n + 1, v3, v4 => (if (V (1, 0, 0) 57) ≤ v4 then some v3 else gz_let (v3 * 3) (fun x2 => m_canWeigh_L5 N V v1 v2 n x2 (v4 + 1)))
theorem w_m_canWeigh_L5 {X : gz_X} {ad : gz_A0} (hX : gz_ok X cX6_canWeigh RX6 "canWeigh" 8 rm_canWeigh (some .boolean)) (hZ : gz_Z X) {N : Nat} {V : gz_V} {v1 : Int32} {v2 : Int32} {o3 : Int32} (k : gW X 8 tw_S tw_R ad V 0 0 24 [(0, .ref (ad (1, 0, 0))), (1, .int v1), (2, .int v2), (3, .int o3)] []) : ∀ (n : Nat) {v3 : Int32} {v4 : Int32}, m_canWeigh_L5 N V v1 v2 n v3 v4 = some o3 → gW X 8 tw_S tw_R ad V 0 0 5 [(0, .ref (ad (1, 0, 0))), (1, .int v1), (2, .int v2), (3, .int v3), (4, .int v4)] [] := by
  intro n
  induction n with
  | zero => intro v3 v4 h; rw [m_canWeigh_L5] at h; cases h
  | succ n ih =>
    intro v3 v4 h
    rw [m_canWeigh_L5] at h
    refine gz_iload (q := 4) hX dX6_canWeigh_5 rfl ?_
    refine gz_aload_n (q := 0) hX dX6_canWeigh_7 rfl rfl ?_
    refine tg_weightMany hX dX6_canWeigh_8 ?_
    refine gz_icmp_ge (tgt := 24) hX dX6_canWeigh_11 (by decide) (fun c1 => ?_) (fun c1 => ?_)
    · have h := gz_ifp c1 h
      obtain rfl := gz_in1 h
      exact gz_lv [0, 1, 2, 3] rfl k
    · have h := gz_ifn c1 h
      refine gz_iload_n (q := 3) hX dX6_canWeigh_14 rfl rfl ?_
      refine gz_iconst (v := 3) hX dX6_canWeigh_15 gk_c_3 ?_
      refine gz_imul hX dX6_canWeigh_16 ?_
      obtain ⟨x2, e3, h⟩ := gz_let_o h
      refine gz_nm e3 ?_
      refine gz_istore_n (lv2 := [(3, .int x2), (0, .ref (ad (1, 0, 0))), (1, .int v1), (2, .int v2), (4, .int v4)]) hX dX6_canWeigh_17 rfl (by decide) rfl ?_
      refine gz_iinc (q := 4) (lv2 := [(4, .int (v4 + 1)), (3, .int x2), (0, .ref (ad (1, 0, 0))), (1, .int v1), (2, .int v2)]) hX dX6_canWeigh_18 rfl gk_c_1 (by decide) rfl ?_
      refine gz_goto (tgt := 5) hX dX6_canWeigh_21 (by decide) ?_
      exact gz_lv [2, 3, 4, 1, 0] rfl (ih h)
noncomputable def m_canWeigh_L43 (N : Nat) (V : gz_V) (v1 : Int32) (v2 : Int32) (v3 : Int32) (v4 : Int32) : Nat → Int32 → Int32 → Int32 → Option (Int32)
  | 0, _, _, _ => none
  | n + 1, v5, v6, v7 => (if (V (1, 0, 0) 57) ≤ v7 then some v5 else gz_bd (if (v6 - v6 / 3 * 3) = 1 then gz_gd (gz_inb v7 5 = true) (gz_let (v5 + (V (2, 58, 0) v7.toNatClampNeg)) (fun x10 => some x10)) else some v5) (fun y5 => gz_bd (if (v6 - v6 / 3 * 3) = 2 then gz_bd (if v2 = 0 then some (100000000 : Int32) else gz_gd (gz_inb v7 5 = true) (some (y5 - (V (2, 58, 0) v7.toNatClampNeg)))) (fun y16 => some y16) else some y5) (fun y12 => gz_let (v6 / 3) (fun x21 => m_canWeigh_L43 N V v1 v2 v3 v4 n y12 x21 (v7 + 1)))))
theorem w_m_canWeigh_L43 {X : gz_X} {ad : gz_A0} (hX : gz_ok X cX6_canWeigh RX6 "canWeigh" 8 rm_canWeigh (some .boolean)) (hZ : gz_Z X) {N : Nat} {V : gz_V} {v1 : Int32} {v2 : Int32} {v3 : Int32} {v4 : Int32} {o5 : Int32} (k : gW X 8 tw_S tw_R ad V 0 0 114 [(0, .ref (ad (1, 0, 0))), (1, .int v1), (2, .int v2), (3, .int v3), (4, .int v4), (5, .int o5)] []) : ∀ (n : Nat) {v5 : Int32} {v6 : Int32} {v7 : Int32}, m_canWeigh_L43 N V v1 v2 v3 v4 n v5 v6 v7 = some o5 → gW X 8 tw_S tw_R ad V 0 0 43 [(0, .ref (ad (1, 0, 0))), (1, .int v1), (2, .int v2), (3, .int v3), (4, .int v4), (5, .int v5), (6, .int v6), (7, .int v7)] [] := by
  intro n
  induction n with
  | zero => intro v5 v6 v7 h; rw [m_canWeigh_L43] at h; cases h
  | succ n ih =>
    intro v5 v6 v7 h
    rw [m_canWeigh_L43] at h
    refine gz_iload (q := 7) hX dX6_canWeigh_43 rfl ?_
    refine gz_aload_n (q := 0) hX dX6_canWeigh_45 rfl rfl ?_
    refine tg_weightMany hX dX6_canWeigh_46 ?_
    refine gz_icmp_ge (tgt := 114) hX dX6_canWeigh_49 (by decide) (fun c4 => ?_) (fun c4 => ?_)
    · have h := gz_ifp c4 h
      obtain rfl := gz_in1 h
      exact gz_lv [0, 1, 2, 3, 4, 5] rfl k
    · have h := gz_ifn c4 h
      refine gz_iload (q := 6) hX dX6_canWeigh_52 rfl ?_
      refine gz_iconst (v := 3) hX dX6_canWeigh_54 gk_c_3 ?_
      refine gz_irem hX dX6_canWeigh_55 (by decide) ?_
      refine gz_iconst (v := 1) hX dX6_canWeigh_56 gk_c_1 ?_
      obtain ⟨y5, g6, h⟩ := gz_bd_o h
      have J7 : gW X 8 tw_S tw_R ad V 0 0 72 [(0, .ref (ad (1, 0, 0))), (1, .int v1), (2, .int v2), (3, .int v3), (4, .int v4), (5, .int y5), (6, .int v6), (7, .int v7)] [] := by
        refine gz_iload (q := 6) hX dX6_canWeigh_72 rfl ?_
        refine gz_iconst (v := 3) hX dX6_canWeigh_74 gk_c_3 ?_
        refine gz_irem hX dX6_canWeigh_75 (by decide) ?_
        refine gz_iconst (v := 2) hX dX6_canWeigh_76 gk_c_2 ?_
        obtain ⟨y12, g13, h⟩ := gz_bd_o h
        have J14 : gW X 8 tw_S tw_R ad V 0 0 102 [(0, .ref (ad (1, 0, 0))), (1, .int v1), (2, .int v2), (3, .int v3), (4, .int v4), (5, .int y12), (6, .int v6), (7, .int v7)] [] := by
          refine gz_iload (q := 6) hX dX6_canWeigh_102 rfl ?_
          refine gz_iconst (v := 3) hX dX6_canWeigh_104 gk_c_3 ?_
          refine gz_idiv hX dX6_canWeigh_105 (by decide) ?_
          obtain ⟨x21, e22, h⟩ := gz_let_o h
          refine gz_nm e22 ?_
          refine gz_istore (lv2 := [(6, .int x21), (0, .ref (ad (1, 0, 0))), (1, .int v1), (2, .int v2), (3, .int v3), (4, .int v4), (5, .int y12), (7, .int v7)]) hX dX6_canWeigh_106 (by decide) rfl ?_
          refine gz_iinc (q := 7) (lv2 := [(7, .int (v7 + 1)), (6, .int x21), (0, .ref (ad (1, 0, 0))), (1, .int v1), (2, .int v2), (3, .int v3), (4, .int v4), (5, .int y12)]) hX dX6_canWeigh_108 rfl gk_c_1 (by decide) rfl ?_
          refine gz_goto (tgt := 43) hX dX6_canWeigh_111 (by decide) ?_
          exact gz_lv [2, 3, 4, 5, 6, 7, 1, 0] rfl (ih h)
        refine gz_icmp_ne (tgt := 102) hX dX6_canWeigh_77 (by decide) (fun c15 => ?_) (fun c15 => ?_)
        · have g13 := gz_ifn c15 g13
          obtain rfl := gz_in1 g13
          exact gz_lv [0, 1, 2, 3, 4, 5, 6, 7] rfl J14
        · have g13 := gz_ifp c15 g13
          refine gz_iload_n (q := 2) hX dX6_canWeigh_80 rfl rfl ?_
          obtain ⟨y16, g17, g13⟩ := gz_bd_o g13
          have J18 : gW X 8 tw_S tw_R ad V 0 0 100 [(0, .ref (ad (1, 0, 0))), (1, .int v1), (2, .int v2), (3, .int v3), (4, .int v4), (6, .int v6), (7, .int v7)] [.int y16] := by
            refine gz_istore (lv2 := [(5, .int y16), (0, .ref (ad (1, 0, 0))), (1, .int v1), (2, .int v2), (3, .int v3), (4, .int v4), (6, .int v6), (7, .int v7)]) hX dX6_canWeigh_100 (by decide) rfl ?_
            obtain rfl := gz_in1 g13
            exact gz_lv [1, 2, 3, 4, 5, 0, 6, 7] rfl J14
          refine gz_if_eq (tgt := 97) hX dX6_canWeigh_81 (by decide) (fun c19 => ?_) (fun c19 => ?_)
          · have g17 := gz_ifp c19 g17
            refine gz_ldcw (v := 100000000) hX q2127 dX6_canWeigh_97 ?_
            obtain rfl := gz_in1 g17
            exact gz_lv [0, 1, 2, 3, 4, 6, 7] rfl J18
          · have g17 := gz_ifn c19 g17
            refine gz_iload (q := 5) hX dX6_canWeigh_84 rfl ?_
            refine gz_aload_n (q := 0) hX dX6_canWeigh_86 rfl rfl ?_
            refine tg_weights hX dX6_canWeigh_87 ?_
            refine gz_iload (q := 7) hX dX6_canWeigh_90 rfl ?_
            obtain ⟨b20, g17⟩ := gz_gd_o g17
            refine gz_iald (L := 5) hX tw_S58 (gz_inb_o b20) dX6_canWeigh_92 ?_
            refine gz_isub hX dX6_canWeigh_93 ?_
            refine gz_goto (tgt := 100) hX dX6_canWeigh_94 (by decide) ?_
            obtain rfl := gz_in1 g17
            exact gz_lv [0, 1, 2, 3, 4, 6, 7] rfl J18
      refine gz_icmp_ne (tgt := 72) hX dX6_canWeigh_57 (by decide) (fun c8 => ?_) (fun c8 => ?_)
      · have g6 := gz_ifn c8 g6
        obtain rfl := gz_in1 g6
        exact gz_lv [0, 1, 2, 3, 4, 5, 6, 7] rfl J7
      · have g6 := gz_ifp c8 g6
        refine gz_iload (q := 5) hX dX6_canWeigh_60 rfl ?_
        refine gz_aload_n (q := 0) hX dX6_canWeigh_62 rfl rfl ?_
        refine tg_weights hX dX6_canWeigh_63 ?_
        refine gz_iload (q := 7) hX dX6_canWeigh_66 rfl ?_
        obtain ⟨b9, g6⟩ := gz_gd_o g6
        refine gz_iald (L := 5) hX tw_S58 (gz_inb_o b9) dX6_canWeigh_68 ?_
        refine gz_iadd hX dX6_canWeigh_69 ?_
        obtain ⟨x10, e11, g6⟩ := gz_let_o g6
        refine gz_nm e11 ?_
        refine gz_istore (lv2 := [(5, .int x10), (0, .ref (ad (1, 0, 0))), (1, .int v1), (2, .int v2), (3, .int v3), (4, .int v4), (6, .int v6), (7, .int v7)]) hX dX6_canWeigh_70 (by decide) rfl ?_
        obtain rfl := gz_in1 g6
        exact gz_lv [1, 2, 3, 4, 5, 0, 6, 7] rfl J7
noncomputable def m_canWeigh_L27 (N : Nat) (V : gz_V) (v1 : Int32) (v2 : Int32) (v3 : Int32) : Nat → Int32 → Option ((Int32) ⊕ (Unit))
  | 0, _ => none
  | n + 1, v4 => (if v3 ≤ v4 then some (.inr ()) else gz_bd (m_canWeigh_L43 N V v1 v2 v3 v4 N 0 v4 0) (fun x4 => (if x4 = v1 then some (.inl 1) else m_canWeigh_L27 N V v1 v2 v3 n (v4 + 1))))
theorem w_m_canWeigh_L27 {X : gz_X} {ad : gz_A0} (hX : gz_ok X cX6_canWeigh RX6 "canWeigh" 8 rm_canWeigh (some .boolean)) (hZ : gz_Z X) {N : Nat} {V : gz_V} {v1 : Int32} {v2 : Int32} {v3 : Int32} {out : (Int32) ⊕ (Unit)} (hout : (∃ (r : Int32), out = .inl r ∧ gx_F X tw_S V tw_R ad (some (.int r))) ∨ (out = .inr () ∧ gW X 8 tw_S tw_R ad V 0 0 128 [] [])) : ∀ (n : Nat) {v4 : Int32}, m_canWeigh_L27 N V v1 v2 v3 n v4 = some out → gW X 8 tw_S tw_R ad V 0 0 27 [(0, .ref (ad (1, 0, 0))), (1, .int v1), (2, .int v2), (3, .int v3), (4, .int v4)] [] := by
  intro n
  induction n with
  | zero => intro v4 h; rw [m_canWeigh_L27] at h; cases h
  | succ n ih =>
    intro v4 h
    rw [m_canWeigh_L27] at h
    refine gz_iload (q := 4) hX dX6_canWeigh_27 rfl ?_
    refine gz_iload_n (q := 3) hX dX6_canWeigh_29 rfl rfl ?_
    refine gz_icmp_ge (tgt := 128) hX dX6_canWeigh_30 (by decide) (fun c3 => ?_) (fun c3 => ?_)
    · have h := gz_ifp c3 h
      obtain rfl := gz_in1 h
      obtain ⟨_, e0, _⟩ | ⟨e0, k⟩ := hout
      · cases e0
      · cases e0
        exact gz_lv [] rfl k
    · have h := gz_ifn c3 h
      refine gz_iconst (v := 0) hX dX6_canWeigh_33 gk_c_0 ?_
      refine gz_istore (lv2 := [(5, .int 0), (0, .ref (ad (1, 0, 0))), (1, .int v1), (2, .int v2), (3, .int v3), (4, .int v4)]) hX dX6_canWeigh_34 (by decide) rfl ?_
      refine gz_iload (q := 5) hX dX6_canWeigh_36 rfl ?_
      refine gz_istore (lv2 := [(6, .int v4), (5, .int 0), (0, .ref (ad (1, 0, 0))), (1, .int v1), (2, .int v2), (3, .int v3), (4, .int v4)]) hX dX6_canWeigh_38 (by decide) rfl ?_
      refine gz_iconst (v := 0) hX dX6_canWeigh_40 gk_c_0 ?_
      refine gz_istore (lv2 := [(7, .int 0), (6, .int v4), (5, .int 0), (0, .ref (ad (1, 0, 0))), (1, .int v1), (2, .int v2), (3, .int v3), (4, .int v4)]) hX dX6_canWeigh_41 (by decide) rfl ?_
      obtain ⟨x4, e5, h⟩ := gz_bd_o h
      refine gz_lv [3, 4, 5, 6, 7, 2, 1, 0] rfl (w_m_canWeigh_L43 hX hZ ?_ N e5)
      refine gz_iload (q := 5) hX dX6_canWeigh_114 rfl ?_
      refine gz_iload_n (q := 1) hX dX6_canWeigh_116 rfl rfl ?_
      refine gz_icmp_ne (tgt := 122) hX dX6_canWeigh_117 (by decide) (fun c6 => ?_) (fun c6 => ?_)
      · have h := gz_ifn c6 h
        refine gz_iinc (q := 4) (lv2 := [(4, .int (v4 + 1)), (0, .ref (ad (1, 0, 0))), (1, .int v1), (2, .int v2), (3, .int v3), (5, .int x4)]) hX dX6_canWeigh_122 rfl gk_c_1 (by decide) rfl ?_
        refine gz_goto (tgt := 27) hX dX6_canWeigh_125 (by decide) ?_
        exact gz_lv [1, 2, 3, 4, 0] rfl (ih h)
      · have h := gz_ifp c6 h
        refine gz_iconst (v := 1) hX dX6_canWeigh_120 gk_c_1 ?_
        obtain rfl := gz_in1 h
        obtain ⟨_, e0, hF⟩ | ⟨e0, _⟩ := hout
        · cases e0
          exact gt_zret hX hZ rfl hF rfl rfl dX6_canWeigh_121
        · cases e0
noncomputable def m_canWeigh (N : Nat) (V : gz_V) (a1 : Int32) (a2 : Int32) : Option Int32 := gz_bd (m_canWeigh_L5 N V a1 a2 N 1 0) (fun x1 => gz_lp (m_canWeigh_L27 N V a1 a2 x1 N 0) some (fun _ => some 0))
theorem c_canWeigh {l : Launch} {D : va_G} {aC : Nat → ClassId} {ad : gz_A0} {N : Nat} {V : gz_V} {a1 : Int32} {a2 : Int32} {r : Int32} (h : m_canWeigh N V a1 a2 = some r) : gz_Met l yX6_canWeigh cX6_canWeigh 8 (some .boolean) rm_canWeigh D aC ad tw_S V tw_R [.ref (ad (1, 0, 0)), .int a1, .int a2] (gz_F1 tw_S tw_R ad V (some (.int r))) 0 0 := by
  refine gt_ofW (own := RX6) (mn := "canWeigh") (lv := [(0, .ref (ad (1, 0, 0))), (1, .int a1), (2, .int a2)]) (by decide) rfl rfl (Nat.le_of_ble_eq_true rfl) rfl ?_
  intro X hX hZ hF
  rw [m_canWeigh] at h
  refine gz_iconst (v := 1) hX dX6_canWeigh_0 gk_c_1 ?_
  refine gz_istore_n (lv2 := [(3, .int 1), (0, .ref (ad (1, 0, 0))), (1, .int a1), (2, .int a2)]) hX dX6_canWeigh_1 rfl (by decide) rfl ?_
  refine gz_iconst (v := 0) hX dX6_canWeigh_2 gk_c_0 ?_
  refine gz_istore (lv2 := [(4, .int 0), (3, .int 1), (0, .ref (ad (1, 0, 0))), (1, .int a1), (2, .int a2)]) hX dX6_canWeigh_3 (by decide) rfl ?_
  obtain ⟨x1, e2, h⟩ := gz_bd_o h
  refine gz_lv [2, 3, 4, 1, 0] rfl (w_m_canWeigh_L5 hX hZ ?_ N e2)
  refine gz_iconst (v := 0) hX dX6_canWeigh_24 gk_c_0 ?_
  refine gz_istore (lv2 := [(4, .int 0), (0, .ref (ad (1, 0, 0))), (1, .int a1), (2, .int a2), (3, .int x1)]) hX dX6_canWeigh_25 (by decide) rfl ?_
  rcases gz_lp_o h with ⟨p4, e3, h⟩ | ⟨_, e3, h⟩
  · obtain rfl := gz_in1 h
    exact gz_lv [1, 2, 3, 4, 0] rfl (w_m_canWeigh_L27 hX hZ (Or.inl ⟨_, rfl, hF⟩) N e3)
  · refine gz_lv [1, 2, 3, 4, 0] rfl (w_m_canWeigh_L27 hX hZ (Or.inr ⟨rfl, ?_⟩) N e3)
    refine gz_iconst (v := 0) hX dX6_canWeigh_128 gk_c_0 ?_
    exact gt_zret hX hZ rfl hF rfl (gz_in1 h) dX6_canWeigh_129
theorem lw_canWeigh_ {i : Nat} (hl : Cond.methodLink RX6 i yX6_canWeigh ∈ lw_all) : GoodIn lw_all (wsV RX6 i RX6 yX6_canWeigh (ws_ yX6_canWeigh cX6_canWeigh 8 (some .boolean))) := lw_V hl q2125 qs132 q153 q2126
theorem nn_canWeigh : yX6_canWeigh.cls = RX6 ∧ yX6_canWeigh.cls ≠ "java/lang/invoke/MethodHandle" ∧ yX6_canWeigh.cls ≠ "java/lang/invoke/VarHandle" ∧ (parseMethodDescriptor yX6_canWeigh.desc).map (fun d => d.parameters.length) = some 2 := by decide +kernel
