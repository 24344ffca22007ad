/-! THE LAW's cases. Printed by wip/D-99505w/gen/mklaw.py -/
set_option maxRecDepth 100000
theorem lw_case_passes {J : gz_S → gz_R → gz_V → Nat → gz_V → Prop} {X : gz_X} {b L N : Nat} {xs : Nat → Int32} {px pm : Nat} {Ds : gz_S} {Df : gz_R} {Vx Vm : gz_V} {c ce sl : Nat} {i : Int32} (hX : lw_ok X b L xs) (htr : (gx_l X).stackTraces = false) (jS : lo_S J) (hop : lo_passes J N) (hJ : J Ds Df Vx c Vm) (hin : ∀ j : Int32, j = 1 ∨ j = 2 ∨ j = 3 ∨ j = 4 ∨ j = 5 → vp_in (i + j) L) (hf : ce + 1000 ≤ 601024 ∧ sl + 24000 ≤ 7293034) (kk : ∀ (Ds2 : gz_S) (Df2 : gz_R) (Vx2 : gz_V) (c2 : Nat) (Vm2 : gz_V), J Ds2 Df2 Vx2 c2 Vm2 → lW X px pm Ds2 Df2 Vx2 Vm2 (ce + 1000) (sl + 24000) 1531 [(3, .int i), (2, .ref pm), (1, .ref px), (0, .ref b)] []) : lW X px pm Ds Df Vx Vm ce sl 704 [(3, .int i), (2, .ref pm), (1, .ref px), (0, .ref b)] [] := by
  obtain ⟨j97, j95, j96, jfr, jz⟩ := jS _ _ _ _ _ hJ
  obtain ⟨Vx2, Vm2, r, e1, e2, hJ2⟩ := hop Ds Df Vx c Vm (xs (i + 1).toNatClampNeg) (xs (i + 2).toNatClampNeg) (xs (i + 3).toNatClampNeg) (xs (i + 4).toNatClampNeg) hJ
  refine ll_aload_n (q := 2) hX dL_law_704 rfl rfl ?_
  refine ll_aload_n (q := 3) hX dL_law_705 rfl rfl ?_
  refine ll_iload_n (q := 0) hX dL_law_706 rfl rfl ?_
  refine ll_iconst (v := 1) hX dL_law_707 gl_c_1 ?_
  refine ll_iadd hX dL_law_708 ?_
  refine ll_sld hX (hin 1 (by decide)) dL_law_709 ?_
  refine ll_aload_n (q := 3) hX dL_law_710 rfl rfl ?_
  refine ll_iload_n (q := 0) hX dL_law_711 rfl rfl ?_
  refine ll_iconst (v := 2) hX dL_law_712 gl_c_2 ?_
  refine ll_iadd hX dL_law_713 ?_
  refine ll_sld hX (hin 2 (by decide)) dL_law_714 ?_
  refine ll_aload_n (q := 3) hX dL_law_715 rfl rfl ?_
  refine ll_iload_n (q := 0) hX dL_law_716 rfl rfl ?_
  refine ll_iconst (v := 3) hX dL_law_717 gl_c_3 ?_
  refine ll_iadd hX dL_law_718 ?_
  refine ll_sld hX (hin 3 (by decide)) dL_law_719 ?_
  refine ll_aload_n (q := 3) hX dL_law_720 rfl rfl ?_
  refine ll_iload_n (q := 0) hX dL_law_721 rfl rfl ?_
  refine ll_iconst (v := 4) hX dL_law_722 gl_c_4 ?_
  refine ll_iadd hX dL_law_723 ?_
  refine ll_sld hX (hin 4 (by decide)) dL_law_724 ?_
  refine ll_callX (mc := 0) (ms := 0) (As := [.int (xs (i + 1).toNatClampNeg), .int (xs (i + 2).toNatClampNeg), .int (xs (i + 3).toNatClampNeg), .int (xs (i + 4).toNatClampNeg)]) hX (fun ad => c_x0_passes e1) (lw_x0_passes_ q1261) rfl rfl nn_x0_passes ⟨Nat.le_of_ble_eq_true rfl, Nat.le_of_ble_eq_true rfl⟩ ⟨by omega, by omega⟩ rfl rfl (Nat.le_of_ble_eq_true rfl) dL_law_725 ?_
  refine ll_aload_n (q := 1) hX dL_law_728 rfl rfl ?_
  refine ll_aload_n (q := 3) hX dL_law_729 rfl rfl ?_
  refine ll_iload_n (q := 0) hX dL_law_730 rfl rfl ?_
  refine ll_iconst (v := 1) hX dL_law_731 gl_c_1 ?_
  refine ll_iadd hX dL_law_732 ?_
  refine ll_sld hX (hin 1 (by decide)) dL_law_733 ?_
  refine ll_aload_n (q := 3) hX dL_law_734 rfl rfl ?_
  refine ll_iload_n (q := 0) hX dL_law_735 rfl rfl ?_
  refine ll_iconst (v := 2) hX dL_law_736 gl_c_2 ?_
  refine ll_iadd hX dL_law_737 ?_
  refine ll_sld hX (hin 2 (by decide)) dL_law_738 ?_
  refine ll_aload_n (q := 3) hX dL_law_739 rfl rfl ?_
  refine ll_iload_n (q := 0) hX dL_law_740 rfl rfl ?_
  refine ll_iconst (v := 3) hX dL_law_741 gl_c_3 ?_
  refine ll_iadd hX dL_law_742 ?_
  refine ll_sld hX (hin 3 (by decide)) dL_law_743 ?_
  refine ll_aload_n (q := 3) hX dL_law_744 rfl rfl ?_
  refine ll_iload_n (q := 0) hX dL_law_745 rfl rfl ?_
  refine ll_iconst (v := 4) hX dL_law_746 gl_c_4 ?_
  refine ll_iadd hX dL_law_747 ?_
  refine ll_sld hX (hin 4 (by decide)) dL_law_748 ?_
  refine ll_callM (As := [.int (xs (i + 1).toNatClampNeg), .int (xs (i + 2).toNatClampNeg), .int (xs (i + 3).toNatClampNeg), .int (xs (i + 4).toNatClampNeg)]) hX (jS _ _ _ _ _ hJ2).2.2.2.2 (fun ad => c_passes e2) (lw_V q2002 q2003 q2004 q153 q2005) rfl rfl nn_passes ⟨Nat.le_of_ble_eq_true rfl, Nat.le_of_ble_eq_true rfl⟩ ⟨by omega, by omega⟩ rfl rfl (Nat.le_of_ble_eq_true rfl) dL_law_749 ?_
  refine ll_icmp_eqT (tgt := 1531) hX dL_law_752 (by decide) ?_
  exact ll_widen (by omega) (by omega) (kk Ds Df Vx2 c Vm2 hJ2)
theorem lw_case_holds {J : gz_S → gz_R → gz_V → Nat → gz_V → Prop} {X : gz_X} {b L N : Nat} {xs : Nat → Int32} {px pm : Nat} {Ds : gz_S} {Df : gz_R} {Vx Vm : gz_V} {c ce sl : Nat} {i : Int32} (hX : lw_ok X b L xs) (htr : (gx_l X).stackTraces = false) (jS : lo_S J) (hop : lo_holds J N) (hJ : J Ds Df Vx c Vm) (hin : ∀ j : Int32, j = 1 ∨ j = 2 ∨ j = 3 ∨ j = 4 ∨ j = 5 → vp_in (i + j) L) (hf : ce + 1000 ≤ 601024 ∧ sl + 24000 ≤ 7293034) (kk : ∀ (Ds2 : gz_S) (Df2 : gz_R) (Vx2 : gz_V) (c2 : Nat) (Vm2 : gz_V), J Ds2 Df2 Vx2 c2 Vm2 → lW X px pm Ds2 Df2 Vx2 Vm2 (ce + 1000) (sl + 24000) 1531 [(3, .int i), (2, .ref pm), (1, .ref px), (0, .ref b)] []) : lW X px pm Ds Df Vx Vm ce sl 757 [(3, .int i), (2, .ref pm), (1, .ref px), (0, .ref b)] [] := by
  obtain ⟨j97, j95, j96, jfr, jz⟩ := jS _ _ _ _ _ hJ
  obtain ⟨Vx2, Vm2, r, e1, e2, hJ2⟩ := hop Ds Df Vx c Vm (xs (i + 1).toNatClampNeg) (xs (i + 2).toNatClampNeg) (xs (i + 3).toNatClampNeg) hJ
  refine ll_aload_n (q := 2) hX dL_law_757 rfl rfl ?_
  refine ll_aload_n (q := 3) hX dL_law_758 rfl rfl ?_
  refine ll_iload_n (q := 0) hX dL_law_759 rfl rfl ?_
  refine ll_iconst (v := 1) hX dL_law_760 gl_c_1 ?_
  refine ll_iadd hX dL_law_761 ?_
  refine ll_sld hX (hin 1 (by decide)) dL_law_762 ?_
  refine ll_aload_n (q := 3) hX dL_law_763 rfl rfl ?_
  refine ll_iload_n (q := 0) hX dL_law_764 rfl rfl ?_
  refine ll_iconst (v := 2) hX dL_law_765 gl_c_2 ?_
  refine ll_iadd hX dL_law_766 ?_
  refine ll_sld hX (hin 2 (by decide)) dL_law_767 ?_
  refine ll_aload_n (q := 3) hX dL_law_768 rfl rfl ?_
  refine ll_iload_n (q := 0) hX dL_law_769 rfl rfl ?_
  refine ll_iconst (v := 3) hX dL_law_770 gl_c_3 ?_
  refine ll_iadd hX dL_law_771 ?_
  refine ll_sld hX (hin 3 (by decide)) dL_law_772 ?_
  refine ll_callX (mc := 0) (ms := 0) (As := [.int (xs (i + 1).toNatClampNeg), .int (xs (i + 2).toNatClampNeg), .int (xs (i + 3).toNatClampNeg)]) hX (fun ad => c_x0_holds e1) (lw_x0_holds_ q1271) rfl rfl nn_x0_holds ⟨Nat.le_of_ble_eq_true rfl, Nat.le_of_ble_eq_true rfl⟩ ⟨by omega, by omega⟩ rfl rfl (Nat.le_of_ble_eq_true rfl) dL_law_773 ?_
  refine ll_aload_n (q := 1) hX dL_law_776 rfl rfl ?_
  refine ll_aload_n (q := 3) hX dL_law_777 rfl rfl ?_
  refine ll_iload_n (q := 0) hX dL_law_778 rfl rfl ?_
  refine ll_iconst (v := 1) hX dL_law_779 gl_c_1 ?_
  refine ll_iadd hX dL_law_780 ?_
  refine ll_sld hX (hin 1 (by decide)) dL_law_781 ?_
  refine ll_aload_n (q := 3) hX dL_law_782 rfl rfl ?_
  refine ll_iload_n (q := 0) hX dL_law_783 rfl rfl ?_
  refine ll_iconst (v := 2) hX dL_law_784 gl_c_2 ?_
  refine ll_iadd hX dL_law_785 ?_
  refine ll_sld hX (hin 2 (by decide)) dL_law_786 ?_
  refine ll_aload_n (q := 3) hX dL_law_787 rfl rfl ?_
  refine ll_iload_n (q := 0) hX dL_law_788 rfl rfl ?_
  refine ll_iconst (v := 3) hX dL_law_789 gl_c_3 ?_
  refine ll_iadd hX dL_law_790 ?_
  refine ll_sld hX (hin 3 (by decide)) dL_law_791 ?_
  refine ll_callM (As := [.int (xs (i + 1).toNatClampNeg), .int (xs (i + 2).toNatClampNeg), .int (xs (i + 3).toNatClampNeg)]) hX (jS _ _ _ _ _ hJ2).2.2.2.2 (fun ad => c_holds e2) (lw_V q2010 q2011 q2012 q153 q2013) rfl rfl nn_holds ⟨Nat.le_of_ble_eq_true rfl, Nat.le_of_ble_eq_true rfl⟩ ⟨by omega, by omega⟩ rfl rfl (Nat.le_of_ble_eq_true rfl) dL_law_792 ?_
  refine ll_icmp_eqT (tgt := 1531) hX dL_law_795 (by decide) ?_
  exact ll_widen (by omega) (by omega) (kk Ds Df Vx2 c Vm2 hJ2)
theorem lw_case_asks {J : gz_S → gz_R → gz_V → Nat → gz_V → Prop} {X : gz_X} {b L N : Nat} {xs : Nat → Int32} {px pm : Nat} {Ds : gz_S} {Df : gz_R} {Vx Vm : gz_V} {c ce sl : Nat} {i : Int32} (hX : lw_ok X b L xs) (htr : (gx_l X).stackTraces = false) (jS : lo_S J) (hop : lo_asks J N) (hJ : J Ds Df Vx c Vm) (hin : ∀ j : Int32, j = 1 ∨ j = 2 ∨ j = 3 ∨ j = 4 ∨ j = 5 → vp_in (i + j) L) (hf : ce + 1000 ≤ 601024 ∧ sl + 24000 ≤ 7293034) (kk : ∀ (Ds2 : gz_S) (Df2 : gz_R) (Vx2 : gz_V) (c2 : Nat) (Vm2 : gz_V), J Ds2 Df2 Vx2 c2 Vm2 → lW X px pm Ds2 Df2 Vx2 Vm2 (ce + 1000) (sl + 24000) 1531 [(3, .int i), (2, .ref pm), (1, .ref px), (0, .ref b)] []) : lW X px pm Ds Df Vx Vm ce sl 800 [(3, .int i), (2, .ref pm), (1, .ref px), (0, .ref b)] [] := by
  obtain ⟨j97, j95, j96, jfr, jz⟩ := jS _ _ _ _ _ hJ
  obtain ⟨Vx2, Vm2, r, e1, e2, hJ2⟩ := hop Ds Df Vx c Vm (xs (i + 1).toNatClampNeg) (xs (i + 2).toNatClampNeg) (xs (i + 3).toNatClampNeg) hJ
  refine ll_aload_n (q := 2) hX dL_law_800 rfl rfl ?_
  refine ll_aload_n (q := 3) hX dL_law_801 rfl rfl ?_
  refine ll_iload_n (q := 0) hX dL_law_802 rfl rfl ?_
  refine ll_iconst (v := 1) hX dL_law_803 gl_c_1 ?_
  refine ll_iadd hX dL_law_804 ?_
  refine ll_sld hX (hin 1 (by decide)) dL_law_805 ?_
  refine ll_aload_n (q := 3) hX dL_law_806 rfl rfl ?_
  refine ll_iload_n (q := 0) hX dL_law_807 rfl rfl ?_
  refine ll_iconst (v := 2) hX dL_law_808 gl_c_2 ?_
  refine ll_iadd hX dL_law_809 ?_
  refine ll_sld hX (hin 2 (by decide)) dL_law_810 ?_
  refine ll_aload_n (q := 3) hX dL_law_811 rfl rfl ?_
  refine ll_iload_n (q := 0) hX dL_law_812 rfl rfl ?_
  refine ll_iconst (v := 3) hX dL_law_813 gl_c_3 ?_
  refine ll_iadd hX dL_law_814 ?_
  refine ll_sld hX (hin 3 (by decide)) dL_law_815 ?_
  refine ll_callX (mc := 0) (ms := 0) (As := [.int (xs (i + 1).toNatClampNeg), .int (xs (i + 2).toNatClampNeg), .int (xs (i + 3).toNatClampNeg)]) hX (fun ad => c_x0_asks e1) (lw_x0_asks_ q1276) rfl rfl nn_x0_asks ⟨Nat.le_of_ble_eq_true rfl, Nat.le_of_ble_eq_true rfl⟩ ⟨by omega, by omega⟩ rfl rfl (Nat.le_of_ble_eq_true rfl) dL_law_816 ?_
  refine ll_aload_n (q := 1) hX dL_law_819 rfl rfl ?_
  refine ll_aload_n (q := 3) hX dL_law_820 rfl rfl ?_
  refine ll_iload_n (q := 0) hX dL_law_821 rfl rfl ?_
  refine ll_iconst (v := 1) hX dL_law_822 gl_c_1 ?_
  refine ll_iadd hX dL_law_823 ?_
  refine ll_sld hX (hin 1 (by decide)) dL_law_824 ?_
  refine ll_aload_n (q := 3) hX dL_law_825 rfl rfl ?_
  refine ll_iload_n (q := 0) hX dL_law_826 rfl rfl ?_
  refine ll_iconst (v := 2) hX dL_law_827 gl_c_2 ?_
  refine ll_iadd hX dL_law_828 ?_
  refine ll_sld hX (hin 2 (by decide)) dL_law_829 ?_
  refine ll_aload_n (q := 3) hX dL_law_830 rfl rfl ?_
  refine ll_iload_n (q := 0) hX dL_law_831 rfl rfl ?_
  refine ll_iconst (v := 3) hX dL_law_832 gl_c_3 ?_
  refine ll_iadd hX dL_law_833 ?_
  refine ll_sld hX (hin 3 (by decide)) dL_law_834 ?_
  refine ll_callM (As := [.int (xs (i + 1).toNatClampNeg), .int (xs (i + 2).toNatClampNeg), .int (xs (i + 3).toNatClampNeg)]) hX (jS _ _ _ _ _ hJ2).2.2.2.2 (fun ad => c_asks e2) (lw_V q2014 q2015 q2016 q153 q2017) rfl rfl nn_asks ⟨Nat.le_of_ble_eq_true rfl, Nat.le_of_ble_eq_true rfl⟩ ⟨by omega, by omega⟩ rfl rfl (Nat.le_of_ble_eq_true rfl) dL_law_835 ?_
  refine ll_icmp_eqT (tgt := 1531) hX dL_law_838 (by decide) ?_
  exact ll_widen (by omega) (by omega) (kk Ds Df Vx2 c Vm2 hJ2)
theorem lw_case_book {J : gz_S → gz_R → gz_V → Nat → gz_V → Prop} {X : gz_X} {b L N : Nat} {xs : Nat → Int32} {px pm : Nat} {Ds : gz_S} {Df : gz_R} {Vx Vm : gz_V} {c ce sl : Nat} {i : Int32} (hX : lw_ok X b L xs) (htr : (gx_l X).stackTraces = false) (jS : lo_S J) (hop : lo_book J N) (hJ : J Ds Df Vx c Vm) (hin : ∀ j : Int32, j = 1 ∨ j = 2 ∨ j = 3 ∨ j = 4 ∨ j = 5 → vp_in (i + j) L) (hf : ce + 1000 ≤ 601024 ∧ sl + 24000 ≤ 7293034) (kk : ∀ (Ds2 : gz_S) (Df2 : gz_R) (Vx2 : gz_V) (c2 : Nat) (Vm2 : gz_V), J Ds2 Df2 Vx2 c2 Vm2 → lW X px pm Ds2 Df2 Vx2 Vm2 (ce + 1000) (sl + 24000) 1531 [(3, .int i), (2, .ref pm), (1, .ref px), (0, .ref b)] []) : lW X px pm Ds Df Vx Vm ce sl 843 [(3, .int i), (2, .ref pm), (1, .ref px), (0, .ref b)] [] := by
  obtain ⟨j97, j95, j96, jfr, jz⟩ := jS _ _ _ _ _ hJ
  obtain ⟨Vm2, r, e1, e2, hJ2⟩ := hop Ds Df Vx c Vm (xs (i + 1).toNatClampNeg) (xs (i + 2).toNatClampNeg) hJ
  refine ll_aload_n (q := 2) hX dL_law_843 rfl rfl ?_
  refine ll_aload_n (q := 3) hX dL_law_844 rfl rfl ?_
  refine ll_iload_n (q := 0) hX dL_law_845 rfl rfl ?_
  refine ll_iconst (v := 1) hX dL_law_846 gl_c_1 ?_
  refine ll_iadd hX dL_law_847 ?_
  refine ll_sld hX (hin 1 (by decide)) dL_law_848 ?_
  refine ll_aload_n (q := 3) hX dL_law_849 rfl rfl ?_
  refine ll_iload_n (q := 0) hX dL_law_850 rfl rfl ?_
  refine ll_iconst (v := 2) hX dL_law_851 gl_c_2 ?_
  refine ll_iadd hX dL_law_852 ?_
  refine ll_sld hX (hin 2 (by decide)) dL_law_853 ?_
  refine ll_callX (mc := 0) (ms := 0) (As := [.int (xs (i + 1).toNatClampNeg), .int (xs (i + 2).toNatClampNeg)]) hX (fun ad => c_x0_book e1) (lw_x0_book_ q1281) rfl rfl nn_x0_book ⟨Nat.le_of_ble_eq_true rfl, Nat.le_of_ble_eq_true rfl⟩ ⟨by omega, by omega⟩ rfl rfl (Nat.le_of_ble_eq_true rfl) dL_law_854 ?_
  refine ll_aload_n (q := 1) hX dL_law_857 rfl rfl ?_
  refine ll_aload_n (q := 3) hX dL_law_858 rfl rfl ?_
  refine ll_iload_n (q := 0) hX dL_law_859 rfl rfl ?_
  refine ll_iconst (v := 1) hX dL_law_860 gl_c_1 ?_
  refine ll_iadd hX dL_law_861 ?_
  refine ll_sld hX (hin 1 (by decide)) dL_law_862 ?_
  refine ll_aload_n (q := 3) hX dL_law_863 rfl rfl ?_
  refine ll_iload_n (q := 0) hX dL_law_864 rfl rfl ?_
  refine ll_iconst (v := 2) hX dL_law_865 gl_c_2 ?_
  refine ll_iadd hX dL_law_866 ?_
  refine ll_sld hX (hin 2 (by decide)) dL_law_867 ?_
  refine ll_callM (As := [.int (xs (i + 1).toNatClampNeg), .int (xs (i + 2).toNatClampNeg)]) hX (jS _ _ _ _ _ hJ2).2.2.2.2 (fun ad => c_book e2) (lw_V q2018 q2019 q2020 q153 q2021) rfl rfl nn_book ⟨Nat.le_of_ble_eq_true rfl, Nat.le_of_ble_eq_true rfl⟩ ⟨by omega, by omega⟩ rfl rfl (Nat.le_of_ble_eq_true rfl) dL_law_868 ?_
  refine ll_icmp_eqT (tgt := 1531) hX dL_law_871 (by decide) ?_
  exact ll_widen (by omega) (by omega) (kk Ds Df Vx c Vm2 hJ2)
theorem lw_case_goes {J : gz_S → gz_R → gz_V → Nat → gz_V → Prop} {X : gz_X} {b L N : Nat} {xs : Nat → Int32} {px pm : Nat} {Ds : gz_S} {Df : gz_R} {Vx Vm : gz_V} {c ce sl : Nat} {i : Int32} (hX : lw_ok X b L xs) (htr : (gx_l X).stackTraces = false) (jS : lo_S J) (hop : lo_goes J N) (hJ : J Ds Df Vx c Vm) (hin : ∀ j : Int32, j = 1 ∨ j = 2 ∨ j = 3 ∨ j = 4 ∨ j = 5 → vp_in (i + j) L) (hf : ce + 1000 ≤ 601024 ∧ sl + 24000 ≤ 7293034) (kk : ∀ (Ds2 : gz_S) (Df2 : gz_R) (Vx2 : gz_V) (c2 : Nat) (Vm2 : gz_V), J Ds2 Df2 Vx2 c2 Vm2 → lW X px pm Ds2 Df2 Vx2 Vm2 (ce + 1000) (sl + 24000) 1531 [(3, .int i), (2, .ref pm), (1, .ref px), (0, .ref b)] []) : lW X px pm Ds Df Vx Vm ce sl 876 [(3, .int i), (2, .ref pm), (1, .ref px), (0, .ref b)] [] := by
  obtain ⟨j97, j95, j96, jfr, jz⟩ := jS _ _ _ _ _ hJ
  obtain ⟨Vx2, Df2, Vm2, r, e1, e2, hJ2⟩ := hop Ds Df Vx c Vm (xs (i + 1).toNatClampNeg) (xs (i + 2).toNatClampNeg) hJ
  refine ll_aload_n (q := 2) hX dL_law_876 rfl rfl ?_
  refine ll_aload_n (q := 3) hX dL_law_877 rfl rfl ?_
  refine ll_iload_n (q := 0) hX dL_law_878 rfl rfl ?_
  refine ll_iconst (v := 1) hX dL_law_879 gl_c_1 ?_
  refine ll_iadd hX dL_law_880 ?_
  refine ll_sld hX (hin 1 (by decide)) dL_law_881 ?_
  refine ll_aload_n (q := 3) hX dL_law_882 rfl rfl ?_
  refine ll_iload_n (q := 0) hX dL_law_883 rfl rfl ?_
  refine ll_iconst (v := 2) hX dL_law_884 gl_c_2 ?_
  refine ll_iadd hX dL_law_885 ?_
  refine ll_sld hX (hin 2 (by decide)) dL_law_886 ?_
  refine ll_callX (mc := 0) (ms := 0) (As := [.int (xs (i + 1).toNatClampNeg), .int (xs (i + 2).toNatClampNeg)]) hX (fun ad => c_x0_goes e1) (lw_x0_goes_ q1285) rfl rfl nn_x0_goes ⟨Nat.le_of_ble_eq_true rfl, Nat.le_of_ble_eq_true rfl⟩ ⟨by omega, by omega⟩ rfl rfl (Nat.le_of_ble_eq_true rfl) dL_law_887 ?_
  refine ll_aload_n (q := 1) hX dL_law_890 rfl rfl ?_
  refine ll_aload_n (q := 3) hX dL_law_891 rfl rfl ?_
  refine ll_iload_n (q := 0) hX dL_law_892 rfl rfl ?_
  refine ll_iconst (v := 1) hX dL_law_893 gl_c_1 ?_
  refine ll_iadd hX dL_law_894 ?_
  refine ll_sld hX (hin 1 (by decide)) dL_law_895 ?_
  refine ll_aload_n (q := 3) hX dL_law_896 rfl rfl ?_
  refine ll_iload_n (q := 0) hX dL_law_897 rfl rfl ?_
  refine ll_iconst (v := 2) hX dL_law_898 gl_c_2 ?_
  refine ll_iadd hX dL_law_899 ?_
  refine ll_sld hX (hin 2 (by decide)) dL_law_900 ?_
  refine ll_callM (As := [.int (xs (i + 1).toNatClampNeg), .int (xs (i + 2).toNatClampNeg)]) hX (jS _ _ _ _ _ hJ2).2.2.2.2 (fun ad => c_goes e2) (lw_V q2022 q2023 q2024 q153 q2025) rfl rfl nn_goes ⟨Nat.le_of_ble_eq_true rfl, Nat.le_of_ble_eq_true rfl⟩ ⟨by omega, by omega⟩ rfl rfl (Nat.le_of_ble_eq_true rfl) dL_law_901 ?_
  refine ll_icmp_eqT (tgt := 1531) hX dL_law_904 (by decide) ?_
  exact ll_widen (by omega) (by omega) (kk Ds Df2 Vx2 c Vm2 hJ2)
theorem lw_case_would {J : gz_S → gz_R → gz_V → Nat → gz_V → Prop} {X : gz_X} {b L N : Nat} {xs : Nat → Int32} {px pm : Nat} {Ds : gz_S} {Df : gz_R} {Vx Vm : gz_V} {c ce sl : Nat} {i : Int32} (hX : lw_ok X b L xs) (htr : (gx_l X).stackTraces = false) (jS : lo_S J) (hop : lo_would J N) (hJ : J Ds Df Vx c Vm) (hin : ∀ j : Int32, j = 1 ∨ j = 2 ∨ j = 3 ∨ j = 4 ∨ j = 5 → vp_in (i + j) L) (hf : ce + 1000 ≤ 601024 ∧ sl + 24000 ≤ 7293034) (kk : ∀ (Ds2 : gz_S) (Df2 : gz_R) (Vx2 : gz_V) (c2 : Nat) (Vm2 : gz_V), J Ds2 Df2 Vx2 c2 Vm2 → lW X px pm Ds2 Df2 Vx2 Vm2 (ce + 1000) (sl + 24000) 1531 [(3, .int i), (2, .ref pm), (1, .ref px), (0, .ref b)] []) : lW X px pm Ds Df Vx Vm ce sl 909 [(3, .int i), (2, .ref pm), (1, .ref px), (0, .ref b)] [] := by
  obtain ⟨j97, j95, j96, jfr, jz⟩ := jS _ _ _ _ _ hJ
  obtain ⟨Vx2, Df2, Vm2, r, e1, e2, hJ2⟩ := hop Ds Df Vx c Vm (xs (i + 1).toNatClampNeg) (xs (i + 2).toNatClampNeg) (xs (i + 3).toNatClampNeg) (xs (i + 4).toNatClampNeg) hJ
  refine ll_aload_n (q := 2) hX dL_law_909 rfl rfl ?_
  refine ll_aload_n (q := 3) hX dL_law_910 rfl rfl ?_
  refine ll_iload_n (q := 0) hX dL_law_911 rfl rfl ?_
  refine ll_iconst (v := 1) hX dL_law_912 gl_c_1 ?_
  refine ll_iadd hX dL_law_913 ?_
  refine ll_sld hX (hin 1 (by decide)) dL_law_914 ?_
  refine ll_aload_n (q := 3) hX dL_law_915 rfl rfl ?_
  refine ll_iload_n (q := 0) hX dL_law_916 rfl rfl ?_
  refine ll_iconst (v := 2) hX dL_law_917 gl_c_2 ?_
  refine ll_iadd hX dL_law_918 ?_
  refine ll_sld hX (hin 2 (by decide)) dL_law_919 ?_
  refine ll_aload_n (q := 3) hX dL_law_920 rfl rfl ?_
  refine ll_iload_n (q := 0) hX dL_law_921 rfl rfl ?_
  refine ll_iconst (v := 3) hX dL_law_922 gl_c_3 ?_
  refine ll_iadd hX dL_law_923 ?_
  refine ll_sld hX (hin 3 (by decide)) dL_law_924 ?_
  refine ll_aload_n (q := 3) hX dL_law_925 rfl rfl ?_
  refine ll_iload_n (q := 0) hX dL_law_926 rfl rfl ?_
  refine ll_iconst (v := 4) hX dL_law_927 gl_c_4 ?_
  refine ll_iadd hX dL_law_928 ?_
  refine ll_sld hX (hin 4 (by decide)) dL_law_929 ?_
  refine ll_callX (mc := 0) (ms := 0) (As := [.int (xs (i + 1).toNatClampNeg), .int (xs (i + 2).toNatClampNeg), .int (xs (i + 3).toNatClampNeg), .int (xs (i + 4).toNatClampNeg)]) hX (fun ad => c_x0_would e1) (lw_x0_would_ q1294) rfl rfl nn_x0_would ⟨Nat.le_of_ble_eq_true rfl, Nat.le_of_ble_eq_true rfl⟩ ⟨by omega, by omega⟩ rfl rfl (Nat.le_of_ble_eq_true rfl) dL_law_930 ?_
  refine ll_aload_n (q := 1) hX dL_law_933 rfl rfl ?_
  refine ll_aload_n (q := 3) hX dL_law_934 rfl rfl ?_
  refine ll_iload_n (q := 0) hX dL_law_935 rfl rfl ?_
  refine ll_iconst (v := 1) hX dL_law_936 gl_c_1 ?_
  refine ll_iadd hX dL_law_937 ?_
  refine ll_sld hX (hin 1 (by decide)) dL_law_938 ?_
  refine ll_aload_n (q := 3) hX dL_law_939 rfl rfl ?_
  refine ll_iload_n (q := 0) hX dL_law_940 rfl rfl ?_
  refine ll_iconst (v := 2) hX dL_law_941 gl_c_2 ?_
  refine ll_iadd hX dL_law_942 ?_
  refine ll_sld hX (hin 2 (by decide)) dL_law_943 ?_
  refine ll_aload_n (q := 3) hX dL_law_944 rfl rfl ?_
  refine ll_iload_n (q := 0) hX dL_law_945 rfl rfl ?_
  refine ll_iconst (v := 3) hX dL_law_946 gl_c_3 ?_
  refine ll_iadd hX dL_law_947 ?_
  refine ll_sld hX (hin 3 (by decide)) dL_law_948 ?_
  refine ll_aload_n (q := 3) hX dL_law_949 rfl rfl ?_
  refine ll_iload_n (q := 0) hX dL_law_950 rfl rfl ?_
  refine ll_iconst (v := 4) hX dL_law_951 gl_c_4 ?_
  refine ll_iadd hX dL_law_952 ?_
  refine ll_sld hX (hin 4 (by decide)) dL_law_953 ?_
  refine ll_callM (As := [.int (xs (i + 1).toNatClampNeg), .int (xs (i + 2).toNatClampNeg), .int (xs (i + 3).toNatClampNeg), .int (xs (i + 4).toNatClampNeg)]) hX (jS _ _ _ _ _ hJ2).2.2.2.2 (fun ad => c_would e2) (lw_V q2038 q2039 q2040 q153 q2041) rfl rfl nn_would ⟨Nat.le_of_ble_eq_true rfl, Nat.le_of_ble_eq_true rfl⟩ ⟨by omega, by omega⟩ rfl rfl (Nat.le_of_ble_eq_true rfl) dL_law_954 ?_
  refine ll_icmp_eqT (tgt := 1531) hX dL_law_957 (by decide) ?_
  exact ll_widen (by omega) (by omega) (kk Ds Df2 Vx2 c Vm2 hJ2)
theorem lw_case_told {J : gz_S → gz_R → gz_V → Nat → gz_V → Prop} {X : gz_X} {b L N : Nat} {xs : Nat → Int32} {px pm : Nat} {Ds : gz_S} {Df : gz_R} {Vx Vm : gz_V} {c ce sl : Nat} {i : Int32} (hX : lw_ok X b L xs) (htr : (gx_l X).stackTraces = false) (jS : lo_S J) (hop : lo_told J N) (hJ : J Ds Df Vx c Vm) (hin : ∀ j : Int32, j = 1 ∨ j = 2 ∨ j = 3 ∨ j = 4 ∨ j = 5 → vp_in (i + j) L) (hf : ce + 1000 ≤ 601024 ∧ sl + 24000 ≤ 7293034) (kk : ∀ (Ds2 : gz_S) (Df2 : gz_R) (Vx2 : gz_V) (c2 : Nat) (Vm2 : gz_V), J Ds2 Df2 Vx2 c2 Vm2 → lW X px pm Ds2 Df2 Vx2 Vm2 (ce + 1000) (sl + 24000) 1531 [(3, .int i), (2, .ref pm), (1, .ref px), (0, .ref b)] []) : lW X px pm Ds Df Vx Vm ce sl 962 [(3, .int i), (2, .ref pm), (1, .ref px), (0, .ref b)] [] := by
  obtain ⟨j97, j95, j96, jfr, jz⟩ := jS _ _ _ _ _ hJ
  obtain ⟨Vx2, Vm2, r, e1, e2, hJ2⟩ := hop Ds Df Vx c Vm (xs (i + 1).toNatClampNeg) (xs (i + 2).toNatClampNeg) hJ
  refine ll_aload_n (q := 2) hX dL_law_962 rfl rfl ?_
  refine ll_aload_n (q := 3) hX dL_law_963 rfl rfl ?_
  refine ll_iload_n (q := 0) hX dL_law_964 rfl rfl ?_
  refine ll_iconst (v := 1) hX dL_law_965 gl_c_1 ?_
  refine ll_iadd hX dL_law_966 ?_
  refine ll_sld hX (hin 1 (by decide)) dL_law_967 ?_
  refine ll_aload_n (q := 3) hX dL_law_968 rfl rfl ?_
  refine ll_iload_n (q := 0) hX dL_law_969 rfl rfl ?_
  refine ll_iconst (v := 2) hX dL_law_970 gl_c_2 ?_
  refine ll_iadd hX dL_law_971 ?_
  refine ll_sld hX (hin 2 (by decide)) dL_law_972 ?_
  refine ll_callX (mc := 0) (ms := 0) (As := [.int (xs (i + 1).toNatClampNeg), .int (xs (i + 2).toNatClampNeg)]) hX (fun ad => c_x0_told e1) (lw_x0_told_ q1298) rfl rfl nn_x0_told ⟨Nat.le_of_ble_eq_true rfl, Nat.le_of_ble_eq_true rfl⟩ ⟨by omega, by omega⟩ rfl rfl (Nat.le_of_ble_eq_true rfl) dL_law_973 ?_
  refine ll_aload_n (q := 1) hX dL_law_976 rfl rfl ?_
  refine ll_aload_n (q := 3) hX dL_law_977 rfl rfl ?_
  refine ll_iload_n (q := 0) hX dL_law_978 rfl rfl ?_
  refine ll_iconst (v := 1) hX dL_law_979 gl_c_1 ?_
  refine ll_iadd hX dL_law_980 ?_
  refine ll_sld hX (hin 1 (by decide)) dL_law_981 ?_
  refine ll_aload_n (q := 3) hX dL_law_982 rfl rfl ?_
  refine ll_iload_n (q := 0) hX dL_law_983 rfl rfl ?_
  refine ll_iconst (v := 2) hX dL_law_984 gl_c_2 ?_
  refine ll_iadd hX dL_law_985 ?_
  refine ll_sld hX (hin 2 (by decide)) dL_law_986 ?_
  refine ll_callM (As := [.int (xs (i + 1).toNatClampNeg), .int (xs (i + 2).toNatClampNeg)]) hX (jS _ _ _ _ _ hJ2).2.2.2.2 (fun ad => c_told e2) (lw_V q2042 q2043 q2044 q153 q2045) rfl rfl nn_told ⟨Nat.le_of_ble_eq_true rfl, Nat.le_of_ble_eq_true rfl⟩ ⟨by omega, by omega⟩ rfl rfl (Nat.le_of_ble_eq_true rfl) dL_law_987 ?_
  refine ll_icmp_eqT (tgt := 1531) hX dL_law_990 (by decide) ?_
  exact ll_widen (by omega) (by omega) (kk Ds Df Vx2 c Vm2 hJ2)
theorem lw_case_came {J : gz_S → gz_R → gz_V → Nat → gz_V → Prop} {X : gz_X} {b L N : Nat} {xs : Nat → Int32} {px pm : Nat} {Ds : gz_S} {Df : gz_R} {Vx Vm : gz_V} {c ce sl : Nat} {i : Int32} (hX : lw_ok X b L xs) (htr : (gx_l X).stackTraces = false) (jS : lo_S J) (hop : lo_came J N) (hJ : J Ds Df Vx c Vm) (hin : ∀ j : Int32, j = 1 ∨ j = 2 ∨ j = 3 ∨ j = 4 ∨ j = 5 → vp_in (i + j) L) (hf : ce + 1000 ≤ 601024 ∧ sl + 24000 ≤ 7293034) (kk : ∀ (Ds2 : gz_S) (Df2 : gz_R) (Vx2 : gz_V) (c2 : Nat) (Vm2 : gz_V), J Ds2 Df2 Vx2 c2 Vm2 → lW X px pm Ds2 Df2 Vx2 Vm2 (ce + 1000) (sl + 24000) 1531 [(3, .int i), (2, .ref pm), (1, .ref px), (0, .ref b)] []) : lW X px pm Ds Df Vx Vm ce sl 995 [(3, .int i), (2, .ref pm), (1, .ref px), (0, .ref b)] [] := by
  obtain ⟨j97, j95, j96, jfr, jz⟩ := jS _ _ _ _ _ hJ
  obtain ⟨Vm2, r, e1, e2, hJ2⟩ := hop Ds Df Vx c Vm (xs (i + 1).toNatClampNeg) (xs (i + 2).toNatClampNeg) hJ
  refine ll_aload_n (q := 2) hX dL_law_995 rfl rfl ?_
  refine ll_aload_n (q := 3) hX dL_law_996 rfl rfl ?_
  refine ll_iload_n (q := 0) hX dL_law_997 rfl rfl ?_
  refine ll_iconst (v := 1) hX dL_law_998 gl_c_1 ?_
  refine ll_iadd hX dL_law_999 ?_
  refine ll_sld hX (hin 1 (by decide)) dL_law_1000 ?_
  refine ll_aload_n (q := 3) hX dL_law_1001 rfl rfl ?_
  refine ll_iload_n (q := 0) hX dL_law_1002 rfl rfl ?_
  refine ll_iconst (v := 2) hX dL_law_1003 gl_c_2 ?_
  refine ll_iadd hX dL_law_1004 ?_
  refine ll_sld hX (hin 2 (by decide)) dL_law_1005 ?_
  refine ll_callX (mc := 0) (ms := 0) (As := [.int (xs (i + 1).toNatClampNeg), .int (xs (i + 2).toNatClampNeg)]) hX (fun ad => c_x0_came e1) (lw_x0_came_ q1310) rfl rfl nn_x0_came ⟨Nat.le_of_ble_eq_true rfl, Nat.le_of_ble_eq_true rfl⟩ ⟨by omega, by omega⟩ rfl rfl (Nat.le_of_ble_eq_true rfl) dL_law_1006 ?_
  refine ll_aload_n (q := 1) hX dL_law_1009 rfl rfl ?_
  refine ll_aload_n (q := 3) hX dL_law_1010 rfl rfl ?_
  refine ll_iload_n (q := 0) hX dL_law_1011 rfl rfl ?_
  refine ll_iconst (v := 1) hX dL_law_1012 gl_c_1 ?_
  refine ll_iadd hX dL_law_1013 ?_
  refine ll_sld hX (hin 1 (by decide)) dL_law_1014 ?_
  refine ll_aload_n (q := 3) hX dL_law_1015 rfl rfl ?_
  refine ll_iload_n (q := 0) hX dL_law_1016 rfl rfl ?_
  refine ll_iconst (v := 2) hX dL_law_1017 gl_c_2 ?_
  refine ll_iadd hX dL_law_1018 ?_
  refine ll_sld hX (hin 2 (by decide)) dL_law_1019 ?_
  refine ll_callM (As := [.int (xs (i + 1).toNatClampNeg), .int (xs (i + 2).toNatClampNeg)]) hX (jS _ _ _ _ _ hJ2).2.2.2.2 (fun ad => c_came e2) (lw_V q2046 q2047 q2048 q153 q2049) rfl rfl nn_came ⟨Nat.le_of_ble_eq_true rfl, Nat.le_of_ble_eq_true rfl⟩ ⟨by omega, by omega⟩ rfl rfl (Nat.le_of_ble_eq_true rfl) dL_law_1020 ?_
  refine ll_icmp_eqT (tgt := 1531) hX dL_law_1023 (by decide) ?_
  exact ll_widen (by omega) (by omega) (kk Ds Df Vx c Vm2 hJ2)
theorem lw_case_number {J : gz_S → gz_R → gz_V → Nat → gz_V → Prop} {X : gz_X} {b L N : Nat} {xs : Nat → Int32} {px pm : Nat} {Ds : gz_S} {Df : gz_R} {Vx Vm : gz_V} {c ce sl : Nat} {i : Int32} (hX : lw_ok X b L xs) (htr : (gx_l X).stackTraces = false) (jS : lo_S J) (hop : lo_number J N) (hJ : J Ds Df Vx c Vm) (hin : ∀ j : Int32, j = 1 ∨ j = 2 ∨ j = 3 ∨ j = 4 ∨ j = 5 → vp_in (i + j) L) (hf : ce + 1000 ≤ 601024 ∧ sl + 24000 ≤ 7293034) (kk : ∀ (Ds2 : gz_S) (Df2 : gz_R) (Vx2 : gz_V) (c2 : Nat) (Vm2 : gz_V), J Ds2 Df2 Vx2 c2 Vm2 → lW X px pm Ds2 Df2 Vx2 Vm2 (ce + 1000) (sl + 24000) 1531 [(3, .int i), (2, .ref pm), (1, .ref px), (0, .ref b)] []) : lW X px pm Ds Df Vx Vm ce sl 1028 [(3, .int i), (2, .ref pm), (1, .ref px), (0, .ref b)] [] := by
  obtain ⟨j97, j95, j96, jfr, jz⟩ := jS _ _ _ _ _ hJ
  obtain ⟨Vx2, Vm2, r, e1, e2, hJ2⟩ := hop Ds Df Vx c Vm (xs (i + 1).toNatClampNeg) hJ
  refine ll_aload_n (q := 2) hX dL_law_1028 rfl rfl ?_
  refine ll_aload_n (q := 3) hX dL_law_1029 rfl rfl ?_
  refine ll_iload_n (q := 0) hX dL_law_1030 rfl rfl ?_
  refine ll_iconst (v := 1) hX dL_law_1031 gl_c_1 ?_
  refine ll_iadd hX dL_law_1032 ?_
  refine ll_sld hX (hin 1 (by decide)) dL_law_1033 ?_
  refine ll_callX (mc := 0) (ms := 0) (As := [.int (xs (i + 1).toNatClampNeg)]) hX (fun ad => c_x0_number e1) (lw_x0_number_ q1318) rfl rfl nn_x0_number ⟨Nat.le_of_ble_eq_true rfl, Nat.le_of_ble_eq_true rfl⟩ ⟨by omega, by omega⟩ rfl rfl (Nat.le_of_ble_eq_true rfl) dL_law_1034 ?_
  refine ll_aload_n (q := 1) hX dL_law_1037 rfl rfl ?_
  refine ll_aload_n (q := 3) hX dL_law_1038 rfl rfl ?_
  refine ll_iload_n (q := 0) hX dL_law_1039 rfl rfl ?_
  refine ll_iconst (v := 1) hX dL_law_1040 gl_c_1 ?_
  refine ll_iadd hX dL_law_1041 ?_
  refine ll_sld hX (hin 1 (by decide)) dL_law_1042 ?_
  refine ll_callM (As := [.int (xs (i + 1).toNatClampNeg)]) hX (jS _ _ _ _ _ hJ2).2.2.2.2 (fun ad => c_number e2) (lw_V q2058 q2059 q2060 q153 q2061) rfl rfl nn_number ⟨Nat.le_of_ble_eq_true rfl, Nat.le_of_ble_eq_true rfl⟩ ⟨by omega, by omega⟩ rfl rfl (Nat.le_of_ble_eq_true rfl) dL_law_1043 ?_
  refine ll_icmp_eqT (tgt := 1531) hX dL_law_1046 (by decide) ?_
  exact ll_widen (by omega) (by omega) (kk Ds Df Vx2 c Vm2 hJ2)
theorem lw_case_could {J : gz_S → gz_R → gz_V → Nat → gz_V → Prop} {X : gz_X} {b L N : Nat} {xs : Nat → Int32} {px pm : Nat} {Ds : gz_S} {Df : gz_R} {Vx Vm : gz_V} {c ce sl : Nat} {i : Int32} (hX : lw_ok X b L xs) (htr : (gx_l X).stackTraces = false) (jS : lo_S J) (hop : lo_could J N) (hJ : J Ds Df Vx c Vm) (hin : ∀ j : Int32, j = 1 ∨ j = 2 ∨ j = 3 ∨ j = 4 ∨ j = 5 → vp_in (i + j) L) (hf : ce + 1000 ≤ 601024 ∧ sl + 24000 ≤ 7293034) (kk : ∀ (Ds2 : gz_S) (Df2 : gz_R) (Vx2 : gz_V) (c2 : Nat) (Vm2 : gz_V), J Ds2 Df2 Vx2 c2 Vm2 → lW X px pm Ds2 Df2 Vx2 Vm2 (ce + 1000) (sl + 24000) 1531 [(3, .int i), (2, .ref pm), (1, .ref px), (0, .ref b)] []) : lW X px pm Ds Df Vx Vm ce sl 1051 [(3, .int i), (2, .ref pm), (1, .ref px), (0, .ref b)] [] := by
  obtain ⟨j97, j95, j96, jfr, jz⟩ := jS _ _ _ _ _ hJ
  obtain ⟨Vm2, r, e1, e2, hJ2⟩ := hop Ds Df Vx c Vm  hJ
  refine ll_aload_n (q := 2) hX dL_law_1051 rfl rfl ?_
  refine ll_callX (mc := 10) (ms := 90) (As := []) hX (fun ad => c_x0_could j95 j96 e1) (lw_x0_could_ q1322) rfl rfl nn_x0_could ⟨Nat.le_of_ble_eq_true rfl, Nat.le_of_ble_eq_true rfl⟩ ⟨by omega, by omega⟩ rfl rfl (Nat.le_of_ble_eq_true rfl) dL_law_1052 ?_
  refine ll_aload_n (q := 1) hX dL_law_1055 rfl rfl ?_
  refine ll_callM (As := []) hX (jS _ _ _ _ _ hJ2).2.2.2.2 (fun ad => c_could e2) (lw_V q2062 q2063 q2064 q153 q2065) rfl rfl nn_could ⟨Nat.le_of_ble_eq_true rfl, Nat.le_of_ble_eq_true rfl⟩ ⟨by omega, by omega⟩ rfl rfl (Nat.le_of_ble_eq_true rfl) dL_law_1056 ?_
  refine ll_icmp_eqT (tgt := 1531) hX dL_law_1059 (by decide) ?_
  exact ll_widen (by omega) (by omega) (kk Ds Df Vx c Vm2 hJ2)
theorem lw_case_ring {J : gz_S → gz_R → gz_V → Nat → gz_V → Prop} {X : gz_X} {b L N : Nat} {xs : Nat → Int32} {px pm : Nat} {Ds : gz_S} {Df : gz_R} {Vx Vm : gz_V} {c ce sl : Nat} {i : Int32} (hX : lw_ok X b L xs) (htr : (gx_l X).stackTraces = false) (jS : lo_S J) (hop : lo_ring J N) (hJ : J Ds Df Vx c Vm) (hin : ∀ j : Int32, j = 1 ∨ j = 2 ∨ j = 3 ∨ j = 4 ∨ j = 5 → vp_in (i + j) L) (hf : ce + 1000 ≤ 601024 ∧ sl + 24000 ≤ 7293034) (kk : ∀ (Ds2 : gz_S) (Df2 : gz_R) (Vx2 : gz_V) (c2 : Nat) (Vm2 : gz_V), J Ds2 Df2 Vx2 c2 Vm2 → lW X px pm Ds2 Df2 Vx2 Vm2 (ce + 1000) (sl + 24000) 1531 [(3, .int i), (2, .ref pm), (1, .ref px), (0, .ref b)] []) : lW X px pm Ds Df Vx Vm ce sl 1064 [(3, .int i), (2, .ref pm), (1, .ref px), (0, .ref b)] [] := by
  obtain ⟨j97, j95, j96, jfr, jz⟩ := jS _ _ _ _ _ hJ
  obtain ⟨Vx2, Vm2, r, e1, e2, hJ2⟩ := hop Ds Df Vx c Vm (xs (i + 1).toNatClampNeg) hJ
  refine ll_aload_n (q := 2) hX dL_law_1064 rfl rfl ?_
  refine ll_aload_n (q := 3) hX dL_law_1065 rfl rfl ?_
  refine ll_iload_n (q := 0) hX dL_law_1066 rfl rfl ?_
  refine ll_iconst (v := 1) hX dL_law_1067 gl_c_1 ?_
  refine ll_iadd hX dL_law_1068 ?_
  refine ll_sld hX (hin 1 (by decide)) dL_law_1069 ?_
  refine ll_callX (mc := 0) (ms := 0) (As := [.int (xs (i + 1).toNatClampNeg)]) hX (fun ad => c_x0_ring e1) (lw_x0_ring_ q1331) rfl rfl nn_x0_ring ⟨Nat.le_of_ble_eq_true rfl, Nat.le_of_ble_eq_true rfl⟩ ⟨by omega, by omega⟩ rfl rfl (Nat.le_of_ble_eq_true rfl) dL_law_1070 ?_
  refine ll_aload_n (q := 1) hX dL_law_1073 rfl rfl ?_
  refine ll_aload_n (q := 3) hX dL_law_1074 rfl rfl ?_
  refine ll_iload_n (q := 0) hX dL_law_1075 rfl rfl ?_
  refine ll_iconst (v := 1) hX dL_law_1076 gl_c_1 ?_
  refine ll_iadd hX dL_law_1077 ?_
  refine ll_sld hX (hin 1 (by decide)) dL_law_1078 ?_
  refine ll_callM (As := [.int (xs (i + 1).toNatClampNeg)]) hX (jS _ _ _ _ _ hJ2).2.2.2.2 (fun ad => c_ring e2) (lw_V q2070 q2071 q2072 q153 q2073) rfl rfl nn_ring ⟨Nat.le_of_ble_eq_true rfl, Nat.le_of_ble_eq_true rfl⟩ ⟨by omega, by omega⟩ rfl rfl (Nat.le_of_ble_eq_true rfl) dL_law_1079 ?_
  refine ll_icmp_eqT (tgt := 1531) hX dL_law_1082 (by decide) ?_
  exact ll_widen (by omega) (by omega) (kk Ds Df Vx2 c Vm2 hJ2)
theorem lw_case_pairs {J : gz_S → gz_R → gz_V → Nat → gz_V → Prop} {X : gz_X} {b L N : Nat} {xs : Nat → Int32} {px pm : Nat} {Ds : gz_S} {Df : gz_R} {Vx Vm : gz_V} {c ce sl : Nat} {i : Int32} (hX : lw_ok X b L xs) (htr : (gx_l X).stackTraces = false) (jS : lo_S J) (hop : lo_pairs J N) (hJ : J Ds Df Vx c Vm) (hin : ∀ j : Int32, j = 1 ∨ j = 2 ∨ j = 3 ∨ j = 4 ∨ j = 5 → vp_in (i + j) L) (hf : ce + 1000 ≤ 601024 ∧ sl + 24000 ≤ 7293034) (kk : ∀ (Ds2 : gz_S) (Df2 : gz_R) (Vx2 : gz_V) (c2 : Nat) (Vm2 : gz_V), J Ds2 Df2 Vx2 c2 Vm2 → lW X px pm Ds2 Df2 Vx2 Vm2 (ce + 1000) (sl + 24000) 1531 [(3, .int i), (2, .ref pm), (1, .ref px), (0, .ref b)] []) : lW X px pm Ds Df Vx Vm ce sl 1087 [(3, .int i), (2, .ref pm), (1, .ref px), (0, .ref b)] [] := by
  obtain ⟨j97, j95, j96, jfr, jz⟩ := jS _ _ _ _ _ hJ
  obtain ⟨Vx2, Vm2, r, e1, e2, hJ2⟩ := hop Ds Df Vx c Vm (xs (i + 1).toNatClampNeg) hJ
  refine ll_aload_n (q := 2) hX dL_law_1087 rfl rfl ?_
  refine ll_aload_n (q := 3) hX dL_law_1088 rfl rfl ?_
  refine ll_iload_n (q := 0) hX dL_law_1089 rfl rfl ?_
  refine ll_iconst (v := 1) hX dL_law_1090 gl_c_1 ?_
  refine ll_iadd hX dL_law_1091 ?_
  refine ll_sld hX (hin 1 (by decide)) dL_law_1092 ?_
  refine ll_callX (mc := 0) (ms := 0) (As := [.int (xs (i + 1).toNatClampNeg)]) hX (fun ad => c_x0_pairs e1) (lw_x0_pairs_ q1336) rfl rfl nn_x0_pairs ⟨Nat.le_of_ble_eq_true rfl, Nat.le_of_ble_eq_true rfl⟩ ⟨by omega, by omega⟩ rfl rfl (Nat.le_of_ble_eq_true rfl) dL_law_1093 ?_
  refine ll_aload_n (q := 1) hX dL_law_1096 rfl rfl ?_
  refine ll_aload_n (q := 3) hX dL_law_1097 rfl rfl ?_
  refine ll_iload_n (q := 0) hX dL_law_1098 rfl rfl ?_
  refine ll_iconst (v := 1) hX dL_law_1099 gl_c_1 ?_
  refine ll_iadd hX dL_law_1100 ?_
  refine ll_sld hX (hin 1 (by decide)) dL_law_1101 ?_
  refine ll_callM (As := [.int (xs (i + 1).toNatClampNeg)]) hX (jS _ _ _ _ _ hJ2).2.2.2.2 (fun ad => c_pairs e2) (lw_V q2083 q2084 q2085 q153 q2086) rfl rfl nn_pairs ⟨Nat.le_of_ble_eq_true rfl, Nat.le_of_ble_eq_true rfl⟩ ⟨by omega, by omega⟩ rfl rfl (Nat.le_of_ble_eq_true rfl) dL_law_1102 ?_
  refine ll_icmp_eqT (tgt := 1531) hX dL_law_1105 (by decide) ?_
  exact ll_widen (by omega) (by omega) (kk Ds Df Vx2 c Vm2 hJ2)
theorem lw_case_walk {J : gz_S → gz_R → gz_V → Nat → gz_V → Prop} {X : gz_X} {b L N : Nat} {xs : Nat → Int32} {px pm : Nat} {Ds : gz_S} {Df : gz_R} {Vx Vm : gz_V} {c ce sl : Nat} {i : Int32} (hX : lw_ok X b L xs) (htr : (gx_l X).stackTraces = false) (jS : lo_S J) (hop : lo_walk J N) (hJ : J Ds Df Vx c Vm) (hin : ∀ j : Int32, j = 1 ∨ j = 2 ∨ j = 3 ∨ j = 4 ∨ j = 5 → vp_in (i + j) L) (hf : ce + 1000 ≤ 601024 ∧ sl + 24000 ≤ 7293034) (kk : ∀ (Ds2 : gz_S) (Df2 : gz_R) (Vx2 : gz_V) (c2 : Nat) (Vm2 : gz_V), J Ds2 Df2 Vx2 c2 Vm2 → lW X px pm Ds2 Df2 Vx2 Vm2 (ce + 1000) (sl + 24000) 1531 [(3, .int i), (2, .ref pm), (1, .ref px), (0, .ref b)] []) : lW X px pm Ds Df Vx Vm ce sl 1110 [(3, .int i), (2, .ref pm), (1, .ref px), (0, .ref b)] [] := by
  obtain ⟨j97, j95, j96, jfr, jz⟩ := jS _ _ _ _ _ hJ
  obtain ⟨Vm2, r, e1, e2, hJ2⟩ := hop Ds Df Vx c Vm (xs (i + 1).toNatClampNeg) hJ
  refine ll_aload_n (q := 2) hX dL_law_1110 rfl rfl ?_
  refine ll_aload_n (q := 3) hX dL_law_1111 rfl rfl ?_
  refine ll_iload_n (q := 0) hX dL_law_1112 rfl rfl ?_
  refine ll_iconst (v := 1) hX dL_law_1113 gl_c_1 ?_
  refine ll_iadd hX dL_law_1114 ?_
  refine ll_sld hX (hin 1 (by decide)) dL_law_1115 ?_
  refine ll_callX (mc := 0) (ms := 0) (As := [.int (xs (i + 1).toNatClampNeg)]) hX (fun ad => c_x0_walk e1) (lw_x0_walk_ q1352) rfl rfl nn_x0_walk ⟨Nat.le_of_ble_eq_true rfl, Nat.le_of_ble_eq_true rfl⟩ ⟨by omega, by omega⟩ rfl rfl (Nat.le_of_ble_eq_true rfl) dL_law_1116 ?_
  refine ll_aload_n (q := 1) hX dL_law_1119 rfl rfl ?_
  refine ll_aload_n (q := 3) hX dL_law_1120 rfl rfl ?_
  refine ll_iload_n (q := 0) hX dL_law_1121 rfl rfl ?_
  refine ll_iconst (v := 1) hX dL_law_1122 gl_c_1 ?_
  refine ll_iadd hX dL_law_1123 ?_
  refine ll_sld hX (hin 1 (by decide)) dL_law_1124 ?_
  refine ll_callM (As := [.int (xs (i + 1).toNatClampNeg)]) hX (jS _ _ _ _ _ hJ2).2.2.2.2 (fun ad => c_walk e2) (lw_V q2099 q2100 q2101 q153 q2102) rfl rfl nn_walk ⟨Nat.le_of_ble_eq_true rfl, Nat.le_of_ble_eq_true rfl⟩ ⟨by omega, by omega⟩ rfl rfl (Nat.le_of_ble_eq_true rfl) dL_law_1125 ?_
  refine ll_icmp_eqT (tgt := 1531) hX dL_law_1128 (by decide) ?_
  exact ll_widen (by omega) (by omega) (kk Ds Df Vx c Vm2 hJ2)
theorem lw_case_prices {J : gz_S → gz_R → gz_V → Nat → gz_V → Prop} {X : gz_X} {b L N : Nat} {xs : Nat → Int32} {px pm : Nat} {Ds : gz_S} {Df : gz_R} {Vx Vm : gz_V} {c ce sl : Nat} {i : Int32} (hX : lw_ok X b L xs) (htr : (gx_l X).stackTraces = false) (jS : lo_S J) (hop : lo_prices J N) (hJ : J Ds Df Vx c Vm) (hin : ∀ j : Int32, j = 1 ∨ j = 2 ∨ j = 3 ∨ j = 4 ∨ j = 5 → vp_in (i + j) L) (hf : ce + 1000 ≤ 601024 ∧ sl + 24000 ≤ 7293034) (kk : ∀ (Ds2 : gz_S) (Df2 : gz_R) (Vx2 : gz_V) (c2 : Nat) (Vm2 : gz_V), J Ds2 Df2 Vx2 c2 Vm2 → lW X px pm Ds2 Df2 Vx2 Vm2 (ce + 1000) (sl + 24000) 1531 [(3, .int i), (2, .ref pm), (1, .ref px), (0, .ref b)] []) : lW X px pm Ds Df Vx Vm ce sl 1133 [(3, .int i), (2, .ref pm), (1, .ref px), (0, .ref b)] [] := by
  obtain ⟨j97, j95, j96, jfr, jz⟩ := jS _ _ _ _ _ hJ
  obtain ⟨Vm2, r, e1, e2, hJ2⟩ := hop Ds Df Vx c Vm (xs (i + 1).toNatClampNeg) (xs (i + 2).toNatClampNeg) (xs (i + 3).toNatClampNeg) hJ
  refine ll_aload_n (q := 2) hX dL_law_1133 rfl rfl ?_
  refine ll_aload_n (q := 3) hX dL_law_1134 rfl rfl ?_
  refine ll_iload_n (q := 0) hX dL_law_1135 rfl rfl ?_
  refine ll_iconst (v := 1) hX dL_law_1136 gl_c_1 ?_
  refine ll_iadd hX dL_law_1137 ?_
  refine ll_sld hX (hin 1 (by decide)) dL_law_1138 ?_
  refine ll_aload_n (q := 3) hX dL_law_1139 rfl rfl ?_
  refine ll_iload_n (q := 0) hX dL_law_1140 rfl rfl ?_
  refine ll_iconst (v := 2) hX dL_law_1141 gl_c_2 ?_
  refine ll_iadd hX dL_law_1142 ?_
  refine ll_sld hX (hin 2 (by decide)) dL_law_1143 ?_
  refine ll_aload_n (q := 3) hX dL_law_1144 rfl rfl ?_
  refine ll_iload_n (q := 0) hX dL_law_1145 rfl rfl ?_
  refine ll_iconst (v := 3) hX dL_law_1146 gl_c_3 ?_
  refine ll_iadd hX dL_law_1147 ?_
  refine ll_sld hX (hin 3 (by decide)) dL_law_1148 ?_
  refine ll_callX (mc := 0) (ms := 0) (As := [.int (xs (i + 1).toNatClampNeg), .int (xs (i + 2).toNatClampNeg), .int (xs (i + 3).toNatClampNeg)]) hX (fun ad => c_x0_prices e1) (lw_x0_prices_ q1378) rfl rfl nn_x0_prices ⟨Nat.le_of_ble_eq_true rfl, Nat.le_of_ble_eq_true rfl⟩ ⟨by omega, by omega⟩ rfl rfl (Nat.le_of_ble_eq_true rfl) dL_law_1149 ?_
  refine ll_aload_n (q := 1) hX dL_law_1152 rfl rfl ?_
  refine ll_aload_n (q := 3) hX dL_law_1153 rfl rfl ?_
  refine ll_iload_n (q := 0) hX dL_law_1154 rfl rfl ?_
  refine ll_iconst (v := 1) hX dL_law_1155 gl_c_1 ?_
  refine ll_iadd hX dL_law_1156 ?_
  refine ll_sld hX (hin 1 (by decide)) dL_law_1157 ?_
  refine ll_aload_n (q := 3) hX dL_law_1158 rfl rfl ?_
  refine ll_iload_n (q := 0) hX dL_law_1159 rfl rfl ?_
  refine ll_iconst (v := 2) hX dL_law_1160 gl_c_2 ?_
  refine ll_iadd hX dL_law_1161 ?_
  refine ll_sld hX (hin 2 (by decide)) dL_law_1162 ?_
  refine ll_aload_n (q := 3) hX dL_law_1163 rfl rfl ?_
  refine ll_iload_n (q := 0) hX dL_law_1164 rfl rfl ?_
  refine ll_iconst (v := 3) hX dL_law_1165 gl_c_3 ?_
  refine ll_iadd hX dL_law_1166 ?_
  refine ll_sld hX (hin 3 (by decide)) dL_law_1167 ?_
  refine ll_callM (As := [.int (xs (i + 1).toNatClampNeg), .int (xs (i + 2).toNatClampNeg), .int (xs (i + 3).toNatClampNeg)]) hX (jS _ _ _ _ _ hJ2).2.2.2.2 (fun ad => c_prices e2) (lw_V q2111 q2112 q2113 q153 q2114) rfl rfl nn_prices ⟨Nat.le_of_ble_eq_true rfl, Nat.le_of_ble_eq_true rfl⟩ ⟨by omega, by omega⟩ rfl rfl (Nat.le_of_ble_eq_true rfl) dL_law_1168 ?_
  refine ll_icmp_eqT (tgt := 1531) hX dL_law_1171 (by decide) ?_
  exact ll_widen (by omega) (by omega) (kk Ds Df Vx c Vm2 hJ2)
