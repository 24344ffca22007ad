/-! THE LAW's loop. Printed by wip/D-99505w/gen/mklaw.py -/
set_option maxRecDepth 100000
theorem lw_loop {J : gz_S → gz_R → gz_V → Nat → gz_V → Prop} {X : gz_X} {b L N : Nat} {xs : Nat → Int32} {px pm : Nat} (hX : lw_ok X b L xs) (hL : L ≤ 384) (htr : (gx_l X).stackTraces = false) (jS : lo_S J) (h_state : lo_state J N) (h_person : lo_person J N) (h_horse : lo_horse J N) (h_set : lo_set J N) (h_buys : lo_buys J N) (h_clasp : lo_clasp J N) (h_hand : lo_hand J N) (h_days : lo_days J N) (h_feed : lo_feed J N) (h_end : lo_end J N) (h_text : lo_text J N) (h_fault : lo_fault J N) (h_of : lo_of J N) (h_horseOf : lo_horseOf J N) (h_passes : lo_passes J N) (h_holds : lo_holds J N) (h_asks : lo_asks J N) (h_book : lo_book J N) (h_goes : lo_goes J N) (h_would : lo_would J N) (h_told : lo_told J N) (h_came : lo_came J N) (h_number : lo_number J N) (h_could : lo_could J N) (h_ring : lo_ring J N) (h_pairs : lo_pairs J N) (h_walk : lo_walk J N) (h_prices : lo_prices J N) (h_weight : lo_weight J N) (h_balance : lo_balance J N) (h_cold : lo_cold J N) (h_alike : lo_alike J N) (h_herd : lo_herd J N) (h_pens : lo_pens J N) (h_left : lo_left J N) (h_signs : lo_signs J N) (h_row : lo_row J N) (h_game : lo_game J N) (h_undo : lo_undo J N) (h_image : lo_image J N) (h_look : lo_look J N) :
    ∀ (n j : Nat) {Ds : gz_S} {Df : gz_R} {Vx Vm : gz_V} {c : Nat} {i : Int32}, n + j = 64 → i.toInt = 6 * j → J Ds Df Vx c Vm → lW X px pm Ds Df Vx Vm (3000 + 1000 * j) (40000 + 24000 * j) 18 [(3, .int i), (2, .ref pm), (1, .ref px), (0, .ref b)] [] := by
  have hl0 : (Int32.ofNat L).toInt = L := i_of (by omega)
  intro n
  induction n with
  | zero =>
    intro j Ds Df Vx Vm c i hn hi hJ
    refine ll_iload_n (q := 0) hX dL_law_18 rfl rfl ?_
    refine ll_aload_n (q := 3) hX dL_law_19 rfl rfl ?_
    refine ll_slen hX dL_law_20 ?_
    refine ll_bipush (v := 6) hX dL_law_21 gl_b_6 ?_
    refine ll_isub hX dL_law_23 ?_
    have h6 : (Int32.ofNat L - 6).toInt = L - 6 := by
      have h6 : (6 : Int32).toInt = 6 := rfl
      rw [i_sub (by omega) (by omega), hl0, h6]
    refine ll_icmp_gt (tgt := 1537) hX dL_law_24 (by decide) (fun _ => ?_) (fun z => absurd (i_lt.mpr (by rw [h6, hi]; omega)) z)
    refine ll_iconst (v := 1) hX dL_law_1537 gl_c_1 ?_
    exact ll_end hX (by omega) (by omega) dL_law_1538
  | succ n ih =>
    intro j Ds Df Vx Vm c i hn hi hJ
    refine ll_iload_n (q := 0) hX dL_law_18 rfl rfl ?_
    refine ll_aload_n (q := 3) hX dL_law_19 rfl rfl ?_
    refine ll_slen hX dL_law_20 ?_
    refine ll_bipush (v := 6) hX dL_law_21 gl_b_6 ?_
    refine ll_isub hX dL_law_23 ?_
    have h6 : (Int32.ofNat L - 6).toInt = L - 6 := by
      have h6 : (6 : Int32).toInt = 6 := rfl
      rw [i_sub (by omega) (by omega), hl0, h6]
    refine ll_icmp_gt (tgt := 1537) hX dL_law_24 (by decide) (fun _ => ?_) (fun z => ?_)
    · refine ll_iconst (v := 1) hX dL_law_1537 gl_c_1 ?_
      exact ll_end hX (by omega) (by omega) dL_law_1538
    · have hj : 6 * (j : Int) + 6 ≤ L := by
        have hz : ¬ ((Int32.ofNat L - 6).toInt < i.toInt) := fun q => z (i_lt.mpr q)
        rw [h6, hi] at hz
        omega
      have hin : ∀ j : Int32, j = 1 ∨ j = 2 ∨ j = 3 ∨ j = 4 ∨ j = 5 → vp_in (i + j) L := by
        intro q hq
        have hq2 : 1 ≤ q.toInt ∧ q.toInt ≤ 5 := by rcases hq with rfl | rfl | rfl | rfl | rfl <;> decide
        have e : (i + q).toInt = i.toInt + q.toInt := i_add (by omega) (by omega)
        exact i_in (by omega) (by omega)
      have hf : 3000 + 1000 * j + 1000 ≤ 601024 ∧ 40000 + 24000 * j + 24000 ≤ 7293034 := by omega
      have kk : ∀ (Ds2 : gz_S) (Df2 : gz_R) (Vx2 : gz_V) (c2 : Nat) (Vm2 : gz_V), J Ds2 Df2 Vx2 c2 Vm2 → lW X px pm Ds2 Df2 Vx2 Vm2 (3000 + 1000 * j + 1000) (40000 + 24000 * j + 24000) 1531 [(3, .int i), (2, .ref pm), (1, .ref px), (0, .ref b)] [] := by
        intro Ds2 Df2 Vx2 c2 Vm2 hJ2
        refine ll_iinc (q := 0) (v := i + 6) (lv2 := [(3, .int (i + 6)), (2, .ref pm), (1, .ref px), (0, .ref b)]) hX dL_law_1531 rfl rfl (by decide) rfl ?_
        refine ll_goto (tgt := 18) hX dL_law_1534 (by decide) ?_
        have e6 : (i + 6).toInt = 6 * ((j + 1 : Nat) : Int) := by
          have h6 : (6 : Int32).toInt = 6 := rfl
          rw [i_add (by omega) (by omega), h6]
          omega
        have h := ih (j + 1) (Ds := Ds2) (Df := Df2) (Vx := Vx2) (Vm := Vm2) (c := c2) (by omega) e6 hJ2
        exact ll_widen (by omega) (by omega) h
      refine ll_aload_n (q := 3) hX dL_law_27 rfl rfl ?_
      refine ll_iload_n (q := 0) hX dL_law_28 rfl rfl ?_
      refine ll_sld hX (i_in (by omega) (by omega)) dL_law_29 ?_
      refine ll_bipush (v := 63) hX dL_law_30 gl_b_63 ?_
      refine ll_iand hX dL_law_32 ?_
      generalize xs i.toNatClampNeg &&& 63 = w
      by_cases k0 : w = 0
      · refine ll_tableAt (v := 0) (tgt := 212) hX dL_law_33 k0 (by decide) (by decide) rfl (by decide) ?_
        exact lw_case_state hX htr jS h_state hJ hin hf kk
      by_cases k1 : w = 1
      · refine ll_tableAt (v := 1) (tgt := 235) hX dL_law_33 k1 (by decide) (by decide) rfl (by decide) ?_
        exact lw_case_person hX htr jS h_person hJ hin hf kk
      by_cases k2 : w = 2
      · refine ll_tableAt (v := 2) (tgt := 268) hX dL_law_33 k2 (by decide) (by decide) rfl (by decide) ?_
        exact lw_case_horse hX htr jS h_horse hJ hin hf kk
      by_cases k3 : w = 3
      · refine ll_tableAt (v := 3) (tgt := 311) hX dL_law_33 k3 (by decide) (by decide) rfl (by decide) ?_
        exact lw_case_set hX htr jS h_set hJ hin hf kk
      by_cases k4 : w = 4
      · refine ll_tableAt (v := 4) (tgt := 354) hX dL_law_33 k4 (by decide) (by decide) rfl (by decide) ?_
        exact lw_case_buys hX htr jS h_buys hJ hin hf kk
      by_cases k5 : w = 5
      · refine ll_tableAt (v := 5) (tgt := 407) hX dL_law_33 k5 (by decide) (by decide) rfl (by decide) ?_
        exact lw_case_clasp hX htr jS h_clasp hJ hin hf kk
      by_cases k6 : w = 6
      · refine ll_tableAt (v := 6) (tgt := 450) hX dL_law_33 k6 (by decide) (by decide) rfl (by decide) ?_
        exact lw_case_hand hX htr jS h_hand hJ hin hf kk
      by_cases k7 : w = 7
      · refine ll_tableAt (v := 7) (tgt := 483) hX dL_law_33 k7 (by decide) (by decide) rfl (by decide) ?_
        exact lw_case_days hX htr jS h_days hJ hin hf kk
      by_cases k8 : w = 8
      · refine ll_tableAt (v := 8) (tgt := 506) hX dL_law_33 k8 (by decide) (by decide) rfl (by decide) ?_
        exact lw_case_feed hX htr jS h_feed hJ hin hf kk
      by_cases k9 : w = 9
      · refine ll_tableAt (v := 9) (tgt := 569) hX dL_law_33 k9 (by decide) (by decide) rfl (by decide) ?_
        exact lw_case_end hX htr jS h_end hJ hin hf kk
      by_cases k10 : w = 10
      · refine ll_tableAt (v := 10) (tgt := 592) hX dL_law_33 k10 (by decide) (by decide) rfl (by decide) ?_
        exact lw_case_text hX htr jS h_text hJ hin hf kk
      by_cases k11 : w = 11
      · refine ll_tableAt (v := 11) (tgt := 615) hX dL_law_33 k11 (by decide) (by decide) rfl (by decide) ?_
        exact lw_case_fault hX htr jS h_fault hJ hin hf kk
      by_cases k12 : w = 12
      · refine ll_tableAt (v := 12) (tgt := 638) hX dL_law_33 k12 (by decide) (by decide) rfl (by decide) ?_
        exact lw_case_of hX htr jS h_of hJ hin hf kk
      by_cases k13 : w = 13
      · refine ll_tableAt (v := 13) (tgt := 671) hX dL_law_33 k13 (by decide) (by decide) rfl (by decide) ?_
        exact lw_case_horseOf hX htr jS h_horseOf hJ hin hf kk
      by_cases k14 : w = 14
      · refine ll_tableAt (v := 14) (tgt := 704) hX dL_law_33 k14 (by decide) (by decide) rfl (by decide) ?_
        exact lw_case_passes hX htr jS h_passes hJ hin hf kk
      by_cases k15 : w = 15
      · refine ll_tableAt (v := 15) (tgt := 757) hX dL_law_33 k15 (by decide) (by decide) rfl (by decide) ?_
        exact lw_case_holds hX htr jS h_holds hJ hin hf kk
      by_cases k16 : w = 16
      · refine ll_tableAt (v := 16) (tgt := 800) hX dL_law_33 k16 (by decide) (by decide) rfl (by decide) ?_
        exact lw_case_asks hX htr jS h_asks hJ hin hf kk
      by_cases k17 : w = 17
      · refine ll_tableAt (v := 17) (tgt := 843) hX dL_law_33 k17 (by decide) (by decide) rfl (by decide) ?_
        exact lw_case_book hX htr jS h_book hJ hin hf kk
      by_cases k18 : w = 18
      · refine ll_tableAt (v := 18) (tgt := 876) hX dL_law_33 k18 (by decide) (by decide) rfl (by decide) ?_
        exact lw_case_goes hX htr jS h_goes hJ hin hf kk
      by_cases k19 : w = 19
      · refine ll_tableAt (v := 19) (tgt := 909) hX dL_law_33 k19 (by decide) (by decide) rfl (by decide) ?_
        exact lw_case_would hX htr jS h_would hJ hin hf kk
      by_cases k20 : w = 20
      · refine ll_tableAt (v := 20) (tgt := 962) hX dL_law_33 k20 (by decide) (by decide) rfl (by decide) ?_
        exact lw_case_told hX htr jS h_told hJ hin hf kk
      by_cases k21 : w = 21
      · refine ll_tableAt (v := 21) (tgt := 995) hX dL_law_33 k21 (by decide) (by decide) rfl (by decide) ?_
        exact lw_case_came hX htr jS h_came hJ hin hf kk
      by_cases k22 : w = 22
      · refine ll_tableAt (v := 22) (tgt := 1028) hX dL_law_33 k22 (by decide) (by decide) rfl (by decide) ?_
        exact lw_case_number hX htr jS h_number hJ hin hf kk
      by_cases k23 : w = 23
      · refine ll_tableAt (v := 23) (tgt := 1051) hX dL_law_33 k23 (by decide) (by decide) rfl (by decide) ?_
        exact lw_case_could hX htr jS h_could hJ hin hf kk
      by_cases k24 : w = 24
      · refine ll_tableAt (v := 24) (tgt := 1064) hX dL_law_33 k24 (by decide) (by decide) rfl (by decide) ?_
        exact lw_case_ring hX htr jS h_ring hJ hin hf kk
      by_cases k25 : w = 25
      · refine ll_tableAt (v := 25) (tgt := 1087) hX dL_law_33 k25 (by decide) (by decide) rfl (by decide) ?_
        exact lw_case_pairs hX htr jS h_pairs hJ hin hf kk
      by_cases k26 : w = 26
      · refine ll_tableAt (v := 26) (tgt := 1110) hX dL_law_33 k26 (by decide) (by decide) rfl (by decide) ?_
        exact lw_case_walk hX htr jS h_walk hJ hin hf kk
      by_cases k27 : w = 27
      · refine ll_tableAt (v := 27) (tgt := 1133) hX dL_law_33 k27 (by decide) (by decide) rfl (by decide) ?_
        exact lw_case_prices hX htr jS h_prices hJ hin hf kk
      by_cases k28 : w = 28
      · refine ll_tableAt (v := 28) (tgt := 1176) hX dL_law_33 k28 (by decide) (by decide) rfl (by decide) ?_
        exact lw_case_weight hX htr jS h_weight hJ hin hf kk
      by_cases k29 : w = 29
      · refine ll_tableAt (v := 29) (tgt := 1199) hX dL_law_33 k29 (by decide) (by decide) rfl (by decide) ?_
        exact lw_case_balance hX htr jS h_balance hJ hin hf kk
      by_cases k30 : w = 30
      · refine ll_tableAt (v := 30) (tgt := 1232) hX dL_law_33 k30 (by decide) (by decide) rfl (by decide) ?_
        exact lw_case_cold hX htr jS h_cold hJ hin hf kk
      by_cases k31 : w = 31
      · refine ll_tableAt (v := 31) (tgt := 1265) hX dL_law_33 k31 (by decide) (by decide) rfl (by decide) ?_
        exact lw_case_alike hX htr jS h_alike hJ hin hf kk
      by_cases k32 : w = 32
      · refine ll_tableAt (v := 32) (tgt := 1298) hX dL_law_33 k32 (by decide) (by decide) rfl (by decide) ?_
        exact lw_case_herd hX htr jS h_herd hJ hin hf kk
      by_cases k33 : w = 33
      · refine ll_tableAt (v := 33) (tgt := 1321) hX dL_law_33 k33 (by decide) (by decide) rfl (by decide) ?_
        exact lw_case_pens hX htr jS h_pens hJ hin hf kk
      by_cases k34 : w = 34
      · refine ll_tableAt (v := 34) (tgt := 1354) hX dL_law_33 k34 (by decide) (by decide) rfl (by decide) ?_
        exact lw_case_left hX htr jS h_left hJ hin hf kk
      by_cases k35 : w = 35
      · refine ll_tableAt (v := 35) (tgt := 1387) hX dL_law_33 k35 (by decide) (by decide) rfl (by decide) ?_
        exact lw_case_signs hX htr jS h_signs hJ hin hf kk
      by_cases k36 : w = 36
      · refine ll_tableAt (v := 36) (tgt := 1410) hX dL_law_33 k36 (by decide) (by decide) rfl (by decide) ?_
        exact lw_case_row hX htr jS h_row hJ hin hf kk
      by_cases k37 : w = 37
      · refine ll_tableAt (v := 37) (tgt := 1433) hX dL_law_33 k37 (by decide) (by decide) rfl (by decide) ?_
        exact lw_case_game hX htr jS h_game hJ hin hf kk
      by_cases k38 : w = 38
      · refine ll_tableAt (v := 38) (tgt := 1456) hX dL_law_33 k38 (by decide) (by decide) rfl (by decide) ?_
        exact lw_case_undo hX htr jS h_undo hJ hin hf kk
      by_cases k39 : w = 39
      · refine ll_tableAt (v := 39) (tgt := 1469) hX dL_law_33 k39 (by decide) (by decide) rfl (by decide) ?_
        exact lw_case_image hX htr jS h_image hJ hin hf kk
      by_cases k40 : w = 40
      · refine ll_tableAt (v := 40) (tgt := 1508) hX dL_law_33 k40 (by decide) (by decide) rfl (by decide) ?_
        exact lw_case_look hX htr jS h_look hJ hin hf kk
      refine ll_tableOut (tgt := 1531) hX dL_law_33 (by have := lv_neT k0 (a := 0) rfl; have := lv_neT k1 (a := 1) rfl; have := lv_neT k2 (a := 2) rfl; have := lv_neT k3 (a := 3) rfl; have := lv_neT k4 (a := 4) rfl; have := lv_neT k5 (a := 5) rfl; have := lv_neT k6 (a := 6) rfl; have := lv_neT k7 (a := 7) rfl; have := lv_neT k8 (a := 8) rfl; have := lv_neT k9 (a := 9) rfl; have := lv_neT k10 (a := 10) rfl; have := lv_neT k11 (a := 11) rfl; have := lv_neT k12 (a := 12) rfl; have := lv_neT k13 (a := 13) rfl; have := lv_neT k14 (a := 14) rfl; have := lv_neT k15 (a := 15) rfl; have := lv_neT k16 (a := 16) rfl; have := lv_neT k17 (a := 17) rfl; have := lv_neT k18 (a := 18) rfl; have := lv_neT k19 (a := 19) rfl; have := lv_neT k20 (a := 20) rfl; have := lv_neT k21 (a := 21) rfl; have := lv_neT k22 (a := 22) rfl; have := lv_neT k23 (a := 23) rfl; have := lv_neT k24 (a := 24) rfl; have := lv_neT k25 (a := 25) rfl; have := lv_neT k26 (a := 26) rfl; have := lv_neT k27 (a := 27) rfl; have := lv_neT k28 (a := 28) rfl; have := lv_neT k29 (a := 29) rfl; have := lv_neT k30 (a := 30) rfl; have := lv_neT k31 (a := 31) rfl; have := lv_neT k32 (a := 32) rfl; have := lv_neT k33 (a := 33) rfl; have := lv_neT k34 (a := 34) rfl; have := lv_neT k35 (a := 35) rfl; have := lv_neT k36 (a := 36) rfl; have := lv_neT k37 (a := 37) rfl; have := lv_neT k38 (a := 38) rfl; have := lv_neT k39 (a := 39) rfl; have := lv_neT k40 (a := 40) rfl; omega) (by decide) ?_
      exact ll_widen (by omega) (by omega) (kk _ _ _ _ _ hJ)
