/-! THE LAW's cases. Printed by wip/D-99505w/gen/mklaw.py -/
set_option maxRecDepth 100000
section LWC
variable {X : gz_X} {b L : Nat} {xs : Nat → Int32} {px pm : Nat} {Ds : gz_S} {Df : gz_R} {Vx Vm : gz_V} {ce sl pc : Nat} {lv lv2 : List (Nat × Value)} {st : List Value}
theorem ll_callX (hX : lw_ok X b L xs) {y : MethodName} {code2 : ByteArray} {nL2 : Nat} {ret2 : Option FieldType} {rm2 : Room} {Df2 : gz_R} {V2 : gz_V} {r : Int32} {mc ms index nA : Nat} {As : List Value}
    (hM : ∀ ad : gz_A0, gz_Met (gx_l X) y code2 nL2 ret2 rm2 (gx_D X) (gx_C X) ad (xw_s Ds) Vx (xw_c Df) (.ref (ad (10, 0, 0)) :: As) (gz_F1 (xw_s Ds) (xw_c Df2) ad V2 (some (.int r))) mc ms) (hlw : GoodIn lw_all (wsV R_law index RX0 y (ws_ y code2 nL2 ret2))) (hrc : rm2.cells = mc) (hrs : rm2.slots = ms)
    (hd : y.cls = RX0 ∧ y.cls ≠ "java/lang/invoke/MethodHandle" ∧ y.cls ≠ "java/lang/invoke/VarHandle" ∧ (parseMethodDescriptor y.desc).map (fun d => d.parameters.length) = some nA) (hR : rm2.frames + 1 ≤ 2048 ∧ 8 + (nL2 + 11) + rm2.locals ≤ 84000) (hf : ce + mc ≤ 601024 ∧ sl + ms ≤ 7293034)
    (hn : As.length = nA) {st0 : List Value} (hst : st0 = As.reverse ++ .ref px :: st) (h8 : (st.map fun v => v.category).sum ≤ 8) (hdg : decode code pc = .ok (.invokevirtual index, 3))
    (k : lW X px pm Ds Df2 V2 Vm (ce + mc) (sl + ms) (pc + 3) lv (.int r :: st)) : lW X px pm Ds Df Vx Vm ce sl pc lv st0 := by
  intro ax am H locs ls hi hS hl
  have hi0 := hi
  obtain ⟨rfl, hpm, hx, hm, hdj⟩ := hi
  have hK := hX.1.2.2.2.2.2.1
  obtain ⟨cell, q1, q2, q3, q4⟩ := gz_obj (ci := 0) hx xs_main (by decide) rfl
  obtain ⟨hSl, hfc, kC, hkC, hkind⟩ := hK.1 0 _ rfl
  have hA := ll_Asub hX hx hS
  have hcw := cwV (R := gx_R X) nA hX.1.2.2.2.2.1 hlw rfl hrc hrs hd (by rw [hX.1.2.2.2.2.2.2.2.2.1]; exact hR)
  exact ll_backX hX hi0 hS hl (va_runV (As := As) (rest := st) (b := ax (10, 0, 0)) (C := RX0) ⟨hX.1.1, hX.1.2.1, hX.1.2.2.1, hX.1.2.2.2.1, hX.1.2.2.2.2.1⟩ (hM ax H.size) hcw ⟨gz_blind, ⟨cell, q1, by rw [q3]; rfl, by rw [q2]; exact hfc⟩, fun U hU hW => ⟨rfl, by rw [hU], ⟨by rw [hU]; exact hx.own, va_K.moved hW.alike hK, hX.1.2.2.2.2.2.2.2.2.2.2.2.1.warm hW, hX.1.2.2.2.2.2.2.2.2.2.2.2.2.call hW (by rw [hU]; exact hS.2.1) hA⟩⟩⟩ rfl hn hl.1 hst (lv_room h8) hdg (by rw [hX.1.2.2.2.2.2.2.2.2.1]; exact hf)) (fun sh2 V2' Rf2 ad2 rv hF => by obtain ⟨rfl, rfl, rfl, rfl, rfl⟩ := hF; exact ⟨rfl, rfl, rfl, rfl, rfl⟩) k
theorem ll_callM (hX : lw_ok X b L xs) (hz0 : ∀ n : gz_N, xw_s Ds n ≠ none → n.1 = 0 → n = (0, 0, 0)) {y : MethodName} {code2 : ByteArray} {nL2 : Nat} {ret2 : Option FieldType} {rm2 : Room} {V2 : gz_V} {r : Int32} {index nA : Nat} {As : List Value}
    (hM : ∀ ad : gz_A0, gz_Met (gx_l X) y code2 nL2 ret2 rm2 (gx_D X) (gx_C X) ad tw_S Vm tw_R (.ref (ad (1, 0, 0)) :: As) (gz_F1 tw_S tw_R ad V2 (some (.int r))) 0 0) (hlw : GoodIn lw_all (wsV R_law index RX6 y (ws_ y code2 nL2 ret2))) (hrc : rm2.cells = 0) (hrs : rm2.slots = 0)
    (hd : y.cls = RX6 ∧ y.cls ≠ "java/lang/invoke/MethodHandle" ∧ y.cls ≠ "java/lang/invoke/VarHandle" ∧ (parseMethodDescriptor y.desc).map (fun d => d.parameters.length) = some nA) (hR : rm2.frames + 1 ≤ 2048 ∧ 8 + (nL2 + 11) + rm2.locals ≤ 84000) (hf : ce ≤ 601024 ∧ sl ≤ 7293034)
    (hn : As.length = nA) {st0 : List Value} (hst : st0 = As.reverse ++ .ref pm :: st) (h8 : (st.map fun v => v.category).sum ≤ 8) (hdg : decode code pc = .ok (.invokevirtual index, 3))
    (k : lW X px pm Ds Df Vx V2 ce sl (pc + 3) lv (.int r :: st)) : lW X px pm Ds Df Vx Vm ce sl pc lv st0 := by
  intro ax am H locs ls hi hS hl
  have hi0 := hi
  obtain ⟨hpx, rfl, hx, hm, hdj⟩ := hi
  have hK := hX.1.2.2.2.2.2.1
  obtain ⟨cell, q1, q2, q3, q4⟩ := gz_obj (ci := 6) (n := (1, 0, 0)) hm (show tw_S (1, 0, 0) = some (6, 69) from if_pos rfl) (by decide) rfl
  obtain ⟨hSl, hfc, kC, hkC, hkind⟩ := hK.1 6 _ rfl
  have hA := ll_Asub hX hm hS
  have hcw := cwV (R := gx_R X) nA hX.1.2.2.2.2.1 hlw rfl hrc hrs hd (by rw [hX.1.2.2.2.2.2.2.2.2.1]; exact hR)
  exact ll_backM hX hz0 hi0 hS hl (va_runV (As := As) (rest := st) (b := am (1, 0, 0)) (C := RX6) ⟨hX.1.1, hX.1.2.1, hX.1.2.2.1, hX.1.2.2.2.1, hX.1.2.2.2.2.1⟩ (hM am H.size) hcw ⟨gz_blind, ⟨cell, q1, by rw [q3]; rfl, by rw [q2]; exact hfc⟩, fun U hU hW => ⟨rfl, by rw [hU], ⟨by rw [hU]; exact hm.own, va_K.moved hW.alike hK, hX.1.2.2.2.2.2.2.2.2.2.2.2.1.warm hW, hX.1.2.2.2.2.2.2.2.2.2.2.2.2.call hW (by rw [hU]; exact hS.2.1) hA⟩⟩⟩ rfl hn hl.1 hst (lv_room h8) hdg (by rw [hX.1.2.2.2.2.2.2.2.2.1]; exact hf)) k
/-- text -/
theorem ll_callT (hX : lw_ok X b L xs) {Ds2 : gz_S} {Df2 : gz_R} {V2 : gz_V} {c c2 N : Nat} {a1 r : Int32} {index : Nat} (htr : (gx_l X).stackTraces = false) (h97 : Ds (97, 0, 0) = none) (hfree : ∀ n : gz_N, n.1 = 98 → c ≤ n.2.1 → Ds n = none) (h : x0_text N Ds Df Vx c a1 = some (Ds2, Df2, V2, c2, r)) (hlk : Cond.methodLink R_law index yX0_text ∈ lw_all) (hf : ce + 1000 ≤ 601024 ∧ sl + 24000 ≤ 7293034) (h8 : (st.map fun v => v.category).sum ≤ 8) (hdg : decode code pc = .ok (.invokevirtual index, 3))
    (k : lW X px pm Ds2 Df2 V2 Vm (ce + 1000) (sl + 24000) (pc + 3) lv (.int r :: st)) : lW X px pm Ds Df Vx Vm ce sl pc lv (.int a1 :: .ref px :: st) := by
  intro ax am H locs ls hi hS hl
  have hi0 := hi
  obtain ⟨rfl, hpm, hx, hm, hdj⟩ := hi
  have hK := hX.1.2.2.2.2.2.1
  obtain ⟨cell, q1, q2, q3, q4⟩ := gz_obj (ci := 0) hx xs_main (by decide) rfl
  obtain ⟨hSl, hfc, kC, hkC, hkind⟩ := hK.1 0 _ rfl
  have hA := ll_Asub hX hx hS
  have hcw := lx_cwVW (R := gx_R X) (hh := x0_hh) (bytes := cX0_text) (maxL := 5) (ret := some .int) (rm := rm_x0_text) (mc := 1000) (ms := 24000) (C := RX0) 1 hX.1.2.2.2.2.1 (lw_VW hlk q506 q507 q144 q508) rfl rfl rfl (by decide +kernel) (by rw [hX.1.2.2.2.2.2.2.2.2.1]; exact ⟨Nat.le_of_ble_eq_true rfl, Nat.le_of_ble_eq_true rfl⟩)
  exact ll_backX (Fi := x0_tFi Ds ax Ds2 Df2 V2 r) (mc := 1000) (ms := 24000) (Ds2 := Ds2) (Df2 := Df2) (V2 := V2) (r := r) hX hi0 hS hl (lx_runVW (As := [.int a1]) (rest := st) (b := ax (10, 0, 0)) (C := RX0) ⟨hX.1.1, hX.1.2.1, hX.1.2.2.1, hX.1.2.2.2.1, hX.1.2.2.2.2.1⟩ (c_x0_text (aC := gx_C X) (D := gx_D X) (ad := ax) htr h97 hfree h H.size) hcw ⟨gz_blind, ⟨cell, q1, by rw [q3]; rfl, by rw [q2]; exact hfc⟩, fun U hU hW => ⟨rfl, by rw [hU], ⟨by rw [hU]; exact hx.own, va_K.moved hW.alike hK, hX.1.2.2.2.2.2.2.2.2.2.2.2.1.warm hW, hX.1.2.2.2.2.2.2.2.2.2.2.2.2.call hW (by rw [hU]; exact hS.2.1) hA⟩⟩⟩ rfl rfl hl.1 rfl (lv_room h8) hdg (by rw [hX.1.2.2.2.2.2.2.2.2.1]; exact hf)) (fun sh2 V2' Rf2 ad2 rv hF => by obtain ⟨rfl, rfl, rfl, hag, rfl⟩ := hF; exact ⟨rfl, rfl, rfl, hag _ (Or.inl (gz_nn xs_main)), rfl⟩) k
end LWC
