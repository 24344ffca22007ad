/-! STRING CONSTANTS in named worlds: string i (its place in gzTx) lies at aC (2000 + i), its bytes at aC (3000 + i) -/
set_option maxRecDepth 100000
section GST
variable {X : gz_X} {cc : ByteArray} {own mn : String} {nL : Nat} {rm : Room} {ret : Option FieldType} {sh : gz_S} {Rf : gz_R} {ad : gz_A0} {V : gz_V} {ce sl pc : Nat} {lv : List (Nat × Value)} {st : List Value} {i : Nat}
theorem gs_val (hX : gz_ok X cc own mn nL rm ret) (hi : i < 27) {ix : Nat} (hlink : Cond.fieldLink own ix "java/lang/String" "value" "[B" ∈ lw_all) (hdg : decode cc pc = .ok (.getfield ix, 3)) (k : gW X nL sh Rf ad V ce sl (pc + 3) lv (.ref (gx_C X (3000 + i)) :: st)) : gW X nL sh Rf ad V ce sl pc lv (.ref (gx_C X (2000 + i)) :: st) := fun H locs ls hw hS hl =>
  vk_getf hX.1 hX.2.1 (hX.2.2.2.2.2.2.2.2.2.2.2.2.2.2.2.2.2.2.2.1.1 i hi).2.2.1 hS hX.2.2.2.1 (hX.2.2.2.2.1 _ hlink) (fun x h => h) hdg (k H locs ls hw hS hl)
theorem gs_coder (hX : gz_ok X cc own mn nL rm ret) (hi : i < 27) {ix : Nat} (hlink : Cond.fieldLink own ix "java/lang/String" "coder" "B" ∈ lw_all) (hdg : decode cc pc = .ok (.getfield ix, 3)) (k : gW X nL sh Rf ad V ce sl (pc + 3) lv (.int 0 :: st)) : gW X nL sh Rf ad V ce sl pc lv (.ref (gx_C X (2000 + i)) :: st) := fun H locs ls hw hS hl =>
  vk_getf hX.1 hX.2.1 (hX.2.2.2.2.2.2.2.2.2.2.2.2.2.2.2.2.2.2.2.1.1 i hi).2.1 hS hX.2.2.2.1 (hX.2.2.2.2.1 _ hlink) (fun x h => h) hdg (k H locs ls hw hS hl)
theorem gs_len (hX : gz_ok X cc own mn nL rm ret) (hi : i < 27) (hdg : decode cc pc = .ok (.arraylength, 1)) (k : gW X nL sh Rf ad V ce sl (pc + 1) lv (.int (Int32.ofNat (gzLn.getD i 0)) :: st)) : gW X nL sh Rf ad V ce sl pc lv (.ref (gx_C X (3000 + i)) :: st) := fun H locs ls hw hS hl =>
  va_tlen hX.1 hX.2.1 (hX.2.2.2.2.2.2.2.2.2.2.2.2.2.2.2.2.2.2.2.1.1 i hi).2.2.2 hS rfl hdg (k H locs ls hw hS hl)
theorem gs_bald (hX : gz_ok X cc own mn nL rm ret) (hi : i < 27) {j : Int32} (hin : vp_in j (gzLn.getD i 0)) (hdg : decode cc pc = .ok (.baload, 1)) (k : gW X nL sh Rf ad V ce sl (pc + 1) lv (.int ((gzBy.getD i []).getD j.toNatClampNeg 0) :: st)) : gW X nL sh Rf ad V ce sl pc lv (.int j :: .ref (gx_C X (3000 + i)) :: st) := fun H locs ls hw hS hl =>
  va_tb hX.1 hX.2.1 (hX.2.2.2.2.2.2.2.2.2.2.2.2.2.2.2.2.2.2.2.1.1 i hi).2.2.2 hS hin rfl hdg (k H locs ls hw hS hl)
theorem gs_ldc (hX : gz_ok X cc "ClaspedFair$Reader" mn nL rm ret) (hi : i < 27) {ix : Nat} (hix : (gzTx.getD i (0, "")).1 = ix) (hdg : decode cc pc = .ok (.ldc ix, 2)) (k : gW X nL sh Rf ad V ce sl (pc + 2) lv (.ref (gx_C X (2000 + i)) :: st)) : gW X nL sh Rf ad V ce sl pc lv st := fun H locs ls hw hS hl =>
  va_ldcS hX.1 hX.2.1 hX.2.2.2.1 (hX.2.2.2.2.2.2.2.2.2.2.2.2.2.2.2.2.2.2.2.2.1 i hi) (by rw [hix]; exact hdg) (k H locs ls hw hS hl)
theorem gs_compact (hX : gz_ok X cc own mn nL rm ret) {ix : Nat} (hlink : Cond.fieldLink own ix "java/lang/String" "COMPACT_STRINGS" "Z" ∈ lw_all) (hdg : decode cc pc = .ok (.getstatic ix, 3)) (k : gW X nL sh Rf ad V ce sl (pc + 3) lv (.int 1 :: st)) : gW X nL sh Rf ad V ce sl pc lv st := fun H locs ls hw hS hl =>
  va_gets hX.1 hX.2.1 hX.2.2.2.2.2.2.2.2.2.2.2.2.2.1 hS hX.2.2.2.1 (hX.2.2.2.2.1 _ hlink) (fun x h => h) hdg (k H locs ls hw hS hl)
theorem gs_form (hX : gz_ok X cc own mn nL rm ret) {ix : Nat} (hlink : Cond.fieldLink own ix "jdk/internal/util/Preconditions" "SIOOBE_FORMATTER" "Ljava/util/function/BiFunction;" ∈ lw_all) (hdg : decode cc pc = .ok (.getstatic ix, 3)) (kn : gW X nL sh Rf ad V ce sl (pc + 3) lv (.null :: st)) (k : ∀ t : Nat, gW X nL sh Rf ad V ce sl (pc + 3) lv (.ref t :: st)) : gW X nL sh Rf ad V ce sl pc lv st := fun H locs ls hw hS hl => by
  rcases hX.2.2.2.2.2.2.2.2.2.2.2.2.2.2.1 with h | ⟨t, h⟩
  · exact va_gets hX.1 hX.2.1 h hS hX.2.2.2.1 (hX.2.2.2.2.1 _ hlink) (fun x h => h) hdg (kn H locs ls hw hS hl)
  · exact va_gets hX.1 hX.2.1 h hS hX.2.2.2.1 (hX.2.2.2.2.1 _ hlink) (fun x h => h) hdg (k t H locs ls hw hS hl)
end GST
/-- a call on a string constant -/
theorem gs_callV {X : gz_X} {cc : ByteArray} {own mn : String} {nL : Nat} {rm : Room} {ret : Option FieldType} {sh : gz_S} {Rf : gz_R} {ad : gz_A0} {V : gz_V} {ce sl pc : Nat} {lv : List (Nat × Value)} {i : Nat} (hX : gz_ok X cc own mn nL rm ret) (hi : i < 27) {y : MethodName} {code : ByteArray} {nL2 : Nat} {ret2 : Option FieldType} {rm2 : Room} {rv : Option Value} {index nA : Nat} {As rest : List Value}
    (hM : gz_Met (gx_l X) y code nL2 ret2 rm2 (gx_D X) (gx_C X) ad sh V Rf (.ref (gx_C X (2000 + i)) :: As) (gz_F1 sh Rf ad V rv) 0 0) (hlw : GoodIn lw_all (wsV own index "java/lang/String" y (ws_ y code nL2 ret2))) (hrc : rm2.cells = 0) (hrs : rm2.slots = 0)
    (hd : y.cls = "java/lang/String" ∧ y.cls ≠ "java/lang/invoke/MethodHandle" ∧ y.cls ≠ "java/lang/invoke/VarHandle" ∧ (parseMethodDescriptor y.desc).map (fun d => d.parameters.length) = some nA) (hR : rm2.frames + 1 ≤ rm.frames ∧ 8 + (nL2 + 11) + rm2.locals ≤ rm.locals) (hf : ce ≤ rm.cells ∧ sl ≤ rm.slots)
    (hn : As.length = nA) {st0 : List Value} (hst : st0 = As.reverse ++ .ref (gx_C X (2000 + i)) :: rest) (h8 : (rest.map fun v => v.category).sum ≤ 8) (hdg : decode cc pc = .ok (.invokevirtual index, 3)) {st1 : List Value} (h1 : rv.toList ++ rest = st1)
    (k : gW X nL sh Rf ad V ce sl (pc + 3) lv st1) : gW X nL sh Rf ad V ce sl pc lv st0 := by
  intro H locs ls hw hS hl
  have hK := hX.2.2.2.2.2.1
  have hA := gz_Asub hX hw hS
  have hrecv := vk_recv hX.2.2.2.2.2.2.2.2.2.2.2.2.2.2.2.2.2.2.2.1 hi hS
  have hcw := cwV (R := gx_R X) nA hX.2.2.2.2.1 hlw rfl hrc hrs hd (by rw [hX.2.2.2.2.2.2.2.2.1]; exact hR)
  refine gz_back (va_runV (As := As) (rest := rest) (b := gx_C X (2000 + i)) (C := "java/lang/String") ⟨hX.1, hX.2.1, hX.2.2.1, hX.2.2.2.1, hX.2.2.2.2.1⟩ (hM H.size) hcw ⟨gz_blind, hrecv, fun U hU hW => ⟨rfl, by rw [hU], ⟨by rw [hU]; exact hw.own, va_K.moved hW.alike hK, hX.2.2.2.2.2.2.2.2.2.2.2.1.warm hW, hX.2.2.2.2.2.2.2.2.2.2.2.2.call hW (by rw [hU]; exact hS.2.1) hA⟩⟩⟩ rfl hn hl.1 hst (lv_room h8) hdg (by rw [hX.2.2.2.2.2.2.2.2.1]; exact hf)) hS hA (fun sh2 V2 Rf2 ad2 rv2 H1 locs1 hw1 hF hS1 => ?_)
  obtain ⟨rfl, rfl, rfl, rfl, rfl⟩ := hF
  rw [h1]
  exact k H1 locs1 ls hw1 hS1 hl
