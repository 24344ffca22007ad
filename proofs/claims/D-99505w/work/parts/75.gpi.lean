/-! CONSTRUCTORS of terms, lines, offers, habits. Printed by wip/D-99505w/gen/mkini7.py -/
set_option maxRecDepth 100000
section GPI
variable {X : gz_X} {cc : ByteArray} {own mn : String} {nL : Nat} {rm : Room} {ret : Option FieldType} {sh sh2 : gz_S} {Rf Rf2 : gz_R} {ad : gz_A0} {V V2 : gz_V} {ce sl pc : Nat} {lv : List (Nat × Value)} {st : List Value}
theorem gn_putN (hX : gz_ok X cc own "<init>" nL rm ret) {C : String} {T : u_T} {N N0 ci index : Nat} {n : gz_N} (hin : ∀ w ∈ u_ws C T N, w ∈ lw_all) (hap : ∀ x y, x < N → y < N → x ≠ y → ((gx_D X).2 ci) x ≠ ((gx_D X).2 ci) y) (hci : ci < 100) (hc : gzCl[ci]? = some (C, T, N)) (hsh : sh n = some (ci, N0)) (hn0 : n.1 ≠ 0) (f : Nat) (hf : f < N) (hlink : Cond.fieldLink own index (T f).1 (T f).2.1 (T f).2.2.1 ∈ lw_all) (hfin : (T f).2.2.2 = true) (hdecl : (T f).1 = own) (hr : gz_isr (gz_ty ci f) = true) {ty : FieldType} (hd : parseFieldDescriptor (T f).2.2.1 = some ty) (hn : narrow ty .null = .null) (hfit : fits ty .null = true) (hdg : decode cc pc = .ok (.putfield index, 3))
    (k : gW X nL sh (gz_ur Rf n f none) ad V ce sl (pc + 3) lv st) : gW X nL sh Rf ad V ce sl pc lv (.null :: .ref (ad n) :: st) :=
  gn_putG hX hin hap hci hc hsh hn0 f hf hlink hfin hdecl hd hn hfit hdg (fun j => gz_fv_ur (x := none) hr j) (fun _ _ => rfl) (fun a h => gz_ur_ne h) (fun g b2 h h0 => by
    rw [gz_ur_eq] at h
    dsimp only at h
    by_cases e : g = f
    · rw [if_pos e] at h
      cases h
    · rw [if_neg e] at h
      exact Or.inl h) k
end GPI
def rm_x9_init : Room := { frames := 1, cells := 0, slots := 0, locals := 12 }
theorem c_x9_init {l : Launch} {D : va_G} {aC : Nat → ClassId} {ad : gz_A0} {sh : gz_S} {V : gz_V} {Rf : gz_R} {n : gz_N} : gz_Met l yX9_init cX9_init 1 none rm_x9_init D aC ad sh V Rf [.ref (ad n)] (gz_F1 sh Rf ad V none) 0 0 := by
  refine gz_ofW (own := RX9) (mn := "<init>") (lv := [(0, .ref (ad n))]) (by decide) rfl rfl (Nat.le_of_ble_eq_true rfl) rfl ?_
  intro X hX _ _ _ h5 h6 h7 hE
  refine gz_aload_n (q := 0) hX dX9_init_0 rfl rfl ?_
  refine gn_obj0 hX q767 (by decide) dX9_init_1 ?_
  exact gn_ret hX hE h5 h6 h7 ⟨rfl, rfl, rfl, rfl, rfl⟩ dX9_init_4
def rm_x10_init : Room := { frames := 2, cells := 0, slots := 0, locals := 40 }
theorem c_x10_init {l : Launch} {D : va_G} {aC : Nat → ClassId} {ad : gz_A0} {sh : gz_S} {V : gz_V} {Rf : gz_R} {n : gz_N} {x1 : Int32} (hs : sh n = some (9, 1)) (h0 : n.1 ≠ 0) : gz_Met l yX10_init cX10_init 2 none rm_x10_init D aC ad sh V Rf [.ref (ad n), .int x1] (gz_F1 sh Rf ad (gz_up V n 0 x1) none) 0 0 := by
  refine gz_ofW (own := RX10) (mn := "<init>") (lv := [(0, .ref (ad n)), (1, .int x1)]) (by decide) rfl rfl (Nat.le_of_ble_eq_true rfl) rfl ?_
  intro X hX _ _ _ h5 h6 h7 hE
  refine gz_aload_n (q := 0) hX dX10_init_0 rfl rfl ?_
  refine gn_callIN (nA := 0) (As := []) (rest := []) (n := n) hX c_x9_init (lw_meth q766) q164 q764 q765 rfl rfl rfl (by decide +kernel) (by decide) (by decide) rfl rfl (by decide) dX10_init_1 ?_
  rintro sh2 V2 Rf2 ad2 rv ⟨rfl, rfl, rfl, rfl, rfl⟩
  refine gz_aload_n (q := 0) hX dX10_init_4 rfl rfl ?_
  refine gz_iload_n (q := 1) hX dX10_init_5 rfl rfl ?_
  refine gn_putI (ci := 9) hX in_X10 (gz_apart hX in_X10 tyX10 tyX10_ok nmX10 rfl) (by decide) rfl hs h0 0 (by decide) q768 rfl rfl rfl (tyX10_ok 0 (by decide)) rfl rfl dX10_init_6 ?_
  exact gn_ret hX hE h5 h6 h7 ⟨rfl, rfl, rfl, rfl, rfl⟩ dX10_init_9
def rm_x11_init : Room := { frames := 2, cells := 0, slots := 0, locals := 40 }
theorem c_x11_init {l : Launch} {D : va_G} {aC : Nat → ClassId} {ad : gz_A0} {sh : gz_S} {V : gz_V} {Rf : gz_R} {n : gz_N} {x1 : Int32} (hs : sh n = some (10, 1)) (h0 : n.1 ≠ 0) : gz_Met l yX11_init cX11_init 2 none rm_x11_init D aC ad sh V Rf [.ref (ad n), .int x1] (gz_F1 sh Rf ad (gz_up V n 0 x1) none) 0 0 := by
  refine gz_ofW (own := RX11) (mn := "<init>") (lv := [(0, .ref (ad n)), (1, .int x1)]) (by decide) rfl rfl (Nat.le_of_ble_eq_true rfl) rfl ?_
  intro X hX _ _ _ h5 h6 h7 hE
  refine gz_aload_n (q := 0) hX dX11_init_0 rfl rfl ?_
  refine gn_callIN (nA := 0) (As := []) (rest := []) (n := n) hX c_x9_init (lw_meth q766) q164 q777 q765 rfl rfl rfl (by decide +kernel) (by decide) (by decide) rfl rfl (by decide) dX11_init_1 ?_
  rintro sh2 V2 Rf2 ad2 rv ⟨rfl, rfl, rfl, rfl, rfl⟩
  refine gz_aload_n (q := 0) hX dX11_init_4 rfl rfl ?_
  refine gz_iload_n (q := 1) hX dX11_init_5 rfl rfl ?_
  refine gn_putI (ci := 10) hX in_X11 (gz_apart hX in_X11 tyX11 tyX11_ok nmX11 rfl) (by decide) rfl hs h0 0 (by decide) q778 rfl rfl rfl (tyX11_ok 0 (by decide)) rfl rfl dX11_init_6 ?_
  exact gn_ret hX hE h5 h6 h7 ⟨rfl, rfl, rfl, rfl, rfl⟩ dX11_init_9
def rm_x12_init : Room := { frames := 2, cells := 0, slots := 0, locals := 40 }
theorem c_x12_init {l : Launch} {D : va_G} {aC : Nat → ClassId} {ad : gz_A0} {sh : gz_S} {V : gz_V} {Rf : gz_R} {n b1 b3 : gz_N} {x2 : Int32} (hs : sh n = some (11, 3)) (h0 : n.1 ≠ 0) (hb1 : sh b1 ≠ none) (hb3 : sh b3 ≠ none) : gz_Met l yX12_init cX12_init 4 none rm_x12_init D aC ad sh V Rf [.ref (ad n), .ref (ad b1), .int x2, .ref (ad b3)] (gz_F1 sh (gz_ur (gz_ur Rf n 0 (some b1)) n 1 (some b3)) ad (gz_up V n 2 x2) none) 0 0 := by
  refine gz_ofW (own := RX12) (mn := "<init>") (lv := [(0, .ref (ad n)), (1, .ref (ad b1)), (2, .int x2), (3, .ref (ad b3))]) (by decide) rfl rfl (Nat.le_of_ble_eq_true rfl) rfl ?_
  intro X hX _ _ _ h5 h6 h7 hE
  refine gz_aload_n (q := 0) hX dX12_init_0 rfl rfl ?_
  refine gn_callIN (nA := 0) (As := []) (rest := []) (n := n) hX c_x9_init (lw_meth q766) q164 q787 q765 rfl rfl rfl (by decide +kernel) (by decide) (by decide) rfl rfl (by decide) dX12_init_1 ?_
  rintro sh2 V2 Rf2 ad2 rv ⟨rfl, rfl, rfl, rfl, rfl⟩
  refine gz_aload_n (q := 0) hX dX12_init_4 rfl rfl ?_
  refine gz_aload_n (q := 1) hX dX12_init_5 rfl rfl ?_
  refine gn_putR (ci := 11) hX in_X12 (gz_apart hX in_X12 tyX12 tyX12_ok nmX12 rfl) (by decide) rfl hs h0 0 (by decide) q788 rfl rfl rfl (tyX12_ok 0 (by decide)) rfl rfl hb1 dX12_init_6 ?_
  refine gz_aload_n (q := 0) hX dX12_init_9 rfl rfl ?_
  refine gz_iload_n (q := 2) hX dX12_init_10 rfl rfl ?_
  refine gn_putI (ci := 11) hX in_X12 (gz_apart hX in_X12 tyX12 tyX12_ok nmX12 rfl) (by decide) rfl hs h0 2 (by decide) q790 rfl rfl rfl (tyX12_ok 2 (by decide)) rfl rfl dX12_init_11 ?_
  refine gz_aload_n (q := 0) hX dX12_init_14 rfl rfl ?_
  refine gz_aload_n (q := 3) hX dX12_init_15 rfl rfl ?_
  refine gn_putR (ci := 11) hX in_X12 (gz_apart hX in_X12 tyX12 tyX12_ok nmX12 rfl) (by decide) rfl hs h0 1 (by decide) q789 rfl rfl rfl (tyX12_ok 1 (by decide)) rfl rfl hb3 dX12_init_16 ?_
  exact gn_ret hX hE h5 h6 h7 ⟨rfl, rfl, rfl, rfl, rfl⟩ dX12_init_19
def rm_x13_init : Room := { frames := 2, cells := 0, slots := 0, locals := 40 }
theorem c_x13_init {l : Launch} {D : va_G} {aC : Nat → ClassId} {ad : gz_A0} {sh : gz_S} {V : gz_V} {Rf : gz_R} {n b1 : gz_N} (hs : sh n = some (12, 1)) (h0 : n.1 ≠ 0) (hb1 : sh b1 ≠ none) : gz_Met l yX13_init cX13_init 2 none rm_x13_init D aC ad sh V Rf [.ref (ad n), .ref (ad b1)] (gz_F1 sh (gz_ur Rf n 0 (some b1)) ad V none) 0 0 := by
  refine gz_ofW (own := RX13) (mn := "<init>") (lv := [(0, .ref (ad n)), (1, .ref (ad b1))]) (by decide) rfl rfl (Nat.le_of_ble_eq_true rfl) rfl ?_
  intro X hX _ _ _ h5 h6 h7 hE
  refine gz_aload_n (q := 0) hX dX13_init_0 rfl rfl ?_
  refine gn_callIN (nA := 0) (As := []) (rest := []) (n := n) hX c_x9_init (lw_meth q766) q164 q819 q765 rfl rfl rfl (by decide +kernel) (by decide) (by decide) rfl rfl (by decide) dX13_init_1 ?_
  rintro sh2 V2 Rf2 ad2 rv ⟨rfl, rfl, rfl, rfl, rfl⟩
  refine gz_aload_n (q := 0) hX dX13_init_4 rfl rfl ?_
  refine gz_aload_n (q := 1) hX dX13_init_5 rfl rfl ?_
  refine gn_putR (ci := 12) hX in_X13 (gz_apart hX in_X13 tyX13 tyX13_ok nmX13 rfl) (by decide) rfl hs h0 0 (by decide) q820 rfl rfl rfl (tyX13_ok 0 (by decide)) rfl rfl hb1 dX13_init_6 ?_
  exact gn_ret hX hE h5 h6 h7 ⟨rfl, rfl, rfl, rfl, rfl⟩ dX13_init_9
def rm_x14_init : Room := { frames := 1, cells := 0, slots := 0, locals := 12 }
theorem c_x14_init {l : Launch} {D : va_G} {aC : Nat → ClassId} {ad : gz_A0} {sh : gz_S} {V : gz_V} {Rf : gz_R} {n b2 b3 : gz_N} {x1 : Int32} (hs : sh n = some (13, 3)) (h0 : n.1 ≠ 0) (hb2 : sh b2 ≠ none) (hb3 : sh b3 ≠ none) : gz_Met l yX14_init cX14_init 4 none rm_x14_init D aC ad sh V Rf [.ref (ad n), .int x1, .ref (ad b2), .ref (ad b3)] (gz_F1 sh (gz_ur (gz_ur Rf n 1 (some b2)) n 2 (some b3)) ad (gz_up V n 0 x1) none) 0 0 := by
  refine gz_ofW (own := RX14) (mn := "<init>") (lv := [(0, .ref (ad n)), (1, .int x1), (2, .ref (ad b2)), (3, .ref (ad b3))]) (by decide) rfl rfl (Nat.le_of_ble_eq_true rfl) rfl ?_
  intro X hX _ _ _ h5 h6 h7 hE
  refine gz_aload_n (q := 0) hX dX14_init_0 rfl rfl ?_
  refine gn_obj0 hX q833 (by decide) dX14_init_1 ?_
  refine gz_aload_n (q := 0) hX dX14_init_4 rfl rfl ?_
  refine gz_iload_n (q := 1) hX dX14_init_5 rfl rfl ?_
  refine gn_putI (ci := 13) hX in_X14 (gz_apart hX in_X14 tyX14 tyX14_ok nmX14 rfl) (by decide) rfl hs h0 0 (by decide) q834 rfl rfl rfl (tyX14_ok 0 (by decide)) rfl rfl dX14_init_6 ?_
  refine gz_aload_n (q := 0) hX dX14_init_9 rfl rfl ?_
  refine gz_aload_n (q := 2) hX dX14_init_10 rfl rfl ?_
  refine gn_putR (ci := 13) hX in_X14 (gz_apart hX in_X14 tyX14 tyX14_ok nmX14 rfl) (by decide) rfl hs h0 1 (by decide) q836 rfl rfl rfl (tyX14_ok 1 (by decide)) rfl rfl hb2 dX14_init_11 ?_
  refine gz_aload_n (q := 0) hX dX14_init_14 rfl rfl ?_
  refine gz_aload_n (q := 3) hX dX14_init_15 rfl rfl ?_
  refine gn_putR (ci := 13) hX in_X14 (gz_apart hX in_X14 tyX14 tyX14_ok nmX14 rfl) (by decide) rfl hs h0 2 (by decide) q838 rfl rfl rfl (tyX14_ok 2 (by decide)) rfl rfl hb3 dX14_init_16 ?_
  exact gn_ret hX hE h5 h6 h7 ⟨rfl, rfl, rfl, rfl, rfl⟩ dX14_init_19
theorem c_x14_init_0 {l : Launch} {D : va_G} {aC : Nat → ClassId} {ad : gz_A0} {sh : gz_S} {V : gz_V} {Rf : gz_R} {n b2 : gz_N} {x1 : Int32} (hs : sh n = some (13, 3)) (h0 : n.1 ≠ 0) (hb2 : sh b2 ≠ none) : gz_Met l yX14_init cX14_init 4 none rm_x14_init D aC ad sh V Rf [.ref (ad n), .int x1, .ref (ad b2), .null] (gz_F1 sh (gz_ur (gz_ur Rf n 1 (some b2)) n 2 none) ad (gz_up V n 0 x1) none) 0 0 := by
  refine gz_ofW (own := RX14) (mn := "<init>") (lv := [(0, .ref (ad n)), (1, .int x1), (2, .ref (ad b2)), (3, .null)]) (by decide) rfl rfl (Nat.le_of_ble_eq_true rfl) rfl ?_
  intro X hX _ _ _ h5 h6 h7 hE
  refine gz_aload_n (q := 0) hX dX14_init_0 rfl rfl ?_
  refine gn_obj0 hX q833 (by decide) dX14_init_1 ?_
  refine gz_aload_n (q := 0) hX dX14_init_4 rfl rfl ?_
  refine gz_iload_n (q := 1) hX dX14_init_5 rfl rfl ?_
  refine gn_putI (ci := 13) hX in_X14 (gz_apart hX in_X14 tyX14 tyX14_ok nmX14 rfl) (by decide) rfl hs h0 0 (by decide) q834 rfl rfl rfl (tyX14_ok 0 (by decide)) rfl rfl dX14_init_6 ?_
  refine gz_aload_n (q := 0) hX dX14_init_9 rfl rfl ?_
  refine gz_aload_n (q := 2) hX dX14_init_10 rfl rfl ?_
  refine gn_putR (ci := 13) hX in_X14 (gz_apart hX in_X14 tyX14 tyX14_ok nmX14 rfl) (by decide) rfl hs h0 1 (by decide) q836 rfl rfl rfl (tyX14_ok 1 (by decide)) rfl rfl hb2 dX14_init_11 ?_
  refine gz_aload_n (q := 0) hX dX14_init_14 rfl rfl ?_
  refine gz_aload_nN (q := 3) hX dX14_init_15 rfl rfl ?_
  refine gn_putN (ci := 13) hX in_X14 (gz_apart hX in_X14 tyX14 tyX14_ok nmX14 rfl) (by decide) rfl hs h0 2 (by decide) q838 rfl rfl rfl (tyX14_ok 2 (by decide)) rfl rfl dX14_init_16 ?_
  exact gn_ret hX hE h5 h6 h7 ⟨rfl, rfl, rfl, rfl, rfl⟩ dX14_init_19
def rm_x15_init : Room := { frames := 1, cells := 0, slots := 0, locals := 12 }
theorem c_x15_init {l : Launch} {D : va_G} {aC : Nat → ClassId} {ad : gz_A0} {sh : gz_S} {V : gz_V} {Rf : gz_R} {n : gz_N} {x1 x2 x3 x4 x5 : Int32} (hs : sh n = some (14, 5)) (h0 : n.1 ≠ 0) : gz_Met l yX15_init cX15_init 6 none rm_x15_init D aC ad sh V Rf [.ref (ad n), .int x1, .int x2, .int x3, .int x4, .int x5] (gz_F1 sh Rf ad (gz_up (gz_up (gz_up (gz_up (gz_up V n 0 x1) n 1 x2) n 2 x3) n 3 x4) n 4 x5) none) 0 0 := by
  refine gz_ofW (own := RX15) (mn := "<init>") (lv := [(0, .ref (ad n)), (1, .int x1), (2, .int x2), (3, .int x3), (4, .int x4), (5, .int x5)]) (by decide) rfl rfl (Nat.le_of_ble_eq_true rfl) rfl ?_
  intro X hX _ _ _ h5 h6 h7 hE
  refine gz_aload_n (q := 0) hX dX15_init_0 rfl rfl ?_
  refine gn_obj0 hX q927 (by decide) dX15_init_1 ?_
  refine gz_aload_n (q := 0) hX dX15_init_4 rfl rfl ?_
  refine gz_iload_n (q := 1) hX dX15_init_5 rfl rfl ?_
  refine gn_putI (ci := 14) hX in_X15 (gz_apart hX in_X15 tyX15 tyX15_ok nmX15 rfl) (by decide) rfl hs h0 0 (by decide) q928 rfl rfl rfl (tyX15_ok 0 (by decide)) rfl rfl dX15_init_6 ?_
  refine gz_aload_n (q := 0) hX dX15_init_9 rfl rfl ?_
  refine gz_iload_n (q := 2) hX dX15_init_10 rfl rfl ?_
  refine gn_putI (ci := 14) hX in_X15 (gz_apart hX in_X15 tyX15 tyX15_ok nmX15 rfl) (by decide) rfl hs h0 1 (by decide) q930 rfl rfl rfl (tyX15_ok 1 (by decide)) rfl rfl dX15_init_11 ?_
  refine gz_aload_n (q := 0) hX dX15_init_14 rfl rfl ?_
  refine gz_iload_n (q := 3) hX dX15_init_15 rfl rfl ?_
  refine gn_putI (ci := 14) hX in_X15 (gz_apart hX in_X15 tyX15 tyX15_ok nmX15 rfl) (by decide) rfl hs h0 2 (by decide) q932 rfl rfl rfl (tyX15_ok 2 (by decide)) rfl rfl dX15_init_16 ?_
  refine gz_aload_n (q := 0) hX dX15_init_19 rfl rfl ?_
  refine gz_iload (q := 4) hX dX15_init_20 rfl ?_
  refine gn_putI (ci := 14) hX in_X15 (gz_apart hX in_X15 tyX15 tyX15_ok nmX15 rfl) (by decide) rfl hs h0 3 (by decide) q934 rfl rfl rfl (tyX15_ok 3 (by decide)) rfl rfl dX15_init_22 ?_
  refine gz_aload_n (q := 0) hX dX15_init_25 rfl rfl ?_
  refine gz_iload (q := 5) hX dX15_init_26 rfl ?_
  refine gn_putI (ci := 14) hX in_X15 (gz_apart hX in_X15 tyX15 tyX15_ok nmX15 rfl) (by decide) rfl hs h0 4 (by decide) q936 rfl rfl rfl (tyX15_ok 4 (by decide)) rfl rfl dX15_init_28 ?_
  exact gn_ret hX hE h5 h6 h7 ⟨rfl, rfl, rfl, rfl, rfl⟩ dX15_init_31
def rm_x16_init : Room := { frames := 1, cells := 0, slots := 0, locals := 12 }
theorem c_x16_init_X17 {l : Launch} {D : va_G} {aC : Nat → ClassId} {ad : gz_A0} {sh : gz_S} {V : gz_V} {Rf : gz_R} {n : gz_N} {x1 x2 : Int32} (hs : sh n = some (15, 3)) (h0 : n.1 ≠ 0) : gz_Met l yX16_init cX16_init 3 none rm_x16_init D aC ad sh V Rf [.ref (ad n), .int x1, .int x2] (gz_F1 sh Rf ad (gz_up (gz_up V n 0 x1) n 1 x2) none) 0 0 := by
  refine gz_ofW (own := RX16) (mn := "<init>") (lv := [(0, .ref (ad n)), (1, .int x1), (2, .int x2)]) (by decide) rfl rfl (Nat.le_of_ble_eq_true rfl) rfl ?_
  intro X hX _ _ _ h5 h6 h7 hE
  refine gz_aload_n (q := 0) hX dX16_init_0 rfl rfl ?_
  refine gn_obj0 hX q973 (by decide) dX16_init_1 ?_
  refine gz_aload_n (q := 0) hX dX16_init_4 rfl rfl ?_
  refine gz_iload_n (q := 1) hX dX16_init_5 rfl rfl ?_
  refine gn_putI (ci := 15) hX in_X17 (gz_apart hX in_X17 tyX17 tyX17_ok nmX17 rfl) (by decide) rfl hs h0 0 (by decide) q975 rfl rfl rfl (tyX17_ok 0 (by decide)) rfl rfl dX16_init_6 ?_
  refine gz_aload_n (q := 0) hX dX16_init_9 rfl rfl ?_
  refine gz_iload_n (q := 2) hX dX16_init_10 rfl rfl ?_
  refine gn_putI (ci := 15) hX in_X17 (gz_apart hX in_X17 tyX17 tyX17_ok nmX17 rfl) (by decide) rfl hs h0 1 (by decide) q976 rfl rfl rfl (tyX17_ok 1 (by decide)) rfl rfl dX16_init_11 ?_
  exact gn_ret hX hE h5 h6 h7 ⟨rfl, rfl, rfl, rfl, rfl⟩ dX16_init_14
def rm_x17_init : Room := { frames := 2, cells := 0, slots := 0, locals := 40 }
theorem c_x17_init {l : Launch} {D : va_G} {aC : Nat → ClassId} {ad : gz_A0} {sh : gz_S} {V : gz_V} {Rf : gz_R} {n : gz_N} {x1 x2 x3 : Int32} (hs : sh n = some (15, 3)) (h0 : n.1 ≠ 0) : gz_Met l yX17_init cX17_init 4 none rm_x17_init D aC ad sh V Rf [.ref (ad n), .int x1, .int x2, .int x3] (gz_F1 sh Rf ad (gz_up (gz_up (gz_up V n 0 x1) n 1 x2) n 2 x3) none) 0 0 := by
  refine gz_ofW (own := RX17) (mn := "<init>") (lv := [(0, .ref (ad n)), (1, .int x1), (2, .int x2), (3, .int x3)]) (by decide) rfl rfl (Nat.le_of_ble_eq_true rfl) rfl ?_
  intro X hX _ _ _ h5 h6 h7 hE
  refine gz_aload_n (q := 0) hX dX17_init_0 rfl rfl ?_
  refine gz_iload_n (q := 1) hX dX17_init_1 rfl rfl ?_
  refine gz_iload_n (q := 2) hX dX17_init_2 rfl rfl ?_
  refine gn_callI (nA := 2) (As := [.int x1, .int x2]) (rest := []) (n := n) hX (c_x16_init_X17 hs h0) (lw_meth q972) q174 q970 q971 rfl rfl rfl (by decide +kernel) (by decide) (by decide) rfl rfl (by decide) dX17_init_3 ?_
  rintro sh2 V2 Rf2 ad2 rv ⟨rfl, rfl, rfl, rfl, rfl⟩
  refine gz_aload_n (q := 0) hX dX17_init_6 rfl rfl ?_
  refine gz_iload_n (q := 3) hX dX17_init_7 rfl rfl ?_
  refine gn_putI (ci := 15) hX in_X17 (gz_apart hX in_X17 tyX17 tyX17_ok nmX17 rfl) (by decide) rfl hs h0 2 (by decide) q974 rfl rfl rfl (tyX17_ok 2 (by decide)) rfl rfl dX17_init_8 ?_
  exact gn_ret hX hE h5 h6 h7 ⟨rfl, rfl, rfl, rfl, rfl⟩ dX17_init_11
theorem c_x16_init_X18 {l : Launch} {D : va_G} {aC : Nat → ClassId} {ad : gz_A0} {sh : gz_S} {V : gz_V} {Rf : gz_R} {n : gz_N} {x1 x2 : Int32} (hs : sh n = some (16, 4)) (h0 : n.1 ≠ 0) : gz_Met l yX16_init cX16_init 3 none rm_x16_init D aC ad sh V Rf [.ref (ad n), .int x1, .int x2] (gz_F1 sh Rf ad (gz_up (gz_up V n 0 x1) n 1 x2) none) 0 0 := by
  refine gz_ofW (own := RX16) (mn := "<init>") (lv := [(0, .ref (ad n)), (1, .int x1), (2, .int x2)]) (by decide) rfl rfl (Nat.le_of_ble_eq_true rfl) rfl ?_
  intro X hX _ _ _ h5 h6 h7 hE
  refine gz_aload_n (q := 0) hX dX16_init_0 rfl rfl ?_
  refine gn_obj0 hX q973 (by decide) dX16_init_1 ?_
  refine gz_aload_n (q := 0) hX dX16_init_4 rfl rfl ?_
  refine gz_iload_n (q := 1) hX dX16_init_5 rfl rfl ?_
  refine gn_putI (ci := 16) hX in_X18 (gz_apart hX in_X18 tyX18 tyX18_ok nmX18 rfl) (by decide) rfl hs h0 0 (by decide) q975 rfl rfl rfl (tyX18_ok 0 (by decide)) rfl rfl dX16_init_6 ?_
  refine gz_aload_n (q := 0) hX dX16_init_9 rfl rfl ?_
  refine gz_iload_n (q := 2) hX dX16_init_10 rfl rfl ?_
  refine gn_putI (ci := 16) hX in_X18 (gz_apart hX in_X18 tyX18 tyX18_ok nmX18 rfl) (by decide) rfl hs h0 1 (by decide) q976 rfl rfl rfl (tyX18_ok 1 (by decide)) rfl rfl dX16_init_11 ?_
  exact gn_ret hX hE h5 h6 h7 ⟨rfl, rfl, rfl, rfl, rfl⟩ dX16_init_14
def rm_x18_init : Room := { frames := 2, cells := 0, slots := 0, locals := 40 }
theorem c_x18_init {l : Launch} {D : va_G} {aC : Nat → ClassId} {ad : gz_A0} {sh : gz_S} {V : gz_V} {Rf : gz_R} {n : gz_N} {x1 x2 x3 x4 : Int32} (hs : sh n = some (16, 4)) (h0 : n.1 ≠ 0) : gz_Met l yX18_init cX18_init 5 none rm_x18_init D aC ad sh V Rf [.ref (ad n), .int x1, .int x2, .int x3, .int x4] (gz_F1 sh Rf ad (gz_up (gz_up (gz_up (gz_up V n 0 x1) n 1 x2) n 2 x3) n 3 x4) none) 0 0 := by
  refine gz_ofW (own := RX18) (mn := "<init>") (lv := [(0, .ref (ad n)), (1, .int x1), (2, .int x2), (3, .int x3), (4, .int x4)]) (by decide) rfl rfl (Nat.le_of_ble_eq_true rfl) rfl ?_
  intro X hX _ _ _ h5 h6 h7 hE
  refine gz_aload_n (q := 0) hX dX18_init_0 rfl rfl ?_
  refine gz_iload_n (q := 1) hX dX18_init_1 rfl rfl ?_
  refine gz_iload_n (q := 2) hX dX18_init_2 rfl rfl ?_
  refine gn_callI (nA := 2) (As := [.int x1, .int x2]) (rest := []) (n := n) hX (c_x16_init_X18 hs h0) (lw_meth q972) q174 q989 q971 rfl rfl rfl (by decide +kernel) (by decide) (by decide) rfl rfl (by decide) dX18_init_3 ?_
  rintro sh2 V2 Rf2 ad2 rv ⟨rfl, rfl, rfl, rfl, rfl⟩
  refine gz_aload_n (q := 0) hX dX18_init_6 rfl rfl ?_
  refine gz_iload_n (q := 3) hX dX18_init_7 rfl rfl ?_
  refine gn_putI (ci := 16) hX in_X18 (gz_apart hX in_X18 tyX18 tyX18_ok nmX18 rfl) (by decide) rfl hs h0 2 (by decide) q990 rfl rfl rfl (tyX18_ok 2 (by decide)) rfl rfl dX18_init_8 ?_
  refine gz_aload_n (q := 0) hX dX18_init_11 rfl rfl ?_
  refine gz_iload (q := 4) hX dX18_init_12 rfl ?_
  refine gn_putI (ci := 16) hX in_X18 (gz_apart hX in_X18 tyX18 tyX18_ok nmX18 rfl) (by decide) rfl hs h0 3 (by decide) q991 rfl rfl rfl (tyX18_ok 3 (by decide)) rfl rfl dX18_init_14 ?_
  exact gn_ret hX hE h5 h6 h7 ⟨rfl, rfl, rfl, rfl, rfl⟩ dX18_init_17
theorem c_x16_init_X19 {l : Launch} {D : va_G} {aC : Nat → ClassId} {ad : gz_A0} {sh : gz_S} {V : gz_V} {Rf : gz_R} {n : gz_N} {x1 x2 : Int32} (hs : sh n = some (17, 3)) (h0 : n.1 ≠ 0) : gz_Met l yX16_init cX16_init 3 none rm_x16_init D aC ad sh V Rf [.ref (ad n), .int x1, .int x2] (gz_F1 sh Rf ad (gz_up (gz_up V n 0 x1) n 1 x2) none) 0 0 := by
  refine gz_ofW (own := RX16) (mn := "<init>") (lv := [(0, .ref (ad n)), (1, .int x1), (2, .int x2)]) (by decide) rfl rfl (Nat.le_of_ble_eq_true rfl) rfl ?_
  intro X hX _ _ _ h5 h6 h7 hE
  refine gz_aload_n (q := 0) hX dX16_init_0 rfl rfl ?_
  refine gn_obj0 hX q973 (by decide) dX16_init_1 ?_
  refine gz_aload_n (q := 0) hX dX16_init_4 rfl rfl ?_
  refine gz_iload_n (q := 1) hX dX16_init_5 rfl rfl ?_
  refine gn_putI (ci := 17) hX in_X19 (gz_apart hX in_X19 tyX19 tyX19_ok nmX19 rfl) (by decide) rfl hs h0 0 (by decide) q975 rfl rfl rfl (tyX19_ok 0 (by decide)) rfl rfl dX16_init_6 ?_
  refine gz_aload_n (q := 0) hX dX16_init_9 rfl rfl ?_
  refine gz_iload_n (q := 2) hX dX16_init_10 rfl rfl ?_
  refine gn_putI (ci := 17) hX in_X19 (gz_apart hX in_X19 tyX19 tyX19_ok nmX19 rfl) (by decide) rfl hs h0 1 (by decide) q976 rfl rfl rfl (tyX19_ok 1 (by decide)) rfl rfl dX16_init_11 ?_
  exact gn_ret hX hE h5 h6 h7 ⟨rfl, rfl, rfl, rfl, rfl⟩ dX16_init_14
def rm_x19_init : Room := { frames := 2, cells := 0, slots := 0, locals := 40 }
theorem c_x19_init {l : Launch} {D : va_G} {aC : Nat → ClassId} {ad : gz_A0} {sh : gz_S} {V : gz_V} {Rf : gz_R} {n : gz_N} {x1 x2 x3 : Int32} (hs : sh n = some (17, 3)) (h0 : n.1 ≠ 0) : gz_Met l yX19_init cX19_init 4 none rm_x19_init D aC ad sh V Rf [.ref (ad n), .int x1, .int x2, .int x3] (gz_F1 sh Rf ad (gz_up (gz_up (gz_up V n 0 x1) n 1 x2) n 2 x3) none) 0 0 := by
  refine gz_ofW (own := RX19) (mn := "<init>") (lv := [(0, .ref (ad n)), (1, .int x1), (2, .int x2), (3, .int x3)]) (by decide) rfl rfl (Nat.le_of_ble_eq_true rfl) rfl ?_
  intro X hX _ _ _ h5 h6 h7 hE
  refine gz_aload_n (q := 0) hX dX19_init_0 rfl rfl ?_
  refine gz_iload_n (q := 1) hX dX19_init_1 rfl rfl ?_
  refine gz_iload_n (q := 2) hX dX19_init_2 rfl rfl ?_
  refine gn_callI (nA := 2) (As := [.int x1, .int x2]) (rest := []) (n := n) hX (c_x16_init_X19 hs h0) (lw_meth q972) q174 q1004 q971 rfl rfl rfl (by decide +kernel) (by decide) (by decide) rfl rfl (by decide) dX19_init_3 ?_
  rintro sh2 V2 Rf2 ad2 rv ⟨rfl, rfl, rfl, rfl, rfl⟩
  refine gz_aload_n (q := 0) hX dX19_init_6 rfl rfl ?_
  refine gz_iload_n (q := 3) hX dX19_init_7 rfl rfl ?_
  refine gn_putI (ci := 17) hX in_X19 (gz_apart hX in_X19 tyX19 tyX19_ok nmX19 rfl) (by decide) rfl hs h0 2 (by decide) q1005 rfl rfl rfl (tyX19_ok 2 (by decide)) rfl rfl dX19_init_8 ?_
  exact gn_ret hX hE h5 h6 h7 ⟨rfl, rfl, rfl, rfl, rfl⟩ dX19_init_11
