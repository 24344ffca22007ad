/-! CONSTRUCTORS of ClaspedFair's classes. Printed by wip/D-99505w/gen/mkini.py -/
set_option maxRecDepth 100000
theorem gz_z.us {sh : gz_S} {V : gz_V} {Rf : gz_R} {n : gz_N} {t : Nat × Nat} (h : gz_z sh V Rf) : gz_z (gz_us sh n t) V Rf := fun a ha => h a (Classical.byContradiction fun q => gz_us_nn a q ha)
theorem gz_z.ur {sh : gz_S} {V : gz_V} {Rf : gz_R} {n : gz_N} {f : Nat} {x : Option gz_N} (h : gz_z sh V Rf) (hn : sh n ≠ none) : gz_z sh V (gz_ur Rf n f x) := fun a ha => ⟨(h a ha).1, by rw [gz_ur_ne (fun e => hn (by rw [← e]; exact ha))]; exact (h a ha).2⟩
theorem gz_z.up {sh : gz_S} {V : gz_V} {Rf : gz_R} {n : gz_N} {f : Nat} {x : Int32} (h : gz_z sh V Rf) (hn : sh n ≠ none) : gz_z sh (gz_up V n f x) Rf := fun a ha => ⟨by rw [gz_up_ne (fun e => hn (by rw [← e]; exact ha))]; exact (h a ha).1, (h a ha).2⟩
theorem gz_z.gs {sh : gz_S} {V : gz_V} {Rf : gz_R} {n : gz_N} {N a b M : Nat} (h : gz_z sh V Rf) : gz_z (gz_gs sh n N a b M) V (gz_gr Rf n N a b) := fun x hx => by
  unfold gz_gs at hx
  by_cases e : x = n
  · rw [if_pos e] at hx; cases hx
  · rw [if_neg e] at hx
    by_cases e2 : x.1 = a ∧ x.2.1 = b ∧ x.2.2 < N
    · rw [if_pos e2] at hx; cases hx
    · rw [if_neg e2] at hx
      exact ⟨(h x hx).1, (if_neg e).trans (h x hx).2⟩
theorem gz_gs_nn {sh : gz_S} {n : gz_N} {N a b M : Nat} (x : gz_N) (h : sh x ≠ none) : gz_gs sh n N a b M x ≠ none := by
  unfold gz_gs
  split
  · exact fun z => by cases z
  · split
    · exact fun z => by cases z
    · exact h
theorem gz_gs_eq {sh : gz_S} {n : gz_N} {N a b M : Nat} : gz_gs sh n N a b M n = some (112, N) := if_pos rfl
theorem gz_gs_ne {sh : gz_S} {n x : gz_N} {N a b M : Nat} (h : x ≠ n) (h2 : x.1 ≠ a) : gz_gs sh n N a b M x = sh x := by
  unfold gz_gs
  rw [if_neg h, if_neg (fun q => h2 q.1)]
theorem gz_some_nn {α : Type} {o : Option α} {x : α} (h : o = some x) : o ≠ none := by rw [h]; exact fun z => by cases z
theorem gz_i_ok : Lib.objectInit = ⟨"java/lang/Object", "<init>", "()V"⟩ := rfl
section GZI
variable {X : gz_X} {cc : ByteArray} {own mn : String} {nL : Nat} {rm : Room} {ret : Option FieldType} {sh : gz_S} {Rf : gz_R} {ad : gz_A0} {V : gz_V} {ce sl pc : Nat} {lvF : gz_A0 → List (Nat × Value)} {stF : gz_A0 → List Value}
theorem gn_newI (hX : gz_ok X cc own mn nL rm ret) {L : Nat} {n : Int32} {nm : gz_N} (hn : ¬ n < 0) (hN : n.toNatClampNeg = L) (hby : L ≤ 134217728) (hc : ce + 1 ≤ rm.cells) (hs : sl + L ≤ rm.slots) (hz : gz_z sh V Rf) (hf : sh nm = none) (h0 : nm.1 ≠ 0) (hF : ∀ ad2 : gz_A0, gz_ag sh ad ad2 → lvF ad2 = lvF ad ∧ stF ad2 = stF ad) (hdg : decode cc pc = .ok (.newarray .int, 2))
    (k : ∀ ad2 : gz_A0, gz_ag sh ad ad2 → gW X nL (gz_us sh nm (100, L)) Rf ad2 V (ce + 1) (sl + L) (pc + 2) (lvF ad2) (.ref (ad2 nm) :: stF ad2)) : gW X nL sh Rf ad V ce sl pc (lvF ad) (.int n :: stF ad) :=
  gn_newa hX (t := 100) (t0 := 0) (atype := .int) q237 (fun _ => rfl) (by decide) (by decide) (fun U cA h => va_nm_int h) rfl hn hN (by show L * 4 ≤ _; omega) hc hs hz hf h0 hF hdg k
theorem gn_newB (hX : gz_ok X cc own mn nL rm ret) {L : Nat} {n : Int32} {nm : gz_N} (hn : ¬ n < 0) (hN : n.toNatClampNeg = L) (hby : L ≤ 134217728) (hc : ce + 1 ≤ rm.cells) (hs : sl + L ≤ rm.slots) (hz : gz_z sh V Rf) (hf : sh nm = none) (h0 : nm.1 ≠ 0) (hF : ∀ ad2 : gz_A0, gz_ag sh ad ad2 → lvF ad2 = lvF ad ∧ stF ad2 = stF ad) (hdg : decode cc pc = .ok (.newarray .byte, 2))
    (k : ∀ ad2 : gz_A0, gz_ag sh ad ad2 → gW X nL (gz_us sh nm (101, L)) Rf ad2 V (ce + 1) (sl + L) (pc + 2) (lvF ad2) (.ref (ad2 nm) :: stF ad2)) : gW X nL sh Rf ad V ce sl pc (lvF ad) (.int n :: stF ad) :=
  gn_newa hX (t := 101) (t0 := 1) (atype := .byte) q236 (fun _ => rfl) (by decide) (by decide) (fun U cA h => va_nm_byte h) rfl hn hN (by show L * 1 ≤ _; omega) hc hs hz hf h0 hF hdg k
theorem gn_newZ (hX : gz_ok X cc own mn nL rm ret) {L : Nat} {n : Int32} {nm : gz_N} (hn : ¬ n < 0) (hN : n.toNatClampNeg = L) (hby : L ≤ 134217728) (hc : ce + 1 ≤ rm.cells) (hs : sl + L ≤ rm.slots) (hz : gz_z sh V Rf) (hf : sh nm = none) (h0 : nm.1 ≠ 0) (hF : ∀ ad2 : gz_A0, gz_ag sh ad ad2 → lvF ad2 = lvF ad ∧ stF ad2 = stF ad) (hdg : decode cc pc = .ok (.newarray .boolean, 2))
    (k : ∀ ad2 : gz_A0, gz_ag sh ad ad2 → gW X nL (gz_us sh nm (102, L)) Rf ad2 V (ce + 1) (sl + L) (pc + 2) (lvF ad2) (.ref (ad2 nm) :: stF ad2)) : gW X nL sh Rf ad V ce sl pc (lvF ad) (.int n :: stF ad) :=
  gn_newa hX (t := 102) (t0 := 2) (atype := .boolean) q1330 (fun _ => rfl) (by decide) (by decide) (fun U cA h => va_nm_boolean h) rfl hn hN (by show L * 1 ≤ _; omega) hc hs hz hf h0 hF hdg k
theorem gn_ret {own : String} (hX : gz_ok X cc own mn nL rm none) (hE : gz_E X) {Fi : gz_Fi} {mc ms : Nat} (h5 : gx_F X = Fi) (h6 : gx_mc X = mc) (h7 : gx_ms X = ms) {lv : List (Nat × Value)} (hF : Fi sh V Rf ad none) (hdg : decode cc pc = .ok (.return_, 1)) : gW X nL sh Rf ad V mc ms pc lv [] := by
  have h := gz_vret (sh := sh) (V := V) (Rf := Rf) (ad := ad) (pc := pc) (lv := lv) hX hE (by rw [h5]; exact hF) hdg
  rw [h6, h7] at h
  exact h
theorem gn_obj0 (hX : gz_ok X cc own mn nL rm ret) {index x : Nat} {lv : List (Nat × Value)} (hlink : Cond.methodLink own index ⟨"java/lang/Object", "<init>", "()V"⟩ ∈ lw_all) (hf : 1 ≤ rm.frames ∧ 12 ≤ rm.locals) (hdg : decode cc pc = .ok (.invokespecial index, 3))
    (k : gW X nL sh Rf ad V ce sl (pc + 3) lv []) : gW X nL sh Rf ad V ce sl pc lv [.ref x] := gn_obj hX hlink q185 q186 hf.1 (by show 0 + 12 ≤ _; omega) hdg k
end GZI
def rm_x4_init : Room := { frames := 1, cells := 1, slots := 5, locals := 12 }
theorem c_x4_init {l : Launch} {D : va_G} {aC : Nat → ClassId} {ad : gz_A0} {sh : gz_S} {V : gz_V} {Rf : gz_R} {k i : Nat} (hz : gz_z sh V Rf) (hs : sh (40, k, i) = some (4, 4)) (hf : sh (41, k, i) = none) : gz_Met l yX4_init cX4_init 1 none rm_x4_init D aC ad sh V Rf [.ref (ad (40, k, i))] (gz_FN sh ad (gz_us sh (41, k, i) (100, 5)) (gz_ur Rf (40, k, i) 0 (some (41, k, i))) V none) 1 5 := by
  refine gz_ofW (own := RX4) (mn := "<init>") (lv := [(0, .ref (ad (40, k, i)))]) (by decide) rfl rfl (Nat.le_of_ble_eq_true rfl) rfl ?_
  intro X hX _ _ _ h5 h6 h7 hE
  refine gz_aload_n (q := 0) hX dX4_init_0 rfl rfl ?_
  refine gn_obj0 hX q286 (by decide) dX4_init_1 ?_
  refine gz_aload_n (q := 0) hX dX4_init_4 rfl rfl ?_
  refine gz_iconst (v := 5) hX dX4_init_5 (by decide) ?_
  refine gn_newI (lvF := fun ad => [(0, .ref (ad (40, k, i)))]) (stF := fun ad => [.ref (ad (40, k, i))]) (L := 5) (nm := (41, k, i)) hX (by decide) (by decide) (by decide) (by decide) (by decide) hz hf (gz_ne0 40 rfl) (fun ad2 ag => by rw [ag _ (Or.inl (gz_some_nn hs))]; exact ⟨rfl, rfl⟩) dX4_init_6 (fun ad2 ag => ?_)
  have hs2 : gz_us sh (41, k, i) (100, 5) (40, k, i) = some (4, 4) := by rw [gz_us_ne (by simp)]; exact hs
  refine gn_putR (ci := 4) hX in_X4 (gz_apart hX in_X4 tyX4 tyX4_ok nmX4 rfl) (by decide) rfl hs2 (gz_ne0 39 rfl) 0 (by decide) q287 rfl rfl rfl (tyX4_ok 0 (by decide)) rfl rfl (gz_some_nn gz_us_eq) dX4_init_8 ?_
  exact gn_ret hX hE h5 h6 h7 ⟨rfl, rfl, rfl, ag, rfl⟩ dX4_init_11
def rm_x5_init : Room := { frames := 1, cells := 0, slots := 0, locals := 12 }
theorem c_x5_init {l : Launch} {D : va_G} {aC : Nat → ClassId} {ad : gz_A0} {sh : gz_S} {V : gz_V} {Rf : gz_R} {n : gz_N} : gz_Met l yX5_init cX5_init 1 none rm_x5_init D aC ad sh V Rf [.ref (ad n)] (gz_F1 sh Rf ad V none) 0 0 := by
  refine gz_ofW (own := RX5) (mn := "<init>") (lv := [(0, .ref (ad n))]) (by decide) rfl rfl (Nat.le_of_ble_eq_true rfl) rfl ?_
  intro X hX _ _ _ h5 h6 h7 hE
  refine gz_aload_n (q := 0) hX dX5_init_0 rfl rfl ?_
  refine gn_obj0 hX q315 (by decide) dX5_init_1 ?_
  exact gn_ret hX hE h5 h6 h7 ⟨rfl, rfl, rfl, rfl, rfl⟩ dX5_init_4
def rm_x2_init : Room := { frames := 1, cells := 2, slots := 10, locals := 12 }
theorem c_x2_init {l : Launch} {D : va_G} {aC : Nat → ClassId} {ad : gz_A0} {sh : gz_S} {V : gz_V} {Rf : gz_R} {k : Nat} (hz : gz_z sh V Rf) (hs : sh (23, k, 0) = some (2, 8)) (hf0 : sh (24, k, 0) = none) (hf1 : sh (24, k, 1) = none) : gz_Met l yX2_init cX2_init 1 none rm_x2_init D aC ad sh V Rf [.ref (ad (23, k, 0))] (gz_FN sh ad (gz_us (gz_us sh (24, k, 0) (100, 5)) (24, k, 1) (100, 5)) (gz_ur (gz_ur Rf (23, k, 0) 0 (some (24, k, 0))) (23, k, 0) 1 (some (24, k, 1))) V none) 2 10 := by
  refine gz_ofW (own := RX2) (mn := "<init>") (lv := [(0, .ref (ad (23, k, 0)))]) (by decide) rfl rfl (Nat.le_of_ble_eq_true rfl) rfl ?_
  intro X hX _ _ _ h5 h6 h7 hE
  refine gz_aload_n (q := 0) hX dX2_init_0 rfl rfl ?_
  refine gn_obj0 hX q202 (by decide) dX2_init_1 ?_
  refine gz_aload_n (q := 0) hX dX2_init_4 rfl rfl ?_
  refine gz_iconst (v := 5) hX dX2_init_5 (by decide) ?_
  refine gn_newI (lvF := fun ad => [(0, .ref (ad (23, k, 0)))]) (stF := fun ad => [.ref (ad (23, k, 0))]) (L := 5) (nm := (24, k, 0)) hX (by decide) (by decide) (by decide) (by decide) (by decide) hz hf0 (gz_ne0 23 rfl) (fun ad2 ag => by rw [ag _ (Or.inl (gz_some_nn hs))]; exact ⟨rfl, rfl⟩) dX2_init_6 (fun ad2 ag => ?_)
  have hs2 : gz_us sh (24, k, 0) (100, 5) (23, k, 0) = some (2, 8) := by rw [gz_us_ne (by simp)]; exact hs
  refine gn_putR (ci := 2) hX in_X2 (gz_apart hX in_X2 tyX2 tyX2_ok nmX2 rfl) (by decide) rfl hs2 (gz_ne0 22 rfl) 0 (by decide) q203 rfl rfl rfl (tyX2_ok 0 (by decide)) rfl rfl (gz_some_nn gz_us_eq) dX2_init_8 ?_
  have hz2 : gz_z (gz_us sh (24, k, 0) (100, 5)) V (gz_ur Rf (23, k, 0) 0 (some (24, k, 0))) := hz.us.ur (gz_some_nn hs2)
  refine gz_aload_n (q := 0) hX dX2_init_11 rfl rfl ?_
  refine gz_iconst (v := 5) hX dX2_init_12 (by decide) ?_
  refine gn_newI (ad := ad2) (lvF := fun ad => [(0, .ref (ad (23, k, 0)))]) (stF := fun ad => [.ref (ad (23, k, 0))]) (L := 5) (nm := (24, k, 1)) hX (by decide) (by decide) (by decide) (by decide) (by decide) hz2 (by rw [gz_us_ne (by simp)]; exact hf1) (gz_ne0 23 rfl) (fun ad3 ag => by rw [ag _ (Or.inl (gz_some_nn hs2))]; exact ⟨rfl, rfl⟩) dX2_init_13 (fun ad3 ag3 => ?_)
  have hs3 : gz_us (gz_us sh (24, k, 0) (100, 5)) (24, k, 1) (100, 5) (23, k, 0) = some (2, 8) := by rw [gz_us_ne (by simp)]; exact hs2
  refine gn_putR (ci := 2) hX in_X2 (gz_apart hX in_X2 tyX2 tyX2_ok nmX2 rfl) (by decide) rfl hs3 (gz_ne0 22 rfl) 1 (by decide) q205 rfl rfl rfl (tyX2_ok 1 (by decide)) rfl rfl (gz_some_nn gz_us_eq) dX2_init_15 ?_
  exact gn_ret hX hE h5 h6 h7 ⟨rfl, rfl, rfl, ag.trans gz_us_nn ag3, rfl⟩ dX2_init_18
def rm_x3_init (N : Nat) : Room := { frames := 1, cells := 1 + N, slots := N + N * 2, locals := 12 }
theorem c_x3_init {l : Launch} {D : va_G} {aC : Nat → ClassId} {ad : gz_A0} {sh : gz_S} {V : gz_V} {Rf : gz_R} {k r N : Nat} {n : Int32} (hn : ¬ n < 0) (hN : n.toNatClampNeg = N) (hN1 : N ≤ 134217728) (hz : gz_z sh V Rf) (hs : sh (27, k, r) = some (3, 2)) (hf0 : sh (28, k, r) = none) (hf1 : ∀ j, j < N → sh (30 + r, k, j) = none) : gz_Met l yX3_init cX3_init 2 none (rm_x3_init N) D aC ad sh V Rf [.ref (ad (27, k, r)), .int n] (gz_FN sh ad (gz_gs sh (28, k, r) N (30 + r) k 2) (gz_ur (gz_gr Rf (28, k, r) N (30 + r) k) (27, k, r) 0 (some (28, k, r))) V none) (1 + N) (N + N * 2) := by
  refine gz_ofW (own := RX3) (mn := "<init>") (lv := [(0, .ref (ad (27, k, r))), (1, .int n)]) (by decide) rfl rfl (Nat.le_of_ble_eq_true rfl) rfl ?_
  intro X hX _ _ _ h5 h6 h7 hE
  refine gz_aload_n (q := 0) hX dX3_init_0 rfl rfl ?_
  refine gn_obj0 hX q245 ⟨Nat.le_refl _, Nat.le_refl _⟩ dX3_init_1 ?_
  refine gz_aload_n (q := 0) hX dX3_init_4 rfl rfl ?_
  refine gz_iload_n (q := 1) hX dX3_init_5 rfl rfl ?_
  refine gz_iconst (v := 2) hX dX3_init_6 (by decide) ?_
  refine gn_grid (lvF := fun ad => [(0, .ref (ad (27, k, r))), (1, .int n)]) (stF := fun ad => [.ref (ad (27, k, r))]) (nm := (28, k, r)) (N := N) (M := 2) (a := 30 + r) (b := k) hX q246 q237 hn (by decide) hN (by decide) hN1 (by decide) (by show 0 + (1 + N) ≤ 1 + N; omega) (by show 0 + (N + N * 2) ≤ N + N * 2; omega) hz hf0 (gz_ne0 27 rfl) (by omega) (by show 28 ≠ 30 + r; omega) hf1 (fun ad2 ag => by rw [ag _ (Or.inl (gz_some_nn hs))]; exact ⟨rfl, rfl⟩) dX3_init_7 (fun ad2 ag => ?_)
  have hs2 : gz_gs sh (28, k, r) N (30 + r) k 2 (27, k, r) = some (3, 2) := by rw [gz_gs_ne (by simp) (by show 27 ≠ 30 + r; omega)]; exact hs
  refine gn_putR (ci := 3) hX in_X3 (gz_apart hX in_X3 tyX3 tyX3_ok nmX3 rfl) (by decide) rfl hs2 (gz_ne0 26 rfl) 0 (by decide) q247 rfl rfl rfl (tyX3_ok 0 (by decide)) rfl rfl (gz_some_nn gz_gs_eq) dX3_init_11 ?_
  refine gz_widen (k := 1 + N) (n := N + N * 2) (by omega) (by omega) ?_
  exact gn_ret hX hE h5 h6 h7 ⟨rfl, rfl, rfl, ag, rfl⟩ dX3_init_14
def rm_j0_init : Room := { frames := 1, cells := 0, slots := 0, locals := 12 }
theorem c_j0_init {l : Launch} {D : va_G} {aC : Nat → ClassId} {ad : gz_A0} {sh : gz_S} {V : gz_V} {Rf : gz_R} {n : gz_N} : gz_Met l yJ0_init cJ0_init 1 none rm_j0_init D aC ad sh V Rf [.ref (ad n)] (gz_F1 sh Rf ad V none) 0 0 := by
  refine gz_ofW (own := RJ0) (mn := "<init>") (lv := [(0, .ref (ad n))]) (by decide) rfl rfl (Nat.le_of_ble_eq_true rfl) rfl ?_
  intro X hX _ _ _ h5 h6 h7 hE
  refine gz_aload_n (q := 0) hX dJ0_init_0 rfl rfl ?_
  refine gn_obj0 hX q267 (by decide) dJ0_init_1 ?_
  exact gn_ret hX hE h5 h6 h7 ⟨rfl, rfl, rfl, rfl, rfl⟩ dJ0_init_4
def rm_j1_init : Room := { frames := 2, cells := 0, slots := 0, locals := 32 }
theorem c_j1_init {l : Launch} {D : va_G} {aC : Nat → ClassId} {ad : gz_A0} {sh : gz_S} {V : gz_V} {Rf : gz_R} {n : gz_N} (hs : sh n = some (18, 3)) (h0 : n.1 ≠ 0) : gz_Met l yJ1_init cJ1_init 1 none rm_j1_init D aC ad sh V Rf [.ref (ad n)] (gz_F1 sh Rf ad (gz_up V n 0 0) none) 0 0 := by
  refine gz_ofW (own := RJ1) (mn := "<init>") (lv := [(0, .ref (ad n))]) (by decide) rfl rfl (Nat.le_of_ble_eq_true rfl) rfl ?_
  intro X hX _ _ _ h5 h6 h7 hE
  refine gz_aload_n (q := 0) hX dJ1_init_0 rfl rfl ?_
  refine gn_callI (As := []) (rest := []) (n := n) hX c_j0_init (lw_meth q266) q148 q264 q265 rfl rfl rfl (by decide +kernel) (by decide) (by decide) rfl rfl (by decide) dJ1_init_1 ?_
  rintro sh2 V2 Rf2 ad2 rv ⟨rfl, rfl, rfl, rfl, rfl⟩
  refine gz_aload_n (q := 0) hX dJ1_init_4 rfl rfl ?_
  refine gz_iconst (v := 0) hX dJ1_init_5 (by decide) ?_
  refine gz_put (ci := 18) (ty := .int) hX in_J2 (gz_apart hX in_J2 tyJ2 tyJ2_ok nmJ2 rfl) (by decide) rfl hs h0 0 (by decide) q272 rfl rfl (tyJ2_ok 0 (by decide)) rfl rfl dJ1_init_6 rfl ?_
  exact gn_ret hX hE h5 h6 h7 ⟨rfl, rfl, rfl, rfl, rfl⟩ dJ1_init_9
def rm_j2_init : Room := { frames := 3, cells := 0, slots := 0, locals := 52 }
theorem c_j2_init {l : Launch} {D : va_G} {aC : Nat → ClassId} {ad : gz_A0} {sh : gz_S} {V : gz_V} {Rf : gz_R} {n : gz_N} (hs : sh n = some (18, 3)) (h0 : n.1 ≠ 0) : gz_Met l yJ2_init cJ2_init 1 none rm_j2_init D aC ad sh V Rf [.ref (ad n)] (gz_F1 sh (gz_ur Rf n 1 (some (0, 0, 0))) ad (gz_up V n 0 0) none) 0 0 := by
  refine gz_ofW (own := RJ2) (mn := "<init>") (lv := [(0, .ref (ad n))]) (by decide) rfl rfl (Nat.le_of_ble_eq_true rfl) rfl ?_
  intro X hX _ _ _ h5 h6 h7 hE
  refine gz_aload_n (q := 0) hX dJ2_init_0 rfl rfl ?_
  refine gn_callI (As := []) (rest := []) (n := n) hX (c_j1_init hs h0) (lw_meth q263) q149 q261 q262 rfl rfl rfl (by decide +kernel) (by decide) (by decide) rfl rfl (by decide) dJ2_init_1 ?_
  rintro sh2 V2 Rf2 ad2 rv ⟨rfl, rfl, rfl, rfl, rfl⟩
  refine gz_aload_n (q := 0) hX dJ2_init_4 rfl rfl ?_
  refine gn_dflt hX q268 dJ2_init_5 ?_
  refine gz_putG (ci := 18) (v := .ref (ad2 (0, 0, 0))) hX in_J2 (gz_apart hX in_J2 tyJ2 tyJ2_ok nmJ2 rfl) (by decide) rfl hs h0 1 (by decide) q270 rfl (tyJ2_ok 1 (by decide)) rfl rfl dJ2_init_8 (fun j => gz_fv_ur (x := some (0, 0, 0)) rfl j) (fun a _ => rfl) (fun a h => gz_ur_ne h) (fun g b h hb => ?_) ?_
  · rw [gz_ur_eq] at h
    dsimp only at h
    by_cases e : g = 1
    · rw [if_pos e] at h
      cases h
      exact absurd rfl hb
    · rw [if_neg e] at h
      exact Or.inl h
  exact gn_ret hX hE h5 h6 h7 ⟨rfl, rfl, rfl, rfl, rfl⟩ dJ2_init_11
