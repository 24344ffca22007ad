/-! ROWS FOR WHAT IS READ: calls through an abstract or inherited method, the asker's interface, casts, switches by pairs -/
set_option maxRecDepth 100000
section GZD
variable {X : gz_X} {cc : ByteArray} {own mn : String} {nL : Nat} {rm : Room} {ret : Option FieldType} {sh : gz_S} {Rf : gz_R} {ad : gz_A0} {V : gz_V} {ce sl pc : Nat} {lv : List (Nat × Value)} {st : List Value}
/-- a call whose method is named in a superclass; hU: it's abstract there, or it's that one itself -/
theorem gu_callU (hX : gz_ok X cc own mn nL rm ret) {x y : MethodName} {owner : String} {code : ByteArray} {nL2 : Nat} {ret2 : Option FieldType} {rm2 : Room} {V1 : gz_V} {Rf1 : gz_R} {rv : Option Value} {index nA : Nat} {n : gz_N} {C : String} {T : u_T} {N N0 ci : Nat} {As rest : List Value}
    (hM : gz_Met (gx_l X) y code nL2 ret2 rm2 (gx_D X) (gx_C X) ad sh V Rf (.ref (ad n) :: As) (gz_F1 sh Rf1 ad V1 rv) 0 0) (hlw : GoodIn lw_all (va_wsU own index C owner x y (ws_ y code nL2 ret2))) (hU : Cond.declares ⟨owner, x.name, x.desc⟩ ∈ lw_tbl ∨ y = ⟨owner, x.name, x.desc⟩) (hrc : rm2.cells = 0) (hrs : rm2.slots = 0)
    (hd : owner ≠ "java/lang/invoke/MethodHandle" ∧ owner ≠ "java/lang/invoke/VarHandle" ∧ (parseMethodDescriptor x.desc).map (fun d => d.parameters.length) = some nA) (hR : rm2.frames + 1 ≤ rm.frames ∧ 8 + (nL2 + 11) + rm2.locals ≤ rm.locals) (hf : ce ≤ rm.cells ∧ sl ≤ rm.slots)
    (hci : ci < 100) (hc : gzCl[ci]? = some (C, T, N)) (hsh : sh n = some (ci, N0)) (hn : As.length = nA) {st0 : List Value} (hst : st0 = As.reverse ++ .ref (ad n) :: rest) (h8 : (rest.map fun v => v.category).sum ≤ 8) (hdg : decode cc pc = .ok (.invokevirtual index, 3)) {st1 : List Value} (h1 : rv.toList ++ rest = st1)
    (k : gW X nL sh Rf1 ad V1 ce sl (pc + 3) lv st1) : gW X nL sh Rf ad V ce sl pc lv st0 := by
  intro H locs ls hw hS hl
  have hK := hX.2.2.2.2.2.1
  have hNW := hX.2.2.2.2.2.2.2.2.2.2.2.1
  obtain ⟨cell, q1, q2, q3, q4⟩ := gz_obj hw hsh hci hc
  obtain ⟨hSl, hfc, kC, hkC, hkind⟩ := hK.1 ci _ hc
  have hA := gz_Asub hX hw hS
  have hcw : va_CU (gx_R X) (gx_s X) (gx_a X) own C owner index x y code nL2 ret2 (ws_ y code nL2 ret2) rm2 0 0 nA := by
    rcases hU with hU | hU
    · exact va_cwA nA hX.2.2.2.2.1 hlw rfl hrc hrs (hNW.1 _ (gz_nw hU rfl)) hd (by rw [hX.2.2.2.2.2.2.2.2.1]; exact hR)
    · exact va_cwU nA hX.2.2.2.2.1 hlw rfl hrc hrs hU hd (by rw [hX.2.2.2.2.2.2.2.2.1]; exact hR)
  refine gz_back (va_runU (As := As) (rest := rest) (b := ad n) (C := C) ⟨hX.1, hX.2.1, hX.2.2.1, hX.2.2.2.1, hX.2.2.2.2.1⟩ (hM H.size) hcw ⟨gz_blind, ⟨cell, q1, by rw [q3]; rfl, by rw [q2]; exact hfc⟩, fun U hU hW => ⟨rfl, by rw [hU], ⟨by rw [hU]; exact hw.own, va_K.moved hW.alike hK, hNW.warm hW, hX.2.2.2.2.2.2.2.2.2.2.2.2.call hW (by rw [hU]; exact hS.2.1) hA⟩⟩⟩ rfl hn hl.1 hst (lv_room h8) hdg (by rw [hX.2.2.2.2.2.2.2.2.1]; exact hf)) hS hA (fun sh2 V2 Rf2 ad2 rv2 H1 locs1 hw1 hF hS1 => ?_)
  obtain ⟨rfl, rfl, rfl, rfl, rfl⟩ := hF
  rw [h1]
  exact k H1 locs1 ls hw1 hS1 hl
/-- the asker: invokeinterface fact of a market -/
theorem gu_callF (hX : gz_ok X cc own mn nL rm ret) {code : ByteArray} {nL2 : Nat} {ret2 : Option FieldType} {rm2 : Room} {V1 : gz_V} {Rf1 : gz_R} {rv : Option Value} {index count nA : Nat} {n : gz_N} {T : u_T} {N N0 ci : Nat} {As rest : List Value}
    (hM : gz_Met (gx_l X) gz_yF code nL2 ret2 rm2 (gx_D X) (gx_C X) ad sh V Rf (.ref (ad n) :: As) (gz_F1 sh Rf1 ad V1 rv) 0 0) (hlw : GoodIn lw_all (va_wsF own index "ClaspedFair$Market" gz_yA gz_yF (ws_ gz_yF code nL2 ret2))) (hrc : rm2.cells = 0) (hrs : rm2.slots = 0)
    (hd : gz_yA.cls ≠ "java/lang/invoke/MethodHandle" ∧ gz_yA.cls ≠ "java/lang/invoke/VarHandle" ∧ (parseMethodDescriptor gz_yA.desc).map (fun d => d.parameters.length) = some nA) (hR : rm2.frames + 1 ≤ rm.frames ∧ 8 + (nL2 + 11) + rm2.locals ≤ rm.locals) (hf : ce ≤ rm.cells ∧ sl ≤ rm.slots)
    (hci : ci < 100) (hc : gzCl[ci]? = some ("ClaspedFair$Market", T, N)) (hsh : sh n = some (ci, N0)) (hn : As.length = nA) {st0 : List Value} (hst : st0 = As.reverse ++ .ref (ad n) :: rest) (h8 : (rest.map fun v => v.category).sum ≤ 8) (hdg : decode cc pc = .ok (.invokeinterface index count, 5)) {st1 : List Value} (h1 : rv.toList ++ rest = st1)
    (k : gW X nL sh Rf1 ad V1 ce sl (pc + 5) lv st1) : gW X nL sh Rf ad V ce sl pc lv st0 := by
  intro H locs ls hw hS hl
  have hK := hX.2.2.2.2.2.1
  have hNW := hX.2.2.2.2.2.2.2.2.2.2.2.1
  obtain ⟨cell, q1, q2, q3, q4⟩ := gz_obj hw hsh hci hc
  obtain ⟨hSl, hcat⟩ := hK.1 ci _ hc
  have hA := gz_Asub hX hw hS
  have hcw := va_cwF (R := gx_R X) nA hX.2.2.2.2.1 hlw rfl hrc hrs hNW.2.1 hd (by rw [hX.2.2.2.2.2.2.2.2.1]; exact hR)
  have hrun := va_runF (rest := rest) (As := As) (b := ad n) (C := "ClaspedFair$Market") (H := H) (locs := locs) (cells := ce) (slots := sl) (l := gx_l X) (e := gx_e X) (below := gx_b X) (meth := gx_me X) (g := F0 (gx_m X) pc ls st0) hcat ⟨hX.1, hX.2.1, hX.2.2.1, hX.2.2.2.1, hX.2.2.2.2.1⟩ (hM H.size) hcw ⟨gz_blind, ⟨cell, q1, by rw [q3]; rfl, by rw [q2]; exact hcat.1⟩, fun U hU hW => ⟨rfl, by rw [hU], ⟨by rw [hU]; exact hw.own, va_K.moved hW.alike hK, hNW.warm hW, hX.2.2.2.2.2.2.2.2.2.2.2.2.call hW (by rw [hU]; exact hS.2.1) hA⟩⟩⟩ rfl hn hl.1 hst (lv_room h8) hdg (by rw [hX.2.2.2.2.2.2.2.2.1]; exact hf)
  intro T0 hT XS
  obtain ⟨v, st₀, t, T', L, h0, X', hL, e1, e2, ⟨⟨sh2, V2, Rf2, ad2, rv2, hv, hB, hF⟩, hz, hkk⟩, stp⟩ := hrun T0 hT XS
  cases hv
  obtain ⟨rfl, rfl, rfl, rfl, rfl⟩ := hF
  rw [h0] at hz hkk
  have hkW := k T'.heap (locs ++ L) ls (by rw [e1]; exact hB.1.weaken hA) ⟨Nat.le_trans hS.1 (by rw [e1]; exact hz), fun q g1 g2 => by rw [e1, hkk q (Nat.lt_of_lt_of_le g1 hS.1) (fun z => g2 (hA q z))]; exact hS.2.1 q g1 g2, fun q hq => by
      rcases List.mem_append.mp hq with h | h
      · exact hS.2.2 q h
      · exact hA _ (hL q h)⟩ hl
  rw [← h1] at hkW
  obtain ⟨t2, a1, b1⟩ := hkW T' rfl X'
  exact ⟨t2, stp t2 a1, b1⟩
/-- a cast to the object's own class, or to one that it can be cast to -/
theorem gz_cast (hX : gz_ok X cc own mn nL rm ret) {index ci N0 : Nat} {nm : String} {q : vw_C} {n : gz_N} (hlink : Cond.classLink own index nm ∈ lw_all) (hci : ci < 100) (hc : gzCl[ci]? = some q) (hsh : sh n = some (ci, N0)) (hE : q.1 = nm ∨ Cond.castable q.1 nm ∈ lw_tbl) (hdg : decode cc pc = .ok (.checkcast index, 3))
    (k : gW X nL sh Rf ad V ce sl (pc + 3) lv (.ref (ad n) :: st)) : gW X nL sh Rf ad V ce sl pc lv (.ref (ad n) :: st) := by
  intro H locs ls hw hS hl
  obtain ⟨cell, g1, g2, g3, -⟩ := gz_obj hw hsh hci hc
  have hcls := (hX.2.2.2.2.2.1.1 ci q hc).2
  rcases hE with rfl | hE
  · exact va_castS hX.1 hX.2.1 hX.2.2.2.1 (hX.2.2.2.2.1 _ hlink) hcls ⟨cell, g1, by rw [g3]; rfl, by rw [g2]; exact hcls.1⟩ hdg (k H locs ls hw hS hl)
  · exact va_castY hX.1 hX.2.1 hX.2.2.2.1 (hX.2.2.2.2.1 _ hlink) (hX.2.2.2.2.2.2.2.2.2.2.2.1.1 _ (gz_nw hE rfl)) ⟨cell, g1, by rw [g3]; rfl, by rw [g2]; exact hcls.1⟩ hdg (k H locs ls hw hS hl)
/-- a switch by pairs -/
theorem gz_look (hX : gz_ok X cc own mn nL rm ret) {dflt : Int} {ps : Array (Int × Int)} {len : Nat} {x : Int32} {off : Int} {tgt : Nat} (hdg : decode cc pc = .ok (.lookupswitch dflt ps, len)) (hp : (ps.toList.zip (ps.toList.drop 1)).all (fun (a, next) => a.1 < next.1) = true) (ho : Op.lookupswitch.offset ps.toList dflt x.toInt = off) (ht : (pc : Int) + off = (tgt : Int)) (k : gW X nL sh Rf ad V ce sl tgt lv st) : gW X nL sh Rf ad V ce sl pc lv (.int x :: st) := fun H locs ls hw hS hl => lv_lookup hX.1 hX.2.1 hdg hp ho ht (k H locs ls hw hS hl)
/-- a field that holds null -/
theorem gz_getNull (hX : gz_ok X cc own mn nL rm ret) {C host : String} {T : u_T} {N N0 ci index : Nat} {n : gz_N} (hin : ∀ w ∈ u_ws C T N, w ∈ lw_all) (hci : ci < 100) (hc : gzCl[ci]? = some (C, T, N)) (hsh : sh n = some (ci, N0)) (f : Nat) (hf : f < N) (hlink : Cond.fieldLinkNest own index (T f).1 (T f).2.1 (T f).2.2.1 host ∈ lw_tbl) (hr : gz_isr (gz_ty ci f) = true) (hR : Rf n f = none) (hdg : decode cc pc = .ok (.getfield index, 3))
    (k : gW X nL sh Rf ad V ce sl (pc + 3) lv (.null :: st)) : gW X nL sh Rf ad V ce sl pc lv (.ref (ad n) :: st) :=
  gz_getN hX hin hci hc hsh f hf hlink (by unfold gz_fv; rw [if_pos hr, hR]; rfl) hdg k
/-- a reference array's element, its name from the world -/
theorem gu_aretN {Rff : gz_R} {Vf : gz_V} (hX : gz_ok X cc own mn nL rm ret) (hZ : gz_Z X) {x xf : gz_N} {C : String} (hr : ret = some (.object C)) (hF : gx_F X sh Vf Rff ad (some (.ref (ad xf)))) (hV : V = Vf) (hR : Rf = Rff) (hx : x = xf) (hdg : decode cc pc = .ok (.areturn, 1)) : gW X nL sh Rf ad V 0 0 pc lv [.ref (ad x)] := gu_aret hX hZ hr hF hV hR (by rw [hx]) hdg
end GZD
/-- the length of an array of objects -/
def gz_q114 (o : Option (Nat × Nat)) : Option Nat := match o with
  | some (114, L) => some L
  | _ => none
theorem gz_q114_o {o : Option (Nat × Nat)} {L : Nat} (h : gz_q114 o = some L) : o = some (114, L) := by
  unfold gz_q114 at h
  split at h
  · cases h
    rfl
  · cases h
def gz_on {α β : Type} (o : Option α) (a : β) (f : α → β) : β := match o with
  | none => a
  | some x => f x
theorem gz_on_o {α β : Type} {o : Option α} {a r : β} {f : α → β} (h : gz_on o a f = r) : (o = none ∧ a = r) ∨ ∃ x, o = some x ∧ f x = r := by
  cases o with
  | none => exact Or.inl ⟨rfl, h⟩
  | some x => exact Or.inr ⟨x, rfl, h⟩
