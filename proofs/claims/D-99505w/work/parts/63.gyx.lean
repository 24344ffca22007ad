/-! EXCEPTIONS IN NAMED WORLDS: contracts of methods that return or throw a Fault -/
set_option maxRecDepth 100000
abbrev gy_Fx : Type := gz_S → gz_V → gz_R → gz_A0 → Addr → Prop
def gy_Xc (D : va_G) (aC : Nat → ClassId) (A : Nat → Prop) (Fx : gy_Fx) : String → Addr → State → State → Prop := fun E q st t =>
  E = RX8 ∧ (∃ (sh : gz_S) (V : gz_V) (Rf : gz_R) (ad : gz_A0), gz_B D aC A sh V Rf ad t ∧ Fx sh V Rf ad q) ∧ va_F A st t
def gy_Mt (l : Launch) (y : MethodName) (code : ByteArray) (nL : Nat) (ret : Option FieldType) (rm : Room) (D : va_G) (aC : Nat → ClassId) (ad : gz_A0) (sh : gz_S) (V : gz_V) (Rf : gz_R) (av : List Value) (Fi : gz_Fi) (Fx : gy_Fx) (mc ms : Nat) : Prop :=
  ∀ sz : Nat, gy_Met l y (ws_ y code nL ret) rm (va_Pc av (fun U => U.heap.size = sz ∧ gz_P D aC (gz_A sh ad sz) sh V Rf ad U)) (gz_Qc D aC (gz_A sh ad sz) Fi) (gy_Xc D aC (gz_A sh ad sz) Fx) mc ms (gz_A sh ad sz)
/-- the end of a method that may throw; it has no handlers -/
def gy_E (X : gz_X) (Fx : gy_Fx) : Prop := gx_Q X = gy_MQ (gx_b X) (gz_Qc (gx_D X) (gx_C X) (gx_A X) (gx_F X)) (gy_Xc (gx_D X) (gx_C X) (gx_A X) Fx) (gx_a X) (gx_s X) (gx_mc X) (gx_ms X) (gx_A X) ∧ ∀ x ∈ (gx_c X).exceptionTable.toList, False
theorem gy_of {l : Launch} {y : MethodName} {code : ByteArray} {nL : Nat} {ret : Option FieldType} {rm : Room} {D : va_G} {aC : Nat → ClassId} {ad : gz_A0} {sh : gz_S} {V : gz_V} {Rf : gz_R} {av : List Value} {Fi : gz_Fi} {Fx : gy_Fx} {mc ms : Nat} {own mn : String} {lv : List (Nat × Value)}
    (hy : plainName y.cls = true) (hc : y.cls = own) (hm : y.name = mn) (hn : (lg_sl av).length ≤ nL) (hlv : lv_args 0 av = lv)
    (k : ∀ X : gz_X, gz_ok X code own mn nL rm ret → gx_l X = l → gx_D X = D → gx_C X = aC → gx_F X = Fi → gx_mc X = mc → gx_ms X = ms → gy_E X Fx → gW X nL sh Rf ad V 0 0 0 lv []) : gy_Mt l y code nL ret rm D aC ad sh V Rf av Fi Fx mc ms := by
  intro sz
  refine gy_ofW (cc := code) (maxL := nL) (ret := ret) hy rfl ?_
  intro p e s m args below meth c s₁ B hml ht hv
  obtain ⟨rfl, hsz, hw, hK, hNW, hSt⟩ := hv
  have hts := atoms_spec (ws := ws_ y code nL ret) B.pre
  have hts : ∀ w ∈ lw_all, w.before _ s = true := fun w h => hts w (List.mem_cons_of_mem _ h)
  have hown : s.vm.findClass y.cls = some m.cls := findClass_of_methodNamed B.named
  subst hsz
  have hl := lv_entry av (n := nL) hn
  rw [lg_entry_eq]
  rw [hlv] at hl
  have hmn : meth.name = y.name := (name_of_methodNamed B.named B.method).1
  exact k (p, l, e, rm, s, m, av.toArray, below, meth, c, gz_A sh ad s.heap.size, D, aC, Fi, mc, ms, gy_MQ below (gz_Qc D aC (gz_A sh ad s.heap.size) Fi) (gy_Xc D aC (gz_A sh ad s.heap.size) Fx) av.toArray s mc ms (gz_A sh ad s.heap.size)) ⟨B.exec, B.bytes, hml, by rw [← hc]; exact hown, hts, hK, fun q h => Or.inr h, B.notSynchronized, rfl, B.returns, by rw [← hm]; exact hmn, hNW, hSt⟩ rfl rfl rfl rfl rfl rfl ⟨rfl, ht⟩ s.heap [] _ hw va_S.rf hl
section GYX
variable {X : gz_X} {cc : ByteArray} {own mn : String} {nL : Nat} {rm : Room} {ret : Option FieldType} {sh : gz_S} {Rf : gz_R} {ad : gz_A0} {V : gz_V} {ce sl pc : Nat} {lv : List (Nat × Value)} {st : List Value} {Fx : gy_Fx}
theorem gy_iret (hX : gz_ok X cc own mn nL rm (some .int)) (hE : gy_E X Fx) {x : Int32} (hF : gx_F X sh V Rf ad (some (.int x))) (hdg : decode cc pc = .ok (.ireturn, 1)) : gW X nL sh Rf ad V (gx_mc X) (gx_ms X) pc lv [.int x] := by unfold gW; rw [hE.1]; exact fun H locs ls hw hS hl => gy_ret (W.iret hX.1 hX.2.1 hX.2.2.2.2.2.2.2.2.2.1 (gz_q hX hF hw hS) hS.2.2 hdg hX.2.2.2.2.2.2.2.1)
theorem gy_vret (hX : gz_ok X cc own mn nL rm none) (hE : gy_E X Fx) (hF : gx_F X sh V Rf ad none) (hdg : decode cc pc = .ok (.return_, 1)) : gW X nL sh Rf ad V (gx_mc X) (gx_ms X) pc lv [] := by unfold gW; rw [hE.1]; exact fun H locs ls hw hS hl => gy_ret (W.vret hX.1 hX.2.1 hX.2.2.2.2.2.2.2.2.2.1 (gz_q hX hF hw hS) hS.2.2 hdg hX.2.2.2.2.2.2.2.1)
theorem gy_aret (hX : gz_ok X cc own mn nL rm ret) (hE : gy_E X Fx) {x : Nat} {rt : FieldType} (hr : ret = some rt) (hrt : (∃ n, rt = .object n) ∨ ∃ t, rt = .array t) (hF : gx_F X sh V Rf ad (some (.ref x))) (hdg : decode cc pc = .ok (.areturn, 1)) : gW X nL sh Rf ad V (gx_mc X) (gx_ms X) pc lv [.ref x] := by unfold gW; rw [hE.1]; exact fun H locs ls hw hS hl => gy_ret (W.aret hX.1 hX.2.1 (hX.2.2.2.2.2.2.2.2.2.1.trans hr) hrt (Or.inr ⟨x, rfl⟩) (gz_q hX hF hw hS) hS.2.2 hdg hX.2.2.2.2.2.2.2.1)
/-- thrown over the method's frame -/
def gyW (X : gz_X) (nL : Nat) (sh : gz_S) (Rf : gz_R) (ad : gz_A0) (V : gz_V) (ce sl : Nat) (pc : Nat) (lv : List (Nat × Value)) (st : List Value) (q : Addr) : Prop :=
  ∀ (H : Heap) (locs : List Loc) (ls : Array Slot) (cell : Cell), gz_wd (gx_D X) (gx_C X) (gx_A X) sh V Rf ad H → va_S (gx_A X) (gx_s X).heap H locs → lv_has ls nL lv → H[q]? = some cell → cell.vm = .none → (gx_s X).vm.findClass RX8 = some cell.cls →
    gy_W (gx_p X) (gx_l X) (gx_e X) (gx_R X) (gx_s X) (gx_m X) (gx_a X) (gx_b X) (gx_me X) (gx_c X) H locs ce sl (gx_Q X) (F0 (gx_m X) pc ls st) q
/-- it leaves the method -/
theorem gy_leave (hX : gz_ok X cc own mn nL rm ret) (hE : gy_E X Fx) {q : Addr} (hF : Fx sh V Rf ad q) (hc : ce ≤ gx_mc X) (hs : sl ≤ gx_ms X) : gyW X nL sh Rf ad V ce sl pc lv st q := by
  intro H locs ls cell hw hS hl h1 h2 h3
  rw [hE.1]
  exact gy_out (fun x hx => (hE.2 x hx).elim) hX.2.2.2.2.2.2.2.1 h1 h2 h3 (fun t ht hW => ⟨rfl, ⟨sh, V, Rf, ad, ⟨by rw [ht]; exact hw, va_K.moved hW.alike hX.2.2.2.2.2.1, hX.2.2.2.2.2.2.2.2.2.2.2.1.warm hW⟩, hF⟩, hS.F ht⟩) hS.2.2 hc hs
/-- a call that may throw -/
theorem gy_call (hX : gz_ok X cc own mn nL rm ret) {y : MethodName} {code : ByteArray} {nL2 : Nat} {ret2 : Option FieldType} {rm2 : Room} {Fi : gz_Fi} {Fx2 : gy_Fx} {mc ms index nA : Nat} {n : gz_N} {C : String} {T : u_T} {N N0 ci : Nat} {As rest : List Value}
    (hM : gy_Mt (gx_l X) y code nL2 ret2 rm2 (gx_D X) (gx_C X) ad sh V Rf (.ref (ad n) :: As) Fi Fx2 mc ms) (hlw : GoodIn lw_all (wsV own index C y (ws_ y code nL2 ret2))) (hrc : rm2.cells = mc) (hrs : rm2.slots = ms)
    (hd : y.cls = C ∧ y.cls ≠ "java/lang/invoke/MethodHandle" ∧ y.cls ≠ "java/lang/invoke/VarHandle" ∧ (parseMethodDescriptor y.desc).map (fun d => d.parameters.length) = some nA) (hR : rm2.frames + 1 ≤ rm.frames ∧ 8 + (nL2 + 11) + rm2.locals ≤ rm.locals) (hf : ce + mc ≤ rm.cells ∧ sl + ms ≤ rm.slots)
    (hci : ci < 100) (hc : gzCl[ci]? = some (C, T, N)) (hsh : sh n = some (ci, N0)) (hn : As.length = nA) {st0 : List Value} (hst : st0 = As.reverse ++ .ref (ad n) :: rest) (h8 : (rest.map fun v => v.category).sum ≤ 8) (hdg : decode cc pc = .ok (.invokevirtual index, 3))
    (kx : ∀ (sh2 : gz_S) (V2 : gz_V) (Rf2 : gz_R) (ad2 : gz_A0) (q : Addr), Fx2 sh2 V2 Rf2 ad2 q → gyW X nL sh2 Rf2 ad2 V2 (ce + mc) (sl + ms) pc lv rest q)
    (k : ∀ (sh2 : gz_S) (V2 : gz_V) (Rf2 : gz_R) (ad2 : gz_A0) (rv : Option Value), Fi sh2 V2 Rf2 ad2 rv → gW X nL sh2 Rf2 ad2 V2 (ce + mc) (sl + ms) (pc + 3) lv (rv.toList ++ rest)) : gW X nL sh Rf ad V ce sl pc lv st0 := by
  intro H locs ls hw hS hl
  have hK := hX.2.2.2.2.2.1
  obtain ⟨cell, q1, q2, q3, q4⟩ := gz_obj hw hsh hci hc
  obtain ⟨hSl, hfc, kC, hkC, hkind⟩ := hK.1 ci _ hc
  have hA := gz_Asub hX hw hS
  have hcw := cwV (R := gx_R X) nA hX.2.2.2.2.1 hlw rfl hrc hrs hd (by rw [hX.2.2.2.2.2.2.2.2.1]; exact hR)
  have hrun := gy_runV (As := As) (rest := rest) (b := ad n) (C := C) (H := H) (locs := locs) (cells := ce) (slots := sl) (l := gx_l X) (e := gx_e X) (below := gx_b X) (meth := gx_me X) (g := F0 (gx_m X) pc ls st0) ⟨hX.1, hX.2.1, hX.2.2.1, hX.2.2.2.1, hX.2.2.2.2.1⟩ (hM H.size) hcw ⟨gz_blind, ⟨cell, q1, by rw [q3]; rfl, by rw [q2]; exact hfc⟩, fun U hU hW => ⟨rfl, by rw [hU], ⟨by rw [hU]; exact hw.own, va_K.moved hW.alike hK, hX.2.2.2.2.2.2.2.2.2.2.2.1.warm hW, hX.2.2.2.2.2.2.2.2.2.2.2.2.call hW (by rw [hU]; exact hS.2.1) hA⟩⟩⟩ rfl hn hl.1 hst (lv_room h8) hdg (by rw [hX.2.2.2.2.2.2.2.2.1]; exact hf)
  intro T0 hT XS
  rcases hrun T0 hT XS with ⟨v, st₀, t, T', L, h0, X', hL, e1, e2, ⟨⟨sh2, V2, Rf2, ad2, rv, hv, hB, hF⟩, hz, hk⟩, stp⟩ | ⟨q, st₀, t, T', L, E, ce2, h0, X', hL, e1, e2, ⟨rfl, ⟨sh2, V2, Rf2, ad2, hB, hF⟩, hz, hk⟩, hce, hcv, hcl, stp⟩
  · cases hv
    rw [h0] at hz hk
    obtain ⟨t2, a1, b1⟩ := k sh2 V2 Rf2 ad2 v hF T'.heap (locs ++ L) ls (by rw [e1]; exact hB.1.weaken hA) ⟨Nat.le_trans hS.1 (by rw [e1]; exact hz), fun q h1 h2 => by rw [e1, hk q (Nat.lt_of_lt_of_le h1 hS.1) (fun z => h2 (hA q z))]; exact hS.2.1 q h1 h2, fun q hq => by
      rcases List.mem_append.mp hq with h | h
      · exact hS.2.2 q h
      · exact hA _ (hL q h)⟩ hl T' rfl X'
    exact ⟨t2, stp t2 a1, b1⟩
  · rw [h0] at hz hk
    obtain ⟨t2, a1, b1⟩ := kx sh2 V2 Rf2 ad2 q hF T'.heap (locs ++ L) ls ce2 (by rw [e1]; exact hB.1.weaken hA) ⟨Nat.le_trans hS.1 (by rw [e1]; exact hz), fun q h1 h2 => by rw [e1, hk q (Nat.lt_of_lt_of_le h1 hS.1) (fun z => h2 (hA q z))]; exact hS.2.1 q h1 h2, fun q hq => by
      rcases List.mem_append.mp hq with h | h
      · exact hS.2.2 q h
      · exact hA _ (hL q h)⟩ hl (by rw [e1]; exact hce) hcv hcl T' rfl X'
    exact ⟨t2, stp.trans a1, b1⟩
end GYX
