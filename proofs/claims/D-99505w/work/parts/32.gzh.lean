/-! HEAP ROWS OF gW: fields, arrays, calls -/
set_option maxRecDepth 100000
section GZH
variable {X : gz_X} {cc : ByteArray} {own mn : String} {nL : Nat} {rm : Room} {ret : Option FieldType} {sh : gz_S} {Rf : gz_R} {ad : gz_A0} {V V2 : gz_V} {ce sl pc : Nat} {lv lv2 : List (Nat × Value)} {st : List Value}
theorem gz_obj {D : va_G} {aC : Nat → ClassId} {A : Nat → Prop} {H : Heap} {n : gz_N} {ci N0 : Nat} {q : vw_C} (hw : gz_wd D aC A sh V Rf ad H) (hsh : sh n = some (ci, N0)) (hci : ci < 100) (hc : gzCl[ci]? = some q) : t_OB (ad n) (D.1 ci) q.2.2 (D.2 ci) H (fun f => gz_fv ci V Rf ad n f) := by
  have h := hw.1 n _ hsh
  unfold gz_at at h
  rw [if_pos hci] at h
  obtain ⟨r, h1, h2⟩ := h
  cases h1.symm.trans hc
  exact h2
theorem gz_arr {D : va_G} {aC : Nat → ClassId} {A : Nat → Prop} {H : Heap} {n : gz_N} {t L : Nat} (hw : gz_wd D aC A sh V Rf ad H) (hsh : sh n = some (t, L)) (h1 : ¬ t < 100) (h2 : t < 110) : H[ad n]? = some (arrV (aC t) L (fun j => .int (V n j))) := by
  have h := hw.1 n _ hsh
  unfold gz_at at h
  rw [if_neg h1, if_pos h2] at h
  exact h
theorem gz_arq {D : va_G} {aC : Nat → ClassId} {A : Nat → Prop} {H : Heap} {n : gz_N} {t L : Nat} (hw : gz_wd D aC A sh V Rf ad H) (hsh : sh n = some (t, L)) (h1 : ¬ t < 100) (h2 : ¬ t < 110) : H[ad n]? = some (arrV (aC t) L (fun j => va_rf ((Rf n j).map ad))) := by
  have h := hw.1 n _ hsh
  unfold gz_at at h
  rw [if_neg h1, if_neg h2] at h
  exact h
/-- a field read -/
theorem gz_get (hX : gz_ok X cc own mn nL rm ret) {C : String} {T : u_T} {N N0 ci index : Nat} {n : gz_N} (hin : ∀ w ∈ u_ws C T N, w ∈ lw_all) (hci : ci < 100) (hc : gzCl[ci]? = some (C, T, N)) (hsh : sh n = some (ci, N0)) (f : Nat) (hf : f < N) (hlink : Cond.fieldLink own index (T f).1 (T f).2.1 (T f).2.2.1 ∈ lw_all) {v : Value} (hv : gz_fv ci V Rf ad n f = v) (hdg : decode cc pc = .ok (.getfield index, 3))
    (k : gW X nL sh Rf ad V ce sl (pc + 3) lv (v :: st)) : gW X nL sh Rf ad V ce sl pc lv (.ref (ad n) :: st) := by
  intro H locs ls hw hS hl
  obtain ⟨cell, q1, q2, q3, q4⟩ := gz_obj hw hsh hci hc
  obtain ⟨hSl, hfc, kC, hkC, hkind⟩ := hX.2.2.2.2.2.1.1 ci _ hc
  obtain ⟨cf, kf, fi, fd, hi, hsl⟩ := hSl f hf
  refine W.getf hX.1 hX.2.1 hX.2.2.2.1 (hX.2.2.2.2.1 _ hlink) hi (u_facts hfc hkC (u_lays hX.2.2.2.2.1 hin hf) hi).1 q1 (by rw [q3]; exact fun h => by cases h) (v := v) ?_ rfl rfl hdg (k H locs ls hw hS hl)
  rw [hsl, q4 f hf]
  exact congrArg some hv
/-- a nest mate's field read -/
theorem gz_getN (hX : gz_ok X cc own mn nL rm ret) {C host : String} {T : u_T} {N N0 ci index : Nat} {n : gz_N} (hin : ∀ w ∈ u_ws C T N, w ∈ lw_all) (hci : ci < 100) (hc : gzCl[ci]? = some (C, T, N)) (hsh : sh n = some (ci, N0)) (f : Nat) (hf : f < N) (hlink : Cond.fieldLinkNest own index (T f).1 (T f).2.1 (T f).2.2.1 host ∈ lw_tbl) {v : Value} (hv : gz_fv ci V Rf ad n f = v) (hdg : decode cc pc = .ok (.getfield index, 3))
    (k : gW X nL sh Rf ad V ce sl (pc + 3) lv (v :: st)) : gW X nL sh Rf ad V ce sl pc lv (.ref (ad n) :: st) := by
  intro H locs ls hw hS hl
  obtain ⟨cell, q1, q2, q3, q4⟩ := gz_obj hw hsh hci hc
  obtain ⟨hSl, hfc, kC, hkC, hkind⟩ := hX.2.2.2.2.2.1.1 ci _ hc
  obtain ⟨cf, kf, fi, fd, hi, hsl⟩ := hSl f hf
  refine va_Wgetf hX.1 hX.2.1 hX.2.2.2.1 (va_Nw.use rfl (hX.2.2.2.2.2.2.2.2.2.2.2.1.1 _ (gz_nw hlink rfl))) hi (u_facts hfc hkC (u_lays hX.2.2.2.2.1 hin hf) hi).1 q1 (by rw [q3]; exact fun h => by cases h) (v := v) ?_ rfl rfl hdg (k H locs ls hw hS hl)
  rw [hsl, q4 f hf]
  exact congrArg some hv
theorem gz_fv_up {ci : Nat} {n : gz_N} {f : Nat} {x : Int32} (hr : gz_isr (gz_ty ci f) = false) (j : Nat) : updV (fun f => gz_fv ci V Rf ad n f) f (.int x) j = gz_fv ci (gz_up V n f x) Rf ad n j := by
  unfold updV gz_fv
  rw [gz_up_eq]
  unfold upd
  by_cases h : j = f
  · subst h
    rw [if_pos rfl, hr, if_pos rfl]
    rfl
  · rw [if_neg h, if_neg h]
theorem gz_fv_ur {ci : Nat} {n : gz_N} {f : Nat} {x : Option gz_N} (hr : gz_isr (gz_ty ci f) = true) (j : Nat) : updV (fun f => gz_fv ci V Rf ad n f) f (va_rf (x.map ad)) j = gz_fv ci V (gz_ur Rf n f x) ad n j := by
  unfold updV gz_fv
  rw [gz_ur_eq]
  by_cases h : j = f
  · subst h
    simp [hr]
  · simp [h]
/-- a world with one cell changed -/
theorem gz_wd.put {D : va_G} {aC : Nat → ClassId} {A : Nat → Prop} {Rf2 : gz_R} {H H1 : Heap} {n : gz_N} (hw : gz_wd D aC A sh V Rf ad H) (hn : sh n ≠ none) (hv : ∀ a, a ≠ n → V2 a = V a) (hr : ∀ a, a ≠ n → Rf2 a = Rf a) (oq : ∀ q, q ≠ ad n → H1[q]? = H[q]?) (hcl : ∀ f b, Rf2 n f = some b → b.1 ≠ 0 → sh b ≠ none) (he : ∀ t, sh n = some t → gz_at D aC V2 Rf2 ad n t H1) : gz_wd D aC A sh V2 Rf2 ad H1 := by
  refine ⟨fun a t ha => ?_, hw.2.1, hw.2.2.1, fun a f b ha hb h0 => ?_, hw.2.2.2.2⟩
  by_cases h : a = n
  · subst h
    exact he t ha
  · exact ((hw.1 a t ha).kept (oq _ (fun z => h (hw.2.1 a n (by rw [ha]; exact fun z => by cases z) hn z)))).eqV (hv a h) (hr a h)
  · by_cases h : a = n
    · subst h
      exact hcl f b hb h0
    · rw [hr a h] at hb
      exact hw.2.2.2.1 a f b ha hb h0
/-- the fields of a class are apart -/
theorem gz_apart (hX : gz_ok X cc own mn nL rm ret) {C : String} {T : u_T} {N ci : Nat} (hin : ∀ w ∈ u_ws C T N, w ∈ lw_all) (ty : Nat → FieldType) (hty : ∀ k, k < N → parseFieldDescriptor (T k).2.2.1 = some (ty k)) (hnm : ∀ a, a < N → ∀ b, b < N → a ≠ b → (T a).2.1 ≠ (T b).2.1) (hc : gzCl[ci]? = some (C, T, N)) : ∀ x y, x < N → y < N → x ≠ y → ((gx_D X).2 ci) x ≠ ((gx_D X).2 ci) y := va_apart (own := own) hX.2.2.2.2.1 hin ty hty hnm hX.2.2.2.2.2.1 hc
/-- an int field written -/
theorem gz_put (hX : gz_ok X cc own mn nL rm ret) {C : String} {T : u_T} {N N0 ci index : Nat} {n : gz_N} (hin : ∀ w ∈ u_ws C T N, w ∈ lw_all) (hap : ∀ x y, x < N → y < N → x ≠ y → ((gx_D X).2 ci) x ≠ ((gx_D X).2 ci) y) (hci : ci < 100) (hc : gzCl[ci]? = some (C, T, N)) (hsh : sh n = some (ci, N0)) (hn0 : n.1 ≠ 0) (f : Nat) (hf : f < N) (hlink : Cond.fieldLink own index (T f).1 (T f).2.1 (T f).2.2.1 ∈ lw_all) (hfin : (T f).2.2.2 = false) (hr : gz_isr (gz_ty ci f) = false) {ty : FieldType} (hd : parseFieldDescriptor (T f).2.2.1 = some ty) {x : Int32} (hn : narrow ty (.int x) = .int x) (hfit : fits ty (.int x) = true) (hdg : decode cc pc = .ok (.putfield index, 3)) (hV : gz_up V n f x = V2)
    (k : gW X nL sh Rf ad V2 ce sl (pc + 3) lv st) : gW X nL sh Rf ad V ce sl pc lv (.int x :: .ref (ad n) :: st) := by
  intro H locs ls hw hS hl
  subst hV
  obtain ⟨cell, q1, q2, q3, q4⟩ := gz_obj hw hsh hci hc
  obtain ⟨hSl, hfc, kC, hkC, hkind⟩ := hX.2.2.2.2.2.1.1 ci _ hc
  obtain ⟨cf, kf, fi, fd, hi, hsl⟩ := hSl f hf
  have hlay := hX.2.2.2.2.1 _ (hin _ (u_in_lay hf))
  unfold u_lay at hlay
  rw [if_neg (by rw [hfin]; decide)] at hlay
  have hst := (u_facts hfc hkC (u_lays hX.2.2.2.2.1 hin hf) hi).1
  have h6 := u_store hfc hkC hkind hlay hi hd hn hfit
  refine W.putK hX.1 hX.2.1 (f := fd) ⟨hX.2.2.2.1, hX.2.2.2.2.1 _ hlink, ⟨_, _, _, hi⟩, hst⟩ (by rw [q2]; exact h6) q1 q3 (by rw [hsl]; exact k2_hasslot (q4 f hf)) rfl rfl hdg fun H' e1 e2 e3 => ?_
  rw [hsl] at e1 ⊢
  have hne : sh n ≠ none := by rw [hsh]; exact fun z => by cases z
  refine k H' _ ls (hw.put hne (fun a h => gz_up_ne h) (fun a _ => rfl) e3 (fun f b hb h0 => hw.2.2.2.1 n f b hne hb h0) (fun t ht => ?_)) (hS.put e2 e3 (hw.2.2.1 n hne hn0)) hl
  cases hsh.symm.trans ht
  unfold gz_at
  rw [if_pos hci]
  exact ⟨_, hc, t_OB.to ⟨_, e1, q2, q3, t_set q4 hap hf (.int x)⟩ (fun j _ => gz_fv_up hr j)⟩
/-- an int array's element read -/
theorem gz_iald (hX : gz_ok X cc own mn nL rm ret) {L : Nat} {n : gz_N} (hsh : sh n = some (100, L)) {j : Int32} (hin : vp_in j L) (hdg : decode cc pc = .ok (.iaload, 1))
    (k : gW X nL sh Rf ad V ce sl (pc + 1) lv (.int (V n j.toNatClampNeg) :: st)) : gW X nL sh Rf ad V ce sl pc lv (.int j :: .ref (ad n) :: st) := by
  intro H locs ls hw hS hl
  have ha := gz_arr hw hsh (by decide) (by decide)
  have hlt : j.toNatClampNeg < L := Nat.not_le.mp fun q => hin (Or.inr q)
  exact W.iald (v := .int (V n j.toNatClampNeg)) hX.1 hX.2.1 ha ((hX.2.2.2.2.2.1.2 0 _ rfl).1 L (fun j => .int (V n j))) (fun q => by cases q) (by rw [arrV_size]; exact hin) (by rw [arrV_read _ _ hlt]) rfl rfl hdg (k H locs ls hw hS hl)
/-- an int array's element written -/
theorem gz_iast (hX : gz_ok X cc own mn nL rm ret) {L : Nat} {n : gz_N} (hsh : sh n = some (100, L)) (hn0 : n.1 ≠ 0) {j x : Int32} (hin : vp_in j L) (hdg : decode cc pc = .ok (.iastore, 1)) (hV : gz_up V n j.toNatClampNeg x = V2)
    (k : gW X nL sh Rf ad V2 ce sl (pc + 1) lv st) : gW X nL sh Rf ad V ce sl pc lv (.int x :: .int j :: .ref (ad n) :: st) := by
  intro H locs ls hw hS hl
  subst hV
  have ha := gz_arr hw hsh (by decide) (by decide)
  have hne : sh n ≠ none := by rw [hsh]; exact fun z => by cases z
  refine W.iast hX.1 hX.2.1 ha ((hX.2.2.2.2.2.1.2 0 _ rfl).1 L (fun j => .int (V n j))) (fun q => by cases q) (by rw [arrV_size]; exact hin) rfl rfl hdg fun H1 e z oq => ?_
  refine k H1 _ ls (hw.put hne (fun a h => gz_up_ne h) (fun a _ => rfl) oq (fun f b hb h0 => hw.2.2.2.1 n f b hne hb h0) (fun t ht => ?_)) (hS.put z oq (hw.2.2.1 n hne hn0)) hl
  cases hsh.symm.trans ht
  unfold gz_at
  rw [if_neg (show ¬ (100 : Nat) < 100 by decide), if_pos (show (100 : Nat) < 110 by decide)]
  rw [e, arrV_store]
  congr 2
  funext q
  rw [gz_up_eq]
  unfold updV upd
  by_cases hq : q = j.toNatClampNeg
  · rw [if_pos hq, if_pos hq]
  · rw [if_neg hq, if_neg hq]
theorem gz_alen (hX : gz_ok X cc own mn nL rm ret) {L : Nat} {n : gz_N} (hsh : sh n = some (100, L)) {v : Int32} (hv : L.toInt32 = v) (hdg : decode cc pc = .ok (.arraylength, 1))
    (k : gW X nL sh Rf ad V ce sl (pc + 1) lv (.int v :: st)) : gW X nL sh Rf ad V ce sl pc lv (.ref (ad n) :: st) := by
  intro H locs ls hw hS hl
  have ha := gz_arr hw hsh (by decide) (by decide)
  exact W.alen hX.1 hX.2.1 ha ((hX.2.2.2.2.2.1.2 0 _ rfl).1 L (fun j => .int (V n j))) (by rw [arrV_size]; exact hv) rfl rfl hdg (k H locs ls hw hS hl)
/-- behind a call -/
theorem gz_back {p : Program} {l : Launch} {e : Env} {R : Room} {s : State} {m : MethodId} {args : Array Value} {below : List Frame} {meth : Method} {c : Code} {H : Heap} {locs : List Loc} {cells slots : Nat} {Q : State → Prop} {ls : Array Slot} {rest st0 : List Value} {a : Array Value} {A0 A1 : Nat → Prop} {H0 : Heap} {mc ms : Nat} {D : va_G} {aC : Nat → ClassId} {Fi : gz_Fi}
    (hr : va_Run p l e R s m args below meth c H locs cells slots mc ms (F0 m pc ls st0) rest (gz_Qc D aC A1 Fi a) A1) (hS : va_S A0 H0 H locs) (hA : ∀ q, A1 q → A0 q)
    (kk : ∀ (sh2 : gz_S) (V2 : gz_V) (Rf2 : gz_R) (ad2 : gz_A0) (rv : Option Value) (H1 : Heap) (locs1 : List Loc), gz_wd D aC A0 sh2 V2 Rf2 ad2 H1 → Fi sh2 V2 Rf2 ad2 rv → va_S A0 H0 H1 locs1 → W p l e R s m args below meth c H1 locs1 (cells + mc) (slots + ms) Q (F0 m (pc + 3) ls (rv.toList ++ rest))) : W p l e R s m args below meth c H locs cells slots Q (F0 m pc ls st0) := by
  intro T hT X
  obtain ⟨v, st₀, t, T', L, h0, X', hL, e1, e2, ⟨⟨sh2, V2, Rf2, ad2, rv, hv, hB, hF⟩, hz, hk⟩, stp⟩ := hr T hT X
  cases hv
  rw [h0] at hz hk
  obtain ⟨t2, a1, b1⟩ := kk sh2 V2 Rf2 ad2 v T'.heap (locs ++ L) (by rw [e1]; exact hB.1.weaken hA) hF
    ⟨Nat.le_trans hS.1 (by rw [e1]; exact hz), fun q h1 h2 => by rw [e1, hk q (Nat.lt_of_lt_of_le h1 hS.1) (fun z => h2 (hA q z))]; exact hS.2.1 q h1 h2, fun q hq => by
      rcases List.mem_append.mp hq with h | h
      · exact hS.2.2 q h
      · exact hA _ (hL q h)⟩ T' rfl X'
  exact ⟨t2, stp t2 a1, b1⟩
theorem gz_Asub {X : gz_X} (hX : gz_ok X cc own mn nL rm ret) {H : Heap} {locs : List Loc} (hw : gz_wd (gx_D X) (gx_C X) (gx_A X) sh V Rf ad H) (hS : va_S (gx_A X) (gx_s X).heap H locs) : ∀ q, gz_A sh ad H.size q → (gx_A X) q := by
  intro q h
  rcases h with ⟨n, h1, h2, rfl⟩ | h
  · exact hw.2.2.1 n h1 h2
  · exact hX.2.2.2.2.2.2.1 q (Nat.le_trans hS.1 h)
theorem gz_blind {av : List Value} {D : va_G} {aC : Nat → ClassId} {A : Nat → Prop} {sz : Nat} : FrameBlind (va_Pc av (fun U => U.heap.size = sz ∧ gz_P D aC A sh V Rf ad U)) := fun a U g mk q => by
  obtain ⟨q0, q1, q2, q3, q4, q5⟩ := q
  exact ⟨q0, q1, q2, va_K.moved (u := U) (U := U.calling g mk a) (Vm.Alike.refl U.vm) q3, gz_NW.same (u := U) (U := U.calling g mk a) rfl q4, gz_St.same (u := U) (U := U.calling g mk a) rfl q5⟩
/-- a call through an object -/
theorem gz_callV (hX : gz_ok X cc own mn nL rm ret) {y : MethodName} {code : ByteArray} {nL2 : Nat} {ret2 : Option FieldType} {rm2 : Room} {Fi : gz_Fi} {mc ms index nA : Nat} {n : gz_N} {C : String} {T : u_T} {N N0 ci : Nat} {As rest : List Value}
    (hM : gz_Met (gx_l X) y code nL2 ret2 rm2 (gx_D X) (gx_C X) ad sh V Rf (.ref (ad n) :: As) Fi mc ms) (hlw : GoodIn lw_all (wsV own index C y (ws_ y code nL2 ret2))) (hrc : rm2.cells = mc) (hrs : rm2.slots = ms)
    (hd : y.cls = C ∧ y.cls ≠ "java/lang/invoke/MethodHandle" ∧ y.cls ≠ "java/lang/invoke/VarHandle" ∧ (parseMethodDescriptor y.desc).map (fun d => d.parameters.length) = some nA) (hR : rm2.frames + 1 ≤ rm.frames ∧ 8 + (nL2 + 11) + rm2.locals ≤ rm.locals) (hf : ce + mc ≤ rm.cells ∧ sl + ms ≤ rm.slots)
    (hci : ci < 100) (hc : gzCl[ci]? = some (C, T, N)) (hsh : sh n = some (ci, N0)) (hn : As.length = nA) {st0 : List Value} (hst : st0 = As.reverse ++ .ref (ad n) :: rest) (h8 : (rest.map fun v => v.category).sum ≤ 8) (hdg : decode cc pc = .ok (.invokevirtual index, 3))
    (k : ∀ (sh2 : gz_S) (V2 : gz_V) (Rf2 : gz_R) (ad2 : gz_A0) (rv : Option Value), Fi sh2 V2 Rf2 ad2 rv → gW X nL sh2 Rf2 ad2 V2 (ce + mc) (sl + ms) (pc + 3) lv (rv.toList ++ rest)) : gW X nL sh Rf ad V ce sl pc lv st0 := by
  intro H locs ls hw hS hl
  have hK := hX.2.2.2.2.2.1
  obtain ⟨cell, q1, q2, q3, q4⟩ := gz_obj hw hsh hci hc
  obtain ⟨hSl, hfc, kC, hkC, hkind⟩ := hK.1 ci _ hc
  have hA := gz_Asub hX hw hS
  have hcw := cwV (R := gx_R X) nA hX.2.2.2.2.1 hlw rfl hrc hrs hd (by rw [hX.2.2.2.2.2.2.2.2.1]; exact hR)
  refine gz_back (va_runV (As := As) (rest := rest) (b := ad n) (C := C) ⟨hX.1, hX.2.1, hX.2.2.1, hX.2.2.2.1, hX.2.2.2.2.1⟩ (hM H.size) hcw ⟨gz_blind, ⟨cell, q1, by rw [q3]; rfl, by rw [q2]; exact hfc⟩, fun U hU hW => ⟨rfl, by rw [hU], ⟨by rw [hU]; exact hw.own, va_K.moved hW.alike hK, hX.2.2.2.2.2.2.2.2.2.2.2.1.warm hW, hX.2.2.2.2.2.2.2.2.2.2.2.2.call hW (by rw [hU]; exact hS.2.1) hA⟩⟩⟩ rfl hn hl.1 hst (lv_room h8) hdg (by rw [hX.2.2.2.2.2.2.2.2.1]; exact hf)) hS hA (fun sh2 V2 Rf2 ad2 rv H1 locs1 hw1 hF hS1 => k sh2 V2 Rf2 ad2 rv hF H1 locs1 ls hw1 hS1 hl)
/-- a static call -/
theorem gz_callS (hX : gz_ok X cc own mn nL rm ret) {y : MethodName} {code : ByteArray} {nL2 : Nat} {ret2 : Option FieldType} {rm2 : Room} {Fi : gz_Fi} {mc ms index nA : Nat} {As rest : List Value}
    (hM : gz_Met (gx_l X) y code nL2 ret2 rm2 (gx_D X) (gx_C X) ad sh V Rf As Fi mc ms) (hlw : GoodIn lw_all (va_wsS own index y (ws_ y code nL2 ret2))) (hrc : rm2.cells = mc) (hrs : rm2.slots = ms)
    (hd : y.cls ≠ "java/lang/invoke/MethodHandle" ∧ y.cls ≠ "java/lang/invoke/VarHandle" ∧ (parseMethodDescriptor y.desc).map (fun d => d.parameters.length) = some nA) (hR : rm2.frames + 1 ≤ rm.frames ∧ 8 + (nL2 + 11) + rm2.locals ≤ rm.locals) (hf : ce + mc ≤ rm.cells ∧ sl + ms ≤ rm.slots)
    (hn : As.length = nA) {st0 : List Value} (hst : st0 = As.reverse ++ rest) (h8 : (rest.map fun v => v.category).sum ≤ 8) (hdg : decode cc pc = .ok (.invokestatic index, 3))
    (k : ∀ (sh2 : gz_S) (V2 : gz_V) (Rf2 : gz_R) (ad2 : gz_A0) (rv : Option Value), Fi sh2 V2 Rf2 ad2 rv → gW X nL sh2 Rf2 ad2 V2 (ce + mc) (sl + ms) (pc + 3) lv (rv.toList ++ rest)) : gW X nL sh Rf ad V ce sl pc lv st0 := by
  intro H locs ls hw hS hl
  have hK := hX.2.2.2.2.2.1
  have hA := gz_Asub hX hw hS
  have hcw := va_cwS (R := gx_R X) nA hX.2.2.2.2.1 hlw rfl hrc hrs hd (by rw [hX.2.2.2.2.2.2.2.2.1]; exact hR)
  refine gz_back (va_runS (As := As) (rest := rest) ⟨hX.1, hX.2.1, hX.2.2.1, hX.2.2.2.1, hX.2.2.2.2.1⟩ (hM H.size) hcw ⟨gz_blind, fun U hU hW => ⟨rfl, by rw [hU], ⟨by rw [hU]; exact hw.own, va_K.moved hW.alike hK, hX.2.2.2.2.2.2.2.2.2.2.2.1.warm hW, hX.2.2.2.2.2.2.2.2.2.2.2.2.call hW (by rw [hU]; exact hS.2.1) hA⟩⟩⟩ rfl hn hl.1 hst (lv_room h8) hdg (by rw [hX.2.2.2.2.2.2.2.2.1]; exact hf)) hS hA (fun sh2 V2 Rf2 ad2 rv H1 locs1 hw1 hF hS1 => k sh2 V2 Rf2 ad2 rv hF H1 locs1 ls hw1 hS1 hl)
/-- the end of a method that makes no cell and moves no reference -/
def gz_F1 (sh : gz_S) (Rf : gz_R) (ad : gz_A0) (V : gz_V) (rv : Option Value) : gz_Fi := fun sh2 V2 Rf2 ad2 rv2 => sh2 = sh ∧ V2 = V ∧ Rf2 = Rf ∧ ad2 = ad ∧ rv2 = rv
theorem gz_F1i {Vf : gz_V} {rv : Option Value} (hV : V = Vf) {v : Option Value} (hv : v = rv) : gz_F1 sh Rf ad Vf rv sh V Rf ad v := ⟨rfl, hV, rfl, rfl, hv⟩
theorem gz_callV1 (hX : gz_ok X cc own mn nL rm ret) {y : MethodName} {code : ByteArray} {nL2 : Nat} {ret2 : Option FieldType} {rm2 : Room} {V1 : gz_V} {rv : Option Value} {index nA : Nat} {n : gz_N} {C : String} {T : u_T} {N N0 ci : Nat} {As rest : List Value}
    (hM : gz_Met (gx_l X) y code nL2 ret2 rm2 (gx_D X) (gx_C X) ad sh V Rf (.ref (ad n) :: As) (gz_F1 sh Rf ad V1 rv) 0 0) (hlw : GoodIn lw_all (wsV own index C y (ws_ y code nL2 ret2))) (hrc : rm2.cells = 0) (hrs : rm2.slots = 0)
    (hd : y.cls = C ∧ y.cls ≠ "java/lang/invoke/MethodHandle" ∧ y.cls ≠ "java/lang/invoke/VarHandle" ∧ (parseMethodDescriptor y.desc).map (fun d => d.parameters.length) = some nA) (hR : rm2.frames + 1 ≤ rm.frames ∧ 8 + (nL2 + 11) + rm2.locals ≤ rm.locals) (hf : ce ≤ rm.cells ∧ sl ≤ rm.slots)
    (hci : ci < 100) (hc : gzCl[ci]? = some (C, T, N)) (hsh : sh n = some (ci, N0)) (hn : As.length = nA) {st0 : List Value} (hst : st0 = As.reverse ++ .ref (ad n) :: rest) (h8 : (rest.map fun v => v.category).sum ≤ 8) (hdg : decode cc pc = .ok (.invokevirtual index, 3)) {st1 : List Value} (h1 : rv.toList ++ rest = st1)
    (k : gW X nL sh Rf ad V1 ce sl (pc + 3) lv st1) : gW X nL sh Rf ad V ce sl pc lv st0 := by
  refine gz_callV hX hM hlw hrc hrs hd hR hf hci hc hsh hn hst h8 hdg ?_
  rintro sh2 V2 Rf2 ad2 rv2 ⟨rfl, rfl, rfl, rfl, rfl⟩
  rw [h1]
  exact k
end GZH
/-! words of the plain functions -/
def gz_let {α β : Type} (x : α) (f : α → β) : β := f x
theorem gz_let_o {α β : Type} {x : α} {f : α → β} {o : β} (h : gz_let x f = o) : ∃ y, x = y ∧ f y = o := ⟨x, rfl, h⟩
def gz_gd {β : Type} (c : Prop) [Decidable c] (k : Option β) : Option β := if c then k else none
theorem gz_gd_o {β : Type} {c : Prop} [Decidable c] {k : Option β} {o : β} (h : gz_gd c k = some o) : c ∧ k = some o := by
  unfold gz_gd at h
  by_cases hc : c
  · rw [if_pos hc] at h; exact ⟨hc, h⟩
  · rw [if_neg hc] at h; cases h
def gz_bd {α β : Type} (x : Option α) (f : α → Option β) : Option β := match x with
  | none => none
  | some a => f a
theorem gz_bd_o {α β : Type} {x : Option α} {f : α → Option β} {o : β} (h : gz_bd x f = some o) : ∃ a, x = some a ∧ f a = some o := by
  cases x with
  | none => cases h
  | some a => exact ⟨a, rfl, h⟩
def gz_b2 {α γ β : Type} (x : Option (α × γ)) (f : α → γ → Option β) : Option β := match x with
  | none => none
  | some a => f a.1 a.2
theorem gz_b2_o {α γ β : Type} {x : Option (α × γ)} {f : α → γ → Option β} {o : β} (h : gz_b2 x f = some o) : ∃ a b, x = some (a, b) ∧ f a b = some o := by
  cases x with
  | none => cases h
  | some a => exact ⟨a.1, a.2, rfl, h⟩
def gz_b3 {α γ δ β : Type} (x : Option (α × γ × δ)) (f : α → γ → δ → Option β) : Option β := match x with
  | none => none
  | some a => f a.1 a.2.1 a.2.2
theorem gz_b3_o {α γ δ β : Type} {x : Option (α × γ × δ)} {f : α → γ → δ → Option β} {o : β} (h : gz_b3 x f = some o) : ∃ a b c, x = some (a, b, c) ∧ f a b c = some o := by
  cases x with
  | none => cases h
  | some a => exact ⟨a.1, a.2.1, a.2.2, rfl, h⟩
def gz_b4 {α γ δ ε β : Type} (x : Option (α × γ × δ × ε)) (f : α → γ → δ → ε → Option β) : Option β := match x with
  | none => none
  | some a => f a.1 a.2.1 a.2.2.1 a.2.2.2
theorem gz_b4_o {α γ δ ε β : Type} {x : Option (α × γ × δ × ε)} {f : α → γ → δ → ε → Option β} {o : β} (h : gz_b4 x f = some o) : ∃ a b c d, x = some (a, b, c, d) ∧ f a b c d = some o := by
  cases x with
  | none => cases h
  | some a => exact ⟨a.1, a.2.1, a.2.2.1, a.2.2.2, rfl, h⟩
def gz_b5 {α γ δ ε ζ β : Type} (x : Option (α × γ × δ × ε × ζ)) (f : α → γ → δ → ε → ζ → Option β) : Option β := match x with
  | none => none
  | some a => f a.1 a.2.1 a.2.2.1 a.2.2.2.1 a.2.2.2.2
theorem gz_b5_o {α γ δ ε ζ β : Type} {x : Option (α × γ × δ × ε × ζ)} {f : α → γ → δ → ε → ζ → Option β} {o : β} (h : gz_b5 x f = some o) : ∃ a b c d e, x = some (a, b, c, d, e) ∧ f a b c d e = some o := by
  cases x with
  | none => cases h
  | some a => exact ⟨a.1, a.2.1, a.2.2.1, a.2.2.2.1, a.2.2.2.2, rfl, h⟩
/-- behind a loop: it came to its exit, or the method returned in it -/
def gz_lp {α ρ β : Type} (x : Option (ρ ⊕ α)) (r : ρ → Option β) (f : α → Option β) : Option β := match x with
  | none => none
  | some (.inl a) => r a
  | some (.inr a) => f a
theorem gz_ifp {α : Type} {c : Prop} [Decidable c] {a b o : α} (hc : c) (h : (if c then a else b) = o) : a = o := by rw [if_pos hc] at h; exact h
theorem gz_ifn {α : Type} {c : Prop} [Decidable c] {a b o : α} (hc : ¬ c) (h : (if c then a else b) = o) : b = o := by rw [if_neg hc] at h; exact h
theorem gz_in1 {α : Type} {a b : α} (h : some a = some b) : a = b := Option.some.inj h
theorem gz_in2 {α β : Type} {a c : α} {b d : β} (h : some (a, b) = some (c, d)) : a = c ∧ b = d := Prod.mk.inj (Option.some.inj h)
theorem gz_in3 {α β γ : Type} {a c : α} {b d : β} {e f : γ} (h : some (a, b, e) = some (c, d, f)) : a = c ∧ b = d ∧ e = f := by
  have h := Option.some.inj h
  exact ⟨congrArg Prod.fst h, congrArg (fun z => z.2.1) h, congrArg (fun z => z.2.2) h⟩
theorem gz_in4 {α β γ δ : Type} {a c : α} {b d : β} {e f : γ} {g i : δ} (h : some (a, b, e, g) = some (c, d, f, i)) : a = c ∧ b = d ∧ e = f ∧ g = i := by
  have h := Option.some.inj h
  exact ⟨congrArg Prod.fst h, congrArg (fun z => z.2.1) h, congrArg (fun z => z.2.2.1) h, congrArg (fun z => z.2.2.2) h⟩
theorem gz_in5 {α β γ δ ε : Type} {a c : α} {b d : β} {e f : γ} {g i : δ} {j k : ε} (h : some (a, b, e, g, j) = some (c, d, f, i, k)) : a = c ∧ b = d ∧ e = f ∧ g = i ∧ j = k := by
  have h := Option.some.inj h
  exact ⟨congrArg Prod.fst h, congrArg (fun z => z.2.1) h, congrArg (fun z => z.2.2.1) h, congrArg (fun z => z.2.2.2.1) h, congrArg (fun z => z.2.2.2.2) h⟩
theorem gz_it2 {α β : Type} {a c : α} {b d : β} (h : (a, b) = (c, d)) : a = c ∧ b = d := Prod.mk.inj h
theorem gz_it3 {α β γ : Type} {a c : α} {b d : β} {e f : γ} (h : (a, b, e) = (c, d, f)) : a = c ∧ b = d ∧ e = f := gz_in3 (congrArg some h)
theorem gz_it4 {α β γ δ : Type} {a c : α} {b d : β} {e f : γ} {g i : δ} (h : (a, b, e, g) = (c, d, f, i)) : a = c ∧ b = d ∧ e = f ∧ g = i := gz_in4 (congrArg some h)
theorem gz_lp_o {α ρ β : Type} {x : Option (ρ ⊕ α)} {r : ρ → Option β} {f : α → Option β} {o : β} (h : gz_lp x r f = some o) : (∃ a, x = some (.inl a) ∧ r a = some o) ∨ ∃ a, x = some (.inr a) ∧ f a = some o := by
  cases x with
  | none => cases h
  | some a => cases a with
    | inl a => exact Or.inl ⟨a, rfl, h⟩
    | inr a => exact Or.inr ⟨a, rfl, h⟩
/-! ends of a method that makes no cell -/
section GZE
variable {X : gz_X} {cc : ByteArray} {own mn : String} {nL : Nat} {rm : Room} {ret : Option FieldType} {sh : gz_S} {Rf : gz_R} {ad : gz_A0} {V Vf : gz_V} {pc : Nat} {lv lv2 : List (Nat × Value)} {st : List Value}
theorem gt_iret (hX : gz_ok X cc own mn nL rm (some .int)) (hZ : gz_Z X) {x xf : Int32} (hF : gx_F X sh Vf Rf ad (some (.int xf))) (hV : V = Vf) (hx : x = xf) (hdg : decode cc pc = .ok (.ireturn, 1)) : gW X nL sh Rf ad V 0 0 pc lv [.int x] := by
  subst hV; subst hx
  have h := gz_iret (pc := pc) (lv := lv) hX hZ.1 hF hdg
  rw [hZ.2.1, hZ.2.2] at h
  exact h
theorem gt_zret (hX : gz_ok X cc own mn nL rm (some .boolean)) (hZ : gz_Z X) {x xf : Int32} (hn : narrow .boolean (.int x) = .int x) (hF : gx_F X sh Vf Rf ad (some (.int xf))) (hV : V = Vf) (hx : x = xf) (hdg : decode cc pc = .ok (.ireturn, 1)) : gW X nL sh Rf ad V 0 0 pc lv [.int x] := by
  subst hV; subst hx
  have h := gz_zret (pc := pc) (lv := lv) hX hZ.1 hn hF hdg
  rw [hZ.2.1, hZ.2.2] at h
  exact h
theorem gt_vret (hX : gz_ok X cc own mn nL rm none) (hZ : gz_Z X) (hF : gx_F X sh Vf Rf ad none) (hV : V = Vf) (hdg : decode cc pc = .ok (.return_, 1)) : gW X nL sh Rf ad V 0 0 pc lv [] := by
  subst hV
  have h := gz_vret (pc := pc) (lv := lv) hX hZ.1 hF hdg
  rw [hZ.2.1, hZ.2.2] at h
  exact h
/-- a contract of such a method -/
theorem gt_ofW {l : Launch} {y : MethodName} {code : ByteArray} {D : va_G} {aC : Nat → ClassId} {av : List Value} {rv : Option Value}
    (hy : plainName y.cls = true) (hc : y.cls = own) (hm : y.name = mn) (hn : (lg_sl av).length ≤ nL) (hlv : lv_args 0 av = lv)
    (k : ∀ X : gz_X, gz_ok X code own mn nL rm ret → gz_Z X → gx_F X sh Vf Rf ad rv → gW X nL sh Rf ad V 0 0 0 lv []) : gz_Met l y code nL ret rm D aC ad sh V Rf av (gz_F1 sh Rf ad Vf rv) 0 0 :=
  gz_ofW hy hc hm hn hlv (fun X hX _ _ _ h5 h6 h7 h8 => k X hX ⟨h8, h6, h7⟩ (by rw [h5]; exact gz_F1i rfl rfl))
theorem gz_nb {x : Int32} (h : x = 0 ∨ x = 1) : narrow .boolean (.int x) = .int x := by
  rcases h with rfl | rfl <;> rfl
theorem gz_fb {x : Int32} (h : x = 0 ∨ x = 1) : fits .boolean (.int x) = true := by
  rcases h with rfl | rfl <;> rfl
end GZE
/-- is j a place of an array of n? -/
def gz_inb (j : Int32) (n : Nat) : Bool := decide (¬ (j < 0 ∨ n ≤ j.toNatClampNeg))
theorem gz_inb_o {j : Int32} {n : Nat} (h : gz_inb j n = true) : vp_in j n := by
  unfold vp_in
  exact of_decide_eq_true h
theorem gz_inb_i {j : Int32} {n : Nat} (h : vp_in j n) : gz_inb j n = true := by
  unfold vp_in at h
  exact decide_eq_true h
def gz_l2 {α γ ρ β : Type} (x : Option (ρ ⊕ α × γ)) (r : ρ → Option β) (f : α → γ → Option β) : Option β := match x with
  | none => none
  | some (.inl a) => r a
  | some (.inr a) => f a.1 a.2
theorem gz_l2_o {α γ ρ β : Type} {x : Option (ρ ⊕ α × γ)} {r : ρ → Option β} {f : α → γ → Option β} {o : β} (h : gz_l2 x r f = some o) : (∃ a, x = some (.inl a) ∧ r a = some o) ∨ ∃ a b, x = some (.inr (a, b)) ∧ f a b = some o := by
  cases x with
  | none => cases h
  | some a => cases a with
    | inl a => exact Or.inl ⟨a, rfl, h⟩
    | inr a => exact Or.inr ⟨a.1, a.2, rfl, h⟩
def gz_l3 {α γ δ ρ β : Type} (x : Option (ρ ⊕ α × γ × δ)) (r : ρ → Option β) (f : α → γ → δ → Option β) : Option β := match x with
  | none => none
  | some (.inl a) => r a
  | some (.inr a) => f a.1 a.2.1 a.2.2
theorem gz_l3_o {α γ δ ρ β : Type} {x : Option (ρ ⊕ α × γ × δ)} {r : ρ → Option β} {f : α → γ → δ → Option β} {o : β} (h : gz_l3 x r f = some o) : (∃ a, x = some (.inl a) ∧ r a = some o) ∨ ∃ a b c, x = some (.inr (a, b, c)) ∧ f a b c = some o := by
  cases x with
  | none => cases h
  | some a => cases a with
    | inl a => exact Or.inl ⟨a, rfl, h⟩
    | inr a => exact Or.inr ⟨a.1, a.2.1, a.2.2, rfl, h⟩
