/-! MORE ROWS OF gW: nest mates, references, byte and boolean arrays, long numbers, switches, static calls -/
set_option maxRecDepth 100000
section GZX
variable {X : gz_X} {cc : ByteArray} {own mn : String} {nL : Nat} {rm : Room} {ret : Option FieldType} {sh : gz_S} {Rf Rf2 Rff : gz_R} {ad : gz_A0} {V V2 Vf : gz_V} {ce sl pc : Nat} {lv lv2 : List (Nat × Value)} {st : List Value}
theorem gz_clo {D : va_G} {aC : Nat → ClassId} {A : Nat → Prop} {H : Heap} {n b : gz_N} {g : Nat} (hw : gz_wd D aC A sh V Rf ad H) (hne : sh n ≠ none) (h : Rf n g = some b ∨ sh b ≠ none ∨ ∃ a g, sh a ≠ none ∧ Rf a g = some b) (h0 : b.1 ≠ 0) : sh b ≠ none := by
  rcases h with h | h | ⟨a, g2, h1, h2⟩
  · exact hw.2.2.2.1 n g b hne h h0
  · exact h
  · exact hw.2.2.2.1 a g2 b h1 h2 h0
/-- a field written, whatever it is: own class -/
theorem gz_putG (hX : gz_ok X cc own mn nL rm ret) {C : String} {T : u_T} {N N0 ci index : Nat} {n : gz_N} (hin : ∀ w ∈ u_ws C T N, w ∈ lw_all) (hap : ∀ x y, x < N → y < N → x ≠ y → ((gx_D X).2 ci) x ≠ ((gx_D X).2 ci) y) (hci : ci < 100) (hc : gzCl[ci]? = some (C, T, N)) (hsh : sh n = some (ci, N0)) (hn0 : n.1 ≠ 0) (f : Nat) (hf : f < N) (hlink : Cond.fieldLink own index (T f).1 (T f).2.1 (T f).2.2.1 ∈ lw_all) (hfin : (T f).2.2.2 = false) {ty : FieldType} (hd : parseFieldDescriptor (T f).2.2.1 = some ty) {v : Value} (hn : narrow ty v = v) (hfit : fits ty v = true) (hdg : decode cc pc = .ok (.putfield index, 3))
    (hj : ∀ j, updV (fun f => gz_fv ci V Rf ad n f) f v j = gz_fv ci V2 Rf2 ad n j) (hv : ∀ a, a ≠ n → V2 a = V a) (hr : ∀ a, a ≠ n → Rf2 a = Rf a) (hcl : ∀ f b, Rf2 n f = some b → b.1 ≠ 0 → Rf n f = some b ∨ sh b ≠ none ∨ ∃ a g, sh a ≠ none ∧ Rf a g = some b)
    (k : gW X nL sh Rf2 ad V2 ce sl (pc + 3) lv st) : gW X nL sh Rf ad V ce sl pc lv (v :: .ref (ad n) :: st) := by
  intro H locs ls hw hS hl
  obtain ⟨cell, q1, q2, q3, q4⟩ := gz_obj hw hsh hci hc
  obtain ⟨hSl, hfc, kC, hkC, hkind⟩ := hX.2.2.2.2.2.1.1 ci _ hc
  obtain ⟨cf, kf, fi, fd, hi, hsl⟩ := hSl f hf
  have hlay := hX.2.2.2.2.1 _ (hin _ (u_in_lay hf))
  unfold u_lay at hlay
  rw [if_neg (by rw [hfin]; decide)] at hlay
  have hst := (u_facts hfc hkC (u_lays hX.2.2.2.2.1 hin hf) hi).1
  have h6 := u_store hfc hkC hkind hlay hi hd hn hfit
  refine W.putK hX.1 hX.2.1 (f := fd) ⟨hX.2.2.2.1, hX.2.2.2.2.1 _ hlink, ⟨_, _, _, hi⟩, hst⟩ (by rw [q2]; exact h6) q1 q3 (by rw [hsl]; exact k2_hasslot (q4 f hf)) rfl rfl hdg fun H' e1 e2 e3 => ?_
  rw [hsl] at e1 ⊢
  have hne : sh n ≠ none := by rw [hsh]; exact fun z => by cases z
  refine k H' _ ls (hw.put hne hv hr e3 (fun g b hb h0 => gz_clo hw hne (hcl g b hb h0) h0) (fun t ht => ?_)) (hS.put e2 e3 (hw.2.2.1 n hne hn0)) hl
  cases hsh.symm.trans ht
  unfold gz_at
  rw [if_pos hci]
  exact ⟨_, hc, t_OB.to ⟨_, e1, q2, q3, t_set q4 hap hf v⟩ (fun j _ => hj j)⟩
/-- the same, a nest mate's -/
theorem gz_putGN (hX : gz_ok X cc own mn nL rm ret) {C host : String} {T : u_T} {N N0 ci index : Nat} {n : gz_N} (hin : ∀ w ∈ u_ws C T N, w ∈ lw_all) (hap : ∀ x y, x < N → y < N → x ≠ y → ((gx_D X).2 ci) x ≠ ((gx_D X).2 ci) y) (hci : ci < 100) (hc : gzCl[ci]? = some (C, T, N)) (hsh : sh n = some (ci, N0)) (hn0 : n.1 ≠ 0) (f : Nat) (hf : f < N) (hlink : Cond.fieldLinkNest own index (T f).1 (T f).2.1 (T f).2.2.1 host ∈ lw_tbl) (hfin : (T f).2.2.2 = false) {ty : FieldType} (hd : parseFieldDescriptor (T f).2.2.1 = some ty) {v : Value} (hn : narrow ty v = v) (hfit : fits ty v = true) (hdg : decode cc pc = .ok (.putfield index, 3))
    (hj : ∀ j, updV (fun f => gz_fv ci V Rf ad n f) f v j = gz_fv ci V2 Rf2 ad n j) (hv : ∀ a, a ≠ n → V2 a = V a) (hr : ∀ a, a ≠ n → Rf2 a = Rf a) (hcl : ∀ f b, Rf2 n f = some b → b.1 ≠ 0 → Rf n f = some b ∨ sh b ≠ none ∨ ∃ a g, sh a ≠ none ∧ Rf a g = some b)
    (k : gW X nL sh Rf2 ad V2 ce sl (pc + 3) lv st) : gW X nL sh Rf ad V ce sl pc lv (v :: .ref (ad n) :: st) := by
  intro H locs ls hw hS hl
  obtain ⟨cell, q1, q2, q3, q4⟩ := gz_obj hw hsh hci hc
  obtain ⟨hSl, hfc, kC, hkC, hkind⟩ := hX.2.2.2.2.2.1.1 ci _ hc
  obtain ⟨cf, kf, fi, fd, hi, hsl⟩ := hSl f hf
  have hlay := hX.2.2.2.2.1 _ (hin _ (u_in_lay hf))
  unfold u_lay at hlay
  rw [if_neg (by rw [hfin]; decide)] at hlay
  have hst := (u_facts hfc hkC (u_lays hX.2.2.2.2.1 hin hf) hi).1
  have h6 := u_store hfc hkC hkind hlay hi hd hn hfit
  refine va_WputK hX.1 hX.2.1 (f := fd) hX.2.2.2.1 (va_Nw.use rfl (hX.2.2.2.2.2.2.2.2.2.2.2.1.1 _ (gz_nw hlink rfl))) hi hst (by rw [q2]; exact h6) q1 q3 (by rw [hsl]; exact k2_hasslot (q4 f hf)) rfl rfl hdg fun H' e1 e2 e3 => ?_
  rw [hsl] at e1 ⊢
  have hne : sh n ≠ none := by rw [hsh]; exact fun z => by cases z
  refine k H' _ ls (hw.put hne hv hr e3 (fun g b hb h0 => gz_clo hw hne (hcl g b hb h0) h0) (fun t ht => ?_)) (hS.put e2 e3 (hw.2.2.1 n hne hn0)) hl
  cases hsh.symm.trans ht
  unfold gz_at
  rw [if_pos hci]
  exact ⟨_, hc, t_OB.to ⟨_, e1, q2, q3, t_set q4 hap hf v⟩ (fun j _ => hj j)⟩
/-- a reference array's element read -/
theorem gz_aald (hX : gz_ok X cc own mn nL rm ret) {L t t0 : Nat} {ty : FieldType} {n n2 : gz_N} (ht1 : ¬ t < 100) (ht2 : ¬ t < 110) (ht : ∀ aC, (gz_tys aC)[t0]? = some (aC t, ty)) (hty : ty.isReference = true) (hsh : sh n = some (t, L)) {j : Int32} (hin : vp_in j L) (hR : Rf n j.toNatClampNeg = some n2) (hdg : decode cc pc = .ok (.aaload, 1))
    (k : gW X nL sh Rf ad V ce sl (pc + 1) lv (.ref (ad n2) :: st)) : gW X nL sh Rf ad V ce sl pc lv (.int j :: .ref (ad n) :: st) := by
  intro H locs ls hw hS hl
  have ha := gz_arq hw hsh ht1 ht2
  have hlt : j.toNatClampNeg < L := Nat.not_le.mp fun q => hin (Or.inr q)
  refine W.aald (v := .ref (ad n2)) (ty := ty) hX.1 hX.2.1 ha ((hX.2.2.2.2.2.1.2 t0 _ (ht _)).1 L (fun j => va_rf ((Rf n j).map ad))) hty (fun q => by cases q) (by rw [arrV_size]; exact hin) ?_ rfl rfl hdg (k H locs ls hw hS hl)
  rw [arrV_read _ _ hlt, hR]
  rfl
/-- a reference array's element written -/
theorem gz_aast (hX : gz_ok X cc own mn nL rm ret) {L t t0 ci N0 : Nat} {E : String} {q : vw_C} {n n2 : gz_N} (ht1 : ¬ t < 100) (ht2 : ¬ t < 110) (ht : ∀ aC, (gz_tys aC)[t0]? = some (aC t, .object E)) (hsh : sh n = some (t, L)) (hn0 : n.1 ≠ 0) (hci : ci < 100) (hc : gzCl[ci]? = some q) (hsh2 : sh n2 = some (ci, N0)) (hE : q.1 = E ∨ Cond.castable q.1 E ∈ lw_tbl) {j : Int32} (hin : vp_in j L) (hdg : decode cc pc = .ok (.aastore, 1)) (hR : gz_ur Rf n j.toNatClampNeg (some n2) = Rf2)
    (k : gW X nL sh Rf2 ad V ce sl (pc + 1) lv st) : gW X nL sh Rf ad V ce sl pc lv (.ref (ad n2) :: .int j :: .ref (ad n) :: st) := by
  intro H locs ls hw hS hl
  subst hR
  have ha := gz_arq hw hsh ht1 ht2
  have hlt : j.toNatClampNeg < L := Nat.not_le.mp fun q => hin (Or.inr q)
  have h0 : ¬ j < 0 := fun q => hin (Or.inl q)
  obtain ⟨cell, g1, g2, g3, -⟩ := gz_obj hw hsh2 hci hc
  have hcls := (hX.2.2.2.2.2.1.1 ci q hc).2
  obtain ⟨kA, comp, k1, k2, k3, -⟩ := (hX.2.2.2.2.2.1.2 t0 _ (ht _)).2
  obtain ⟨kE, hkE, -⟩ := Vm.findClass_spec k3
  obtain ⟨hfc, kC, hkC, hkind⟩ := hcls
  have hasg : (gx_s X).vm.assignable ((gx_D X).1 ci) comp = true := by
    rcases hE with rfl | hE
    · cases hfc.symm.trans k3
      exact va_assign ⟨hfc, kC, hkC, hkind⟩
    · obtain ⟨c0, t1, f1, f2, f3⟩ := Cond.castable_spec (va_Nw.use (A := #[]) rfl (hX.2.2.2.2.2.2.2.2.2.2.2.1.1 _ (gz_nw hE rfl)))
      cases hfc.symm.trans f1
      cases k3.symm.trans f2
      exact f3
  have hne : sh n ≠ none := by rw [hsh]; exact fun z => by cases z
  refine W.aast hX.1 hX.2.1 ha (fun q h => by cases h) (fun h => by cases h) k1 k2 rfl hkE ⟨h0, by rw [arrV_size]; exact hlt⟩ g1 (fun q h => by rw [g3] at h; cases h) (by rw [g2]; exact hkC) (by rw [g2]; exact hasg) rfl rfl hdg fun H1 e z oq => ?_
  refine k H1 _ ls (hw.put hne (fun a _ => rfl) (fun a h => gz_ur_ne h) oq (fun g b hb h0 => ?_) (fun t2 hs2 => ?_)) (hS.put z oq (hw.2.2.1 n hne hn0)) hl
  · rw [gz_ur_eq] at hb
    by_cases hg : g = j.toNatClampNeg
    · simp only [hg, if_true, Option.some.injEq] at hb
      subst hb
      rw [hsh2]
      exact fun z => by cases z
    · simp only [hg, if_false] at hb
      exact hw.2.2.2.1 n g b hne hb h0
  cases hsh.symm.trans hs2
  unfold gz_at
  rw [if_neg ht1, if_neg ht2, e, arrV_store]
  congr 2
  funext q
  rw [gz_ur_eq]
  unfold updV
  by_cases hq : q = j.toNatClampNeg
  · simp [hq, va_rf]
  · simp [hq]
theorem gz_alenq (hX : gz_ok X cc own mn nL rm ret) {L t t0 : Nat} {ty : FieldType} {n : gz_N} (ht1 : ¬ t < 100) (ht2 : ¬ t < 110) (ht : ∀ aC, (gz_tys aC)[t0]? = some (aC t, ty)) (hsh : sh n = some (t, L)) {v : Int32} (hv : L.toInt32 = v) (hdg : decode cc pc = .ok (.arraylength, 1))
    (k : gW X nL sh Rf ad V ce sl (pc + 1) lv (.int v :: st)) : gW X nL sh Rf ad V ce sl pc lv (.ref (ad n) :: st) := by
  intro H locs ls hw hS hl
  have ha := gz_arq hw hsh ht1 ht2
  exact W.alen hX.1 hX.2.1 ha ((hX.2.2.2.2.2.1.2 t0 _ (ht _)).1 L (fun j => va_rf ((Rf n j).map ad))) (by rw [arrV_size]; exact hv) rfl rfl hdg (k H locs ls hw hS hl)
/-- byte arrays -/
theorem gz_bald (hX : gz_ok X cc own mn nL rm ret) {L : Nat} {n : gz_N} (hsh : sh n = some (101, L)) {j : Int32} (hin : vp_in j L) (hdg : decode cc pc = .ok (.baload, 1))
    (k : gW X nL sh Rf ad V ce sl (pc + 1) lv (.int (V n j.toNatClampNeg) :: st)) : gW X nL sh Rf ad V ce sl pc lv (.int j :: .ref (ad n) :: st) := by
  intro H locs ls hw hS hl
  have ha := gz_arr hw hsh (by decide) (by decide)
  have hlt : j.toNatClampNeg < L := Nat.not_le.mp fun q => hin (Or.inr q)
  exact W.bald (v := .int (V n j.toNatClampNeg)) hX.1 hX.2.1 ha ((hX.2.2.2.2.2.1.2 1 _ rfl).1 L (fun j => .int (V n j))) (fun q => by cases q) (by rw [arrV_size]; exact hin) (by rw [arrV_read _ _ hlt]) rfl rfl hdg (k H locs ls hw hS hl)
theorem gz_zald (hX : gz_ok X cc own mn nL rm ret) {L : Nat} {n : gz_N} (hsh : sh n = some (102, L)) {j : Int32} (hin : vp_in j L) (hdg : decode cc pc = .ok (.baload, 1))
    (k : gW X nL sh Rf ad V ce sl (pc + 1) lv (.int (V n j.toNatClampNeg) :: st)) : gW X nL sh Rf ad V ce sl pc lv (.int j :: .ref (ad n) :: st) := by
  intro H locs ls hw hS hl
  have ha := gz_arr hw hsh (by decide) (by decide)
  have hlt : j.toNatClampNeg < L := Nat.not_le.mp fun q => hin (Or.inr q)
  exact W.zald (v := .int (V n j.toNatClampNeg)) hX.1 hX.2.1 ha ((hX.2.2.2.2.2.1.2 2 _ rfl).1 L (fun j => .int (V n j))) (fun q => by cases q) (by rw [arrV_size]; exact hin) (by rw [arrV_read _ _ hlt]) rfl rfl hdg (k H locs ls hw hS hl)
theorem gz_arr_put {D : va_G} {aC : Nat → ClassId} {A : Nat → Prop} {H H1 : Heap} {n : gz_N} {t L j : Nat} {x : Int32} (hw : gz_wd D aC A sh V Rf ad H) (hsh : sh n = some (t, L)) (h1 : ¬ t < 100) (h2 : t < 110) (e : H1[ad n]? = some ((arrV (aC t) L (fun j => .int (V n j))).setSlot j (.int x))) (oq : ∀ q, q ≠ ad n → H1[q]? = H[q]?) : gz_wd D aC A sh (gz_up V n j x) Rf ad H1 := by
  have hne : sh n ≠ none := by rw [hsh]; exact fun z => by cases z
  refine hw.put hne (fun a h => gz_up_ne h) (fun a _ => rfl) oq (fun f b hb h0 => hw.2.2.2.1 n f b hne hb h0) (fun t2 ht => ?_)
  cases hsh.symm.trans ht
  unfold gz_at
  rw [if_neg h1, if_pos h2, e, arrV_store]
  congr 2
  funext q
  rw [gz_up_eq]
  unfold updV upd
  by_cases hq : q = j
  · rw [if_pos hq, if_pos hq]
  · rw [if_neg hq, if_neg hq]
theorem gz_bast (hX : gz_ok X cc own mn nL rm ret) {L : Nat} {n : gz_N} (hsh : sh n = some (101, L)) (hn0 : n.1 ≠ 0) {j x : Int32} (hin : vp_in j L) (hdg : decode cc pc = .ok (.bastore, 1)) (hV : gz_up V n j.toNatClampNeg x.toInt8.toInt32 = V2)
    (k : gW X nL sh Rf ad V2 ce sl (pc + 1) lv st) : gW X nL sh Rf ad V ce sl pc lv (.int x :: .int j :: .ref (ad n) :: st) := by
  intro H locs ls hw hS hl
  subst hV
  have ha := gz_arr hw hsh (by decide) (by decide)
  have hne : sh n ≠ none := by rw [hsh]; exact fun z => by cases z
  exact W.bast hX.1 hX.2.1 ha ((hX.2.2.2.2.2.1.2 1 _ rfl).1 L (fun j => .int (V n j))) (fun q => by cases q) (by rw [arrV_size]; exact hin) rfl rfl hdg fun H1 e z oq =>
    k H1 _ ls (gz_arr_put hw hsh (by decide) (by decide) e oq) (hS.put z oq (hw.2.2.1 n hne hn0)) hl
theorem gz_zast (hX : gz_ok X cc own mn nL rm ret) {L : Nat} {n : gz_N} (hsh : sh n = some (102, L)) (hn0 : n.1 ≠ 0) {j x : Int32} (h01 : x = 0 ∨ x = 1) (hin : vp_in j L) (hdg : decode cc pc = .ok (.bastore, 1)) (hV : gz_up V n j.toNatClampNeg x = V2)
    (k : gW X nL sh Rf ad V2 ce sl (pc + 1) lv st) : gW X nL sh Rf ad V ce sl pc lv (.int x :: .int j :: .ref (ad n) :: st) := by
  intro H locs ls hw hS hl
  subst hV
  have ha := gz_arr hw hsh (by decide) (by decide)
  have hne : sh n ≠ none := by rw [hsh]; exact fun z => by cases z
  exact W.zast hX.1 hX.2.1 ha ((hX.2.2.2.2.2.1.2 2 _ rfl).1 L (fun j => .int (V n j))) (fun q => by cases q) (by rw [arrV_size]; exact hin) rfl rfl hdg fun H1 e z oq =>
    k H1 _ ls (gz_arr_put hw hsh (by decide) (by decide) (by rw [gz_nb h01] at e; exact e) oq) (hS.put z oq (hw.2.2.1 n hne hn0)) hl
/-! numbers, null, switches -/
theorem gz_i2b (hX : gz_ok X cc own mn nL rm ret) {x : Int32} (hdg : decode cc pc = .ok (.i2b, 1)) (k : gW X nL sh Rf ad V ce sl (pc + 1) lv (.int x.toInt8.toInt32 :: st)) : gW X nL sh Rf ad V ce sl pc lv (.int x :: st) := fun H locs ls hw hS hl => lv_i2b hX.1 hX.2.1 hdg rfl (k H locs ls hw hS hl)
theorem gz_i2l (hX : gz_ok X cc own mn nL rm ret) {x : Int32} (hdg : decode cc pc = .ok (.i2l, 1)) (k : gW X nL sh Rf ad V ce sl (pc + 1) lv (.long x.toInt64 :: st)) : gW X nL sh Rf ad V ce sl pc lv (.int x :: st) := fun H locs ls hw hS hl => lv_i2l hX.1 hX.2.1 hdg rfl (k H locs ls hw hS hl)
theorem gz_l2i (hX : gz_ok X cc own mn nL rm ret) {x : Int64} (hdg : decode cc pc = .ok (.l2i, 1)) (k : gW X nL sh Rf ad V ce sl (pc + 1) lv (.int x.toInt32 :: st)) : gW X nL sh Rf ad V ce sl pc lv (.long x :: st) := fun H locs ls hw hS hl => lv_l2i hX.1 hX.2.1 hdg rfl (k H locs ls hw hS hl)
theorem gz_lmul (hX : gz_ok X cc own mn nL rm ret) {x y : Int64} (hdg : decode cc pc = .ok (.lmul, 1)) (k : gW X nL sh Rf ad V ce sl (pc + 1) lv (.long (x * y) :: st)) : gW X nL sh Rf ad V ce sl pc lv (.long y :: .long x :: st) := fun H locs ls hw hS hl => lv_lmul hX.1 hX.2.1 hdg (k H locs ls hw hS hl)
theorem gz_ladd (hX : gz_ok X cc own mn nL rm ret) {x y : Int64} (hdg : decode cc pc = .ok (.ladd, 1)) (k : gW X nL sh Rf ad V ce sl (pc + 1) lv (.long (x + y) :: st)) : gW X nL sh Rf ad V ce sl pc lv (.long y :: .long x :: st) := fun H locs ls hw hS hl => lv_ladd hX.1 hX.2.1 hdg (k H locs ls hw hS hl)
theorem gz_lrem (hX : gz_ok X cc own mn nL rm ret) {x y : Int64} (hdg : decode cc pc = .ok (.lrem, 1)) (hne : ¬ y = 0) (k : gW X nL sh Rf ad V ce sl (pc + 1) lv (.long (x - x / y * y) :: st)) : gW X nL sh Rf ad V ce sl pc lv (.long y :: .long x :: st) := fun H locs ls hw hS hl => lv_lrem hX.1 hX.2.1 hdg hne (k H locs ls hw hS hl)
theorem gz_ldc2 (hX : gz_ok X cc own mn nL rm ret) {index : Nat} {v : Int64} (hw2 : Jvm.Cond.constantLong own index v ∈ lw_all) (hdg : decode cc pc = .ok (.ldc2_w index, 3)) (k : gW X nL sh Rf ad V ce sl (pc + 3) lv (.long v :: st)) : gW X nL sh Rf ad V ce sl pc lv st := fun H locs ls hw hS hl => lv_ldc2 hX.1 hX.2.1 hX.2.2.2.1 (hX.2.2.2.2.1 _ hw2) hdg (k H locs ls hw hS hl)
theorem gz_null (hX : gz_ok X cc own mn nL rm ret) (hdg : decode cc pc = .ok (.aconst_null, 1)) (k : gW X nL sh Rf ad V ce sl (pc + 1) lv (.null :: st)) : gW X nL sh Rf ad V ce sl pc lv st := fun H locs ls hw hS hl => lv_null hX.1 hX.2.1 hdg (k H locs ls hw hS hl)
theorem gz_ifnonnull (hX : gz_ok X cc own mn nL rm ret) {x : Nat} {off : Int} {tgt : Nat} (hdg : decode cc pc = .ok (.ifnonnull off, 3)) (ht : (pc : Int) + off = (tgt : Int)) (k : gW X nL sh Rf ad V ce sl tgt lv st) : gW X nL sh Rf ad V ce sl pc lv (.ref x :: st) := fun H locs ls hw hS hl => lv_ifnonnull hX.1 hX.2.1 hdg ht (k H locs ls hw hS hl)
theorem gz_ifnonnullN (hX : gz_ok X cc own mn nL rm ret) {off : Int} (hdg : decode cc pc = .ok (.ifnonnull off, 3)) (k : gW X nL sh Rf ad V ce sl (pc + 3) lv st) : gW X nL sh Rf ad V ce sl pc lv (.null :: st) := fun H locs ls hw hS hl => lv_ifnonnullN hX.1 hX.2.1 hdg (k H locs ls hw hS hl)
theorem gz_ifnull (hX : gz_ok X cc own mn nL rm ret) {x : Nat} {off : Int} (hdg : decode cc pc = .ok (.ifnull off, 3)) (k : gW X nL sh Rf ad V ce sl (pc + 3) lv st) : gW X nL sh Rf ad V ce sl pc lv (.ref x :: st) := fun H locs ls hw hS hl => lv_ifnull hX.1 hX.2.1 hdg (k H locs ls hw hS hl)
theorem gz_ifnullN (hX : gz_ok X cc own mn nL rm ret) {off : Int} {tgt : Nat} (hdg : decode cc pc = .ok (.ifnull off, 3)) (ht : (pc : Int) + off = (tgt : Int)) (k : gW X nL sh Rf ad V ce sl tgt lv st) : gW X nL sh Rf ad V ce sl pc lv (.null :: st) := fun H locs ls hw hS hl => lv_ifnullN hX.1 hX.2.1 hdg ht (k H locs ls hw hS hl)
theorem gz_aload_nN (hX : gz_ok X cc own mn nL rm ret) {k4 : Fin 4} {i q : Nat} (hdg : decode cc pc = .ok (.aload_n k4, 1)) (hi : (k4 : Nat) = i) (hq : lv[q]? = some (i, .null)) (k : gW X nL sh Rf ad V ce sl (pc + 1) lv (.null :: st)) : gW X nL sh Rf ad V ce sl pc lv st := fun H locs ls hw hS hl => lv_aload_nN hX.1 hX.2.1 hdg hi (lv_at hl q hq) (k H locs ls hw hS hl)
theorem gz_aloadN (hX : gz_ok X cc own mn nL rm ret) {i q : Nat} (hdg : decode cc pc = .ok (.aload i, 2)) (hq : lv[q]? = some (i, .null)) (k : gW X nL sh Rf ad V ce sl (pc + 2) lv (.null :: st)) : gW X nL sh Rf ad V ce sl pc lv st := fun H locs ls hw hS hl => lv_aloadN hX.1 hX.2.1 hdg (lv_at hl q hq) (k H locs ls hw hS hl)
/-- a switch: outside of its table -/
theorem gz_tableOut (hX : gz_ok X cc own mn nL rm ret) {dflt lo hi : Int} {offs : Array Int} {len : Nat} {x : Int32} {tgt : Nat} (hdg : decode cc pc = .ok (.tableswitch dflt lo hi offs, len)) (h : x.toInt < lo ∨ hi < x.toInt) (ht : (pc : Int) + dflt = (tgt : Int)) (k : gW X nL sh Rf ad V ce sl tgt lv st) : gW X nL sh Rf ad V ce sl pc lv (.int x :: st) := fun H locs ls hw hS hl => lv_tableOut hX.1 hX.2.1 hdg h ht (k H locs ls hw hS hl)
/-- a switch: one number of its table -/
theorem gz_tableAt (hX : gz_ok X cc own mn nL rm ret) {dflt lo hi : Int} {offs : Array Int} {len : Nat} {x v : Int32} {off : Int} {tgt : Nat} (hdg : decode cc pc = .ok (.tableswitch dflt lo hi offs, len)) (hx : x = v) (h1 : ¬ v.toInt < lo) (h2 : ¬ hi < v.toInt) (ho : offs[(v.toInt - lo).toNat]? = some off) (ht : (pc : Int) + off = (tgt : Int)) (k : gW X nL sh Rf ad V ce sl tgt lv st) : gW X nL sh Rf ad V ce sl pc lv (.int x :: st) := fun H locs ls hw hS hl => lv_tableIn hX.1 hX.2.1 hdg (by rw [hx]; exact h1) (by rw [hx]; exact h2) (by rw [hx]; exact ho) ht (k H locs ls hw hS hl)
/-! calls that end in a known world -/
theorem gu_callV (hX : gz_ok X cc own mn nL rm ret) {y : MethodName} {code : ByteArray} {nL2 : Nat} {ret2 : Option FieldType} {rm2 : Room} {V1 : gz_V} {Rf1 : gz_R} {rv : Option Value} {index nA : Nat} {n : gz_N} {C : String} {T : u_T} {N N0 ci : Nat} {As rest : List Value}
    (hM : gz_Met (gx_l X) y code nL2 ret2 rm2 (gx_D X) (gx_C X) ad sh V Rf (.ref (ad n) :: As) (gz_F1 sh Rf1 ad V1 rv) 0 0) (hlw : GoodIn lw_all (wsV own index C y (ws_ y code nL2 ret2))) (hrc : rm2.cells = 0) (hrs : rm2.slots = 0)
    (hd : y.cls = C ∧ y.cls ≠ "java/lang/invoke/MethodHandle" ∧ y.cls ≠ "java/lang/invoke/VarHandle" ∧ (parseMethodDescriptor y.desc).map (fun d => d.parameters.length) = some nA) (hR : rm2.frames + 1 ≤ rm.frames ∧ 8 + (nL2 + 11) + rm2.locals ≤ rm.locals) (hf : ce ≤ rm.cells ∧ sl ≤ rm.slots)
    (hci : ci < 100) (hc : gzCl[ci]? = some (C, T, N)) (hsh : sh n = some (ci, N0)) (hn : As.length = nA) {st0 : List Value} (hst : st0 = As.reverse ++ .ref (ad n) :: rest) (h8 : (rest.map fun v => v.category).sum ≤ 8) (hdg : decode cc pc = .ok (.invokevirtual index, 3)) {st1 : List Value} (h1 : rv.toList ++ rest = st1)
    (k : gW X nL sh Rf1 ad V1 ce sl (pc + 3) lv st1) : gW X nL sh Rf ad V ce sl pc lv st0 := by
  refine gz_callV hX hM hlw hrc hrs hd hR hf hci hc hsh hn hst h8 hdg ?_
  rintro sh2 V2 Rf2 ad2 rv2 ⟨rfl, rfl, rfl, rfl, rfl⟩
  rw [h1]
  exact k
theorem gu_callS (hX : gz_ok X cc own mn nL rm ret) {y : MethodName} {code : ByteArray} {nL2 : Nat} {ret2 : Option FieldType} {rm2 : Room} {V1 : gz_V} {Rf1 : gz_R} {rv : Option Value} {index nA : Nat} {As rest : List Value}
    (hM : gz_Met (gx_l X) y code nL2 ret2 rm2 (gx_D X) (gx_C X) ad sh V Rf As (gz_F1 sh Rf1 ad V1 rv) 0 0) (hlw : GoodIn lw_all (va_wsS own index y (ws_ y code nL2 ret2))) (hrc : rm2.cells = 0) (hrs : rm2.slots = 0)
    (hd : y.cls ≠ "java/lang/invoke/MethodHandle" ∧ y.cls ≠ "java/lang/invoke/VarHandle" ∧ (parseMethodDescriptor y.desc).map (fun d => d.parameters.length) = some nA) (hR : rm2.frames + 1 ≤ rm.frames ∧ 8 + (nL2 + 11) + rm2.locals ≤ rm.locals) (hf : ce ≤ rm.cells ∧ sl ≤ rm.slots)
    (hn : As.length = nA) {st0 : List Value} (hst : st0 = As.reverse ++ rest) (h8 : (rest.map fun v => v.category).sum ≤ 8) (hdg : decode cc pc = .ok (.invokestatic index, 3)) {st1 : List Value} (h1 : rv.toList ++ rest = st1)
    (k : gW X nL sh Rf1 ad V1 ce sl (pc + 3) lv st1) : gW X nL sh Rf ad V ce sl pc lv st0 := by
  refine gz_callS hX hM hlw hrc hrs hd hR hf hn hst h8 hdg ?_
  rintro sh2 V2 Rf2 ad2 rv2 ⟨rfl, rfl, rfl, rfl, rfl⟩
  rw [h1]
  exact k
/-- a static call of a nest mate -/
theorem gu_callSN (hX : gz_ok X cc own mn nL rm ret) {y : MethodName} {host : String} {code : ByteArray} {nL2 : Nat} {ret2 : Option FieldType} {rm2 : Room} {V1 : gz_V} {Rf1 : gz_R} {rv : Option Value} {index nA : Nat} {As rest : List Value}
    (hM : gz_Met (gx_l X) y code nL2 ret2 rm2 (gx_D X) (gx_C X) ad sh V Rf As (gz_F1 sh Rf1 ad V1 rv) 0 0) (hlk : Cond.methodLinkNest own index y host ∈ lw_tbl) (hlw : GoodIn lw_all (ws_ y code nL2 ret2)) (hini : Cond.initialized y.cls ∈ lw_all) (hsta : Cond.static y ∈ lw_all) (hrc : rm2.cells = 0) (hrs : rm2.slots = 0)
    (hd : y.cls ≠ "java/lang/invoke/MethodHandle" ∧ y.cls ≠ "java/lang/invoke/VarHandle" ∧ (parseMethodDescriptor y.desc).map (fun d => d.parameters.length) = some nA) (hR : rm2.frames + 1 ≤ rm.frames ∧ 8 + (nL2 + 11) + rm2.locals ≤ rm.locals) (hf : ce ≤ rm.cells ∧ sl ≤ rm.slots)
    (hn : As.length = nA) {st0 : List Value} (hst : st0 = As.reverse ++ rest) (h8 : (rest.map fun v => v.category).sum ≤ 8) (hdg : decode cc pc = .ok (.invokestatic index, 3)) {st1 : List Value} (h1 : rv.toList ++ rest = st1)
    (k : gW X nL sh Rf1 ad V1 ce sl (pc + 3) lv st1) : gW X nL sh Rf ad V ce sl pc lv st0 := by
  intro H locs ls hw hS hl
  have hK := hX.2.2.2.2.2.1
  have hA := gz_Asub hX hw hS
  have hNW := hX.2.2.2.2.2.2.2.2.2.2.2.1
  have hcw := va_cnB (R := gx_R X) nA hX.2.2.2.2.1 hlw rfl hrc hrs (hNW.1 _ (gz_nw hlk rfl)) (hX.2.2.2.2.1 _ hini) hd (by rw [hX.2.2.2.2.2.2.2.2.1]; exact hR)
  refine gz_back (va_runSN (As := As) (rest := rest) ⟨hX.1, hX.2.1, hX.2.2.1, hX.2.2.2.1, hX.2.2.2.2.1⟩ (hM H.size) ⟨hcw, hX.2.2.2.2.1 _ hsta, trivial⟩ ⟨gz_blind, fun U hU hW => ⟨rfl, by rw [hU], ⟨by rw [hU]; exact hw.own, va_K.moved hW.alike hK, hNW.warm hW, hX.2.2.2.2.2.2.2.2.2.2.2.2.call hW (by rw [hU]; exact hS.2.1) hA⟩⟩⟩ rfl hn hl.1 hst (lv_room h8) hdg (by rw [hX.2.2.2.2.2.2.2.2.1]; exact hf)) hS hA (fun sh2 V2 Rf2 ad2 rv2 H1 locs1 hw1 hF hS1 => ?_)
  obtain ⟨rfl, rfl, rfl, rfl, rfl⟩ := hF
  rw [h1]
  exact k H1 locs1 ls hw1 hS1 hl
/-! ends in a known world -/
theorem gu_iret (hX : gz_ok X cc own mn nL rm (some .int)) (hZ : gz_Z X) {x xf : Int32} (hF : gx_F X sh Vf Rff ad (some (.int xf))) (hV : V = Vf) (hR : Rf = Rff) (hx : x = xf) (hdg : decode cc pc = .ok (.ireturn, 1)) : gW X nL sh Rf ad V 0 0 pc lv [.int x] := by
  subst hR
  exact gt_iret hX hZ hF hV hx hdg
theorem gu_zret (hX : gz_ok X cc own mn nL rm (some .boolean)) (hZ : gz_Z X) {x xf : Int32} (hn : narrow .boolean (.int x) = .int x) (hF : gx_F X sh Vf Rff ad (some (.int xf))) (hV : V = Vf) (hR : Rf = Rff) (hx : x = xf) (hdg : decode cc pc = .ok (.ireturn, 1)) : gW X nL sh Rf ad V 0 0 pc lv [.int x] := by
  subst hR
  exact gt_zret hX hZ hn hF hV hx hdg
theorem gu_vret (hX : gz_ok X cc own mn nL rm none) (hZ : gz_Z X) (hF : gx_F X sh Vf Rff ad none) (hV : V = Vf) (hR : Rf = Rff) (hdg : decode cc pc = .ok (.return_, 1)) : gW X nL sh Rf ad V 0 0 pc lv [] := by
  subst hR
  exact gt_vret hX hZ hF hV hdg
theorem gu_aret (hX : gz_ok X cc own mn nL rm ret) (hZ : gz_Z X) {x xf : Nat} {C : String} (hr : ret = some (.object C)) (hF : gx_F X sh Vf Rff ad (some (.ref xf))) (hV : V = Vf) (hR : Rf = Rff) (hx : x = xf) (hdg : decode cc pc = .ok (.areturn, 1)) : gW X nL sh Rf ad V 0 0 pc lv [.ref x] := by
  subst hV; subst hR; subst hx
  have h := gz_aret (pc := pc) (lv := lv) hX hZ.1 hr (Or.inl ⟨_, rfl⟩) hF hdg
  rw [hZ.2.1, hZ.2.2] at h
  exact h
theorem gu_ofW {l : Launch} {y : MethodName} {code : ByteArray} {D : va_G} {aC : Nat → ClassId} {av : List Value} {rv : Option Value}
    (hy : plainName y.cls = true) (hc : y.cls = own) (hm : y.name = mn) (hn : (lg_sl av).length ≤ nL) (hlv : lv_args 0 av = lv)
    (k : ∀ X : gz_X, gz_ok X code own mn nL rm ret → gz_Z X → gx_F X sh Vf Rff ad rv → gW X nL sh Rf ad V 0 0 0 lv []) : gz_Met l y code nL ret rm D aC ad sh V Rf av (gz_F1 sh Rff ad Vf rv) 0 0 :=
  gz_ofW hy hc hm hn hlv (fun X hX _ _ _ h5 h6 h7 h8 => k X hX ⟨h8, h6, h7⟩ (by rw [h5]; exact ⟨rfl, rfl, rfl, rfl, rfl⟩))
theorem gz_inb_lt {j : Int32} {n : Nat} (h : gz_inb j n = true) : j.toNatClampNeg < n := Nat.not_le.mp fun q => gz_inb_o h (Or.inr q)
end GZX
section GZY
variable {X : gz_X} {nL : Nat} {sh : gz_S} {Rf : gz_R} {ad : gz_A0} {V : gz_V} {ce sl pc : Nat} {lv : List (Nat × Value)} {st : List Value}
theorem gz_nmr {n n2 : gz_N} (h : n = n2) (k : gW X nL sh Rf ad V ce sl pc lv (.ref (ad n2) :: st)) : gW X nL sh Rf ad V ce sl pc lv (.ref (ad n) :: st) := h ▸ k
end GZY
/-- the market that a name is -/
def gz_mk (o : Option gz_N) : Option Nat := match o with
  | some (20, k, 0) => if k < 9 then some k else none
  | _ => none
theorem gz_mk_o {o : Option gz_N} {k : Nat} (h : gz_mk o = some k) : o = some (20, k, 0) ∧ k < 9 := by
  unfold gz_mk at h
  split at h
  · split at h
    · cases h
      exact ⟨rfl, by assumption⟩
    · cases h
  · cases h
theorem gz_ne0 {n : gz_N} (a : Nat) (h : n.1 = a + 1) : n.1 ≠ 0 := by rw [h]; exact Nat.succ_ne_zero a
/-! Math -/
def gz_max (x y : Int32) : Int32 := if x < y then y else x
def gz_min (x y : Int32) : Int32 := if y < x then y else x
def gz_abs (x : Int32) : Int32 := if 0 ≤ x then x else 0 - x
section GZM
variable {X : gz_X} {cc : ByteArray} {own mn : String} {nL : Nat} {rm : Room} {ret : Option FieldType} {sh : gz_S} {Rf : gz_R} {ad : gz_A0} {V : gz_V} {ce sl pc index : Nat} {lv : List (Nat × Value)} {st : List Value}
theorem gz_mmax (hX : gz_ok X cc own mn nL rm ret) (hlink : Cond.methodLink own index Lib.Math.max.name ∈ lw_all) (hstat : Cond.static Lib.Math.max.name ∈ lw_all) (hini : Cond.initialized "java/lang/Math" ∈ lw_all) (hcode : Cond.code Lib.Math.max.name Lib.Math.max.code 2 (some .int) ∈ lw_all) (hR : 1 ≤ rm.frames ∧ 21 ≤ rm.locals ∧ ce ≤ rm.cells ∧ sl ≤ rm.slots) (h8 : (st.map fun v => v.category).sum ≤ 8) {x y : Int32} (hdg : decode cc pc = .ok (.invokestatic index, 3))
    (k : gW X nL sh Rf ad V ce sl (pc + 3) lv (.int (gz_max x y) :: st)) : gW X nL sh Rf ad V ce sl pc lv (.int y :: .int x :: st) := fun H locs ls hw hS hl =>
  va_mmax hX.1 hX.2.1 (hX.2.2.1.trans hl.1.symm) hX.2.2.2.1 (hX.2.2.2.2.1 _ hlink) (hX.2.2.2.2.1 _ hstat) (hX.2.2.2.2.1 _ hini) (hX.2.2.2.2.1 _ hcode) (by rw [hX.2.2.2.2.2.2.2.2.1]; exact hR.1) (by rw [hX.2.2.2.2.2.2.2.2.1]; have := hR.2.1; omega) (by rw [hX.2.2.2.2.2.2.2.2.1]; exact hR.2.2.1) (by rw [hX.2.2.2.2.2.2.2.2.1]; exact hR.2.2.2) hdg (k H locs ls hw hS hl)
theorem gz_mmin (hX : gz_ok X cc own mn nL rm ret) (hlink : Cond.methodLink own index Lib.Math.min.name ∈ lw_all) (hstat : Cond.static Lib.Math.min.name ∈ lw_all) (hini : Cond.initialized "java/lang/Math" ∈ lw_all) (hcode : Cond.code Lib.Math.min.name Lib.Math.min.code 2 (some .int) ∈ lw_all) (hR : 1 ≤ rm.frames ∧ 21 ≤ rm.locals ∧ ce ≤ rm.cells ∧ sl ≤ rm.slots) (h8 : (st.map fun v => v.category).sum ≤ 8) {x y : Int32} (hdg : decode cc pc = .ok (.invokestatic index, 3))
    (k : gW X nL sh Rf ad V ce sl (pc + 3) lv (.int (gz_min x y) :: st)) : gW X nL sh Rf ad V ce sl pc lv (.int y :: .int x :: st) := fun H locs ls hw hS hl =>
  va_mmin hX.1 hX.2.1 (hX.2.2.1.trans hl.1.symm) hX.2.2.2.1 (hX.2.2.2.2.1 _ hlink) (hX.2.2.2.2.1 _ hstat) (hX.2.2.2.2.1 _ hini) (hX.2.2.2.2.1 _ hcode) (by rw [hX.2.2.2.2.2.2.2.2.1]; exact hR.1) (by rw [hX.2.2.2.2.2.2.2.2.1]; have := hR.2.1; omega) (by rw [hX.2.2.2.2.2.2.2.2.1]; exact hR.2.2.1) (by rw [hX.2.2.2.2.2.2.2.2.1]; exact hR.2.2.2) hdg (k H locs ls hw hS hl)
theorem gz_mabs (hX : gz_ok X cc own mn nL rm ret) (hlink : Cond.methodLink own index Lib.Math.abs.name ∈ lw_all) (hstat : Cond.static Lib.Math.abs.name ∈ lw_all) (hini : Cond.initialized "java/lang/Math" ∈ lw_all) (hcode : Cond.code Lib.Math.abs.name Lib.Math.abs.code 1 (some .int) ∈ lw_all) (hR : 1 ≤ rm.frames ∧ 21 ≤ rm.locals ∧ ce ≤ rm.cells ∧ sl ≤ rm.slots) (h8 : (st.map fun v => v.category).sum ≤ 8) {x : Int32} (hdg : decode cc pc = .ok (.invokestatic index, 3))
    (k : gW X nL sh Rf ad V ce sl (pc + 3) lv (.int (gz_abs x) :: st)) : gW X nL sh Rf ad V ce sl pc lv (.int x :: st) := fun H locs ls hw hS hl =>
  va_mabs hX.1 hX.2.1 (hX.2.2.1.trans hl.1.symm) hX.2.2.2.1 (hX.2.2.2.2.1 _ hlink) (hX.2.2.2.2.1 _ hstat) (hX.2.2.2.2.1 _ hini) (hX.2.2.2.2.1 _ hcode) (by rw [hX.2.2.2.2.2.2.2.2.1]; exact hR.1) (by rw [hX.2.2.2.2.2.2.2.2.1]; have := hR.2.1; omega) (by rw [hX.2.2.2.2.2.2.2.2.1]; exact hR.2.2.1) (by rw [hX.2.2.2.2.2.2.2.2.1]; exact hR.2.2.2) hdg (k H locs ls hw hS hl)
end GZM
def gz_t2 {α γ β : Type} (x : α × γ) (f : α → γ → β) : β := f x.1 x.2
theorem gz_t2_o {α γ β : Type} {x : α × γ} {f : α → γ → β} {o : β} (h : gz_t2 x f = o) : ∃ a b, x = (a, b) ∧ f a b = o := ⟨x.1, x.2, rfl, h⟩
def gz_t3 {α γ δ β : Type} (x : α × γ × δ) (f : α → γ → δ → β) : β := f x.1 x.2.1 x.2.2
theorem gz_t3_o {α γ δ β : Type} {x : α × γ × δ} {f : α → γ → δ → β} {o : β} (h : gz_t3 x f = o) : ∃ a b c, x = (a, b, c) ∧ f a b c = o := ⟨x.1, x.2.1, x.2.2, rfl, h⟩
theorem gz_nn {sh : gz_S} {a : gz_N} {t : Nat × Nat} (h : sh a = some t) : sh a ≠ none := by
  rw [h]
  exact fun z => by cases z
