/-! NEW CELLS in a named world: they take a fresh name; the addresses ad change at that name alone -/
set_option maxRecDepth 100000
def gz_us (sh : gz_S) (n : gz_N) (t : Nat × Nat) : gz_S := fun a => if a = n then some t else sh a
def gz_uz (V : gz_V) (n : gz_N) : gz_V := fun a => if a = n then (fun _ => 0) else V a
def gz_un (Rf : gz_R) (n : gz_N) : gz_R := fun a => if a = n then (fun _ => none) else Rf a
def gz_ua (ad : gz_A0) (n : gz_N) (q : Nat) : gz_A0 := fun a => if a = n then q else ad a
theorem gz_us_eq {sh : gz_S} {n : gz_N} {t : Nat × Nat} : gz_us sh n t n = some t := if_pos rfl
theorem gz_us_ne {sh : gz_S} {n a : gz_N} {t : Nat × Nat} (h : a ≠ n) : gz_us sh n t a = sh a := if_neg h
theorem gz_uz_eq {V : gz_V} {n : gz_N} : gz_uz V n n = fun _ => 0 := if_pos rfl
theorem gz_uz_ne {V : gz_V} {n a : gz_N} (h : a ≠ n) : gz_uz V n a = V a := if_neg h
theorem gz_un_eq {Rf : gz_R} {n : gz_N} : gz_un Rf n n = fun _ => none := if_pos rfl
theorem gz_un_ne {Rf : gz_R} {n a : gz_N} (h : a ≠ n) : gz_un Rf n a = Rf a := if_neg h
theorem gz_ua_eq {ad : gz_A0} {n : gz_N} {q : Nat} : gz_ua ad n q n = q := if_pos rfl
theorem gz_ua_ne {ad : gz_A0} {n a : gz_N} {q : Nat} (h : a ≠ n) : gz_ua ad n q a = ad a := if_neg h
theorem gz_at.move {D : va_G} {aC : Nat → ClassId} {V : gz_V} {Rf : gz_R} {ad ad2 : gz_A0} {n : gz_N} {t : Nat × Nat} {H : Heap} (h : gz_at D aC V Rf ad n t H) (h1 : ad2 n = ad n) (h2 : ∀ f b, Rf n f = some b → ad2 b = ad b) : gz_at D aC V Rf ad2 n t H := by
  have hm : ∀ f, (Rf n f).map ad2 = (Rf n f).map ad := by
    intro f
    cases hb : Rf n f with
    | none => rfl
    | some b => show some (ad2 b) = some (ad b); rw [h2 f b hb]
  have hfv : ∀ t f, gz_fv t V Rf ad2 n f = gz_fv t V Rf ad n f := by
    intro t f
    unfold gz_fv
    rw [hm f]
  unfold gz_at at h ⊢
  rw [h1]
  simp only [hm, hfv]
  exact h
theorem gz_wd.new {D : va_G} {aC : Nat → ClassId} {A : Nat → Prop} {sh : gz_S} {V : gz_V} {Rf : gz_R} {ad : gz_A0} {H H1 : Heap} {nm : gz_N} {t : Nat × Nat} (hw : gz_wd D aC A sh V Rf ad H) (hf : sh nm = none) (h0 : nm.1 ≠ 0) (hA : A H.size) (ho : ∀ q, q < H.size → H1[q]? = H[q]?) (hat : gz_at D aC (gz_uz V nm) (gz_un Rf nm) (gz_ua ad nm H.size) nm t H1) : gz_wd D aC A (gz_us sh nm t) (gz_uz V nm) (gz_un Rf nm) (gz_ua ad nm H.size) H1 := by
  have old : ∀ a u, a ≠ nm → gz_us sh nm t a = some u → sh a = some u := fun a u h e => by rw [gz_us_ne h] at e; exact e
  refine ⟨fun a u ha => ?_, fun a b ha hb e => ?_, fun a ha h1 => ?_, fun a f b ha hb hb0 => ?_, fun i => by rw [gz_ua_ne (fun e => h0 (by rw [← e]))]; exact hw.2.2.2.2 i⟩
  · by_cases h : a = nm
    · subst h
      rw [gz_us_eq] at ha
      cases ha
      exact hat
    · have ha2 := old a u h ha
      have g := hw.1 a u ha2
      refine ((g.kept (ho _ g.lt)).move (gz_ua_ne h) (fun f b hb => gz_ua_ne fun e => ?_)).eqV (gz_uz_ne h) (gz_un_ne h)
      subst e
      exact hw.2.2.2.1 a f _ (by rw [ha2]; exact fun z => by cases z) hb h0 hf
  · have lt : ∀ x, x ≠ nm → gz_us sh nm t x ≠ none → ad x < H.size := fun x hx hs => by
      rw [gz_us_ne hx] at hs
      cases hq : sh x with
      | none => exact absurd hq hs
      | some u => exact (hw.1 x u hq).lt
    by_cases h : a = nm
    · by_cases h2 : b = nm
      · rw [h, h2]
      · have := lt b h2 hb
        rw [h, gz_ua_eq, gz_ua_ne h2] at e
        omega
    · by_cases h2 : b = nm
      · have := lt a h ha
        rw [h2, gz_ua_eq, gz_ua_ne h] at e
        omega
      · rw [gz_ua_ne h, gz_ua_ne h2] at e
        rw [gz_us_ne h] at ha
        rw [gz_us_ne h2] at hb
        exact hw.2.1 a b ha hb e
  · by_cases h : a = nm
    · rw [h, gz_ua_eq]; exact hA
    · rw [gz_ua_ne h]
      rw [gz_us_ne h] at ha
      exact hw.2.2.1 a ha h1
  · by_cases h : a = nm
    · rw [h, gz_un_eq] at hb
      cases hb
    · rw [gz_un_ne h] at hb
      rw [gz_us_ne h] at ha
      have := hw.2.2.2.1 a f b ha hb hb0
      by_cases h2 : b = nm
      · rw [h2, gz_us_eq]; exact fun z => by cases z
      · rw [gz_us_ne h2]; exact this
/-- less of a world: fewer names, the same where they are -/
theorem gz_wd.less {D : va_G} {aC : Nat → ClassId} {A : Nat → Prop} {sh sh2 : gz_S} {V V2 : gz_V} {Rf Rf2 : gz_R} {ad ad2 : gz_A0} {H : Heap} (hw : gz_wd D aC A sh V Rf ad H) (hs : ∀ n t, sh2 n = some t → sh n = some t) (hv : ∀ n, sh2 n ≠ none → V2 n = V n) (hr : ∀ n, sh2 n ≠ none → Rf2 n = Rf n) (ha : ∀ n, sh2 n ≠ none ∨ n.1 = 0 → ad2 n = ad n) (hcl : ∀ (n : gz_N) (f : Nat) (b : gz_N), sh2 n ≠ none → Rf2 n f = some b → b.1 ≠ 0 → sh2 b ≠ none) : gz_wd D aC A sh2 V2 Rf2 ad2 H := by
  have up : ∀ n, sh2 n ≠ none → sh n ≠ none := fun n h e => by
    cases hq : sh2 n with
    | none => exact h hq
    | some t => rw [hs n t hq] at e; cases e
  refine ⟨fun n t hn => ?_, fun a b h1 h2 e => hw.2.1 a b (up a h1) (up b h2) (by rw [ha a (Or.inl h1), ha b (Or.inl h2)] at e; exact e), fun n h1 h2 => by rw [ha n (Or.inl h1)]; exact hw.2.2.1 n (up n h1) h2, hcl, fun i => by rw [ha (0, i, 0) (Or.inr rfl)]; exact hw.2.2.2.2 i⟩
  have hne : sh2 n ≠ none := by rw [hn]; exact fun z => by cases z
  have g := (hw.1 n t (hs n t hn)).eqV (hv n hne) (hr n hne)
  refine g.move (ha n (Or.inl hne)) (fun f b hb => ?_)
  by_cases h0 : b.1 = 0
  · exact ha b (Or.inr h0)
  · exact ha b (Or.inl (hcl n f b hne hb h0))
section GZA
variable {X : gz_X} {cc : ByteArray} {own mn : String} {nL : Nat} {rm : Room} {ret : Option FieldType} {sh sh2 : gz_S} {Rf Rf2 : gz_R} {ad : gz_A0} {V V2 : gz_V} {ce sl pc : Nat} {lvF : gz_A0 → List (Nat × Value)} {stF : gz_A0 → List Value}
/-- a new array of ints, bytes or booleans -/
theorem gz_newa (hX : gz_ok X cc own mn nL rm ret) {t t0 L : Nat} {atype : ArrayType} {n : Int32} {nm : gz_N} (harr : Cond.arrayClass (newarray.typeOf atype) ∈ lw_all) (ht : ∀ aC, (gz_tys aC)[t0]? = some (aC t, newarray.typeOf atype)) (ht1 : ¬ t < 100) (ht2 : t < 110) (hra : ∀ (U : State) (cA : ClassId), va_RA U cA (newarray.typeOf atype) → U.vm.findClass ("[" ++ (newarray.typeOf atype).toString) = some cA) (hdef : defaultValue (newarray.typeOf atype) = .int 0)
    (hn : ¬ n < 0) (hN : n.toNatClampNeg = L) (hby : L * componentBytes (newarray.typeOf atype) ≤ 536870912) (hc : ce + 1 ≤ rm.cells) (hs : sl + L ≤ rm.slots) (hf : sh nm = none) (h0 : nm.1 ≠ 0) (hF : ∀ ad2 : gz_A0, (∀ a, a ≠ nm → ad2 a = ad a) → lvF ad2 = lvF ad ∧ stF ad2 = stF ad) (hdg : decode cc pc = .ok (.newarray atype, 2))
    (k : ∀ ad2 : gz_A0, (∀ a, a ≠ nm → ad2 a = ad a) → gW X nL (gz_us sh nm (t, L)) (gz_un Rf nm) ad2 (gz_uz V nm) (ce + 1) (sl + L) (pc + 2) (lvF ad2) (.ref (ad2 nm) :: stF ad2)) : gW X nL sh Rf ad V ce sl pc (lvF ad) (.int n :: stF ad) := by
  intro H locs ls hw hS hl
  refine va_newaK hX.1 hX.2.1 (atype := atype) (hX.2.2.2.2.1 _ harr) rfl hdg rfl hn hN hby (by rw [hX.2.2.2.2.2.2.2.2.1]; exact hc) (by rw [hX.2.2.2.2.2.2.2.2.1]; exact hs) rfl (fun H1 cA e1 e2 e3 e4 e5 => ?_)
  have hcA : cA = (gx_C X) t := Option.some.inj (e5.symm.trans (hra _ _ (hX.2.2.2.2.2.1.2 t0 _ (ht _)).2))
  have hk := k (gz_ua ad nm H.size) (fun a h => gz_ua_ne h)
  obtain ⟨g1, g2⟩ := hF (gz_ua ad nm H.size) (fun a h => gz_ua_ne h)
  rw [g1, g2, gz_ua_eq] at hk
  refine hk H1 locs ls (hw.new hf h0 (hX.2.2.2.2.2.2.1 _ hS.1) e3 ?_) ⟨Nat.le_trans hS.1 (by omega), fun q h1 h2 => (e3 q (Nat.lt_of_lt_of_le h1 hS.1)).trans (hS.2.1 q h1 h2), hS.2.2⟩ hl
  unfold gz_at
  rw [if_neg ht1, if_pos ht2, gz_ua_eq, gz_uz_eq, e1, hcA, hdef]
/-- a new object -/
theorem gz_new (hX : gz_ok X cc own mn nL rm ret) {ci index N N0 : Nat} {C : String} {T : u_T} {nm : gz_N} (hin : ∀ w ∈ u_ws C T N, w ∈ lw_all) (hty : ∀ k, k < N → parseFieldDescriptor (T k).2.2.1 = some (gz_ty ci k)) (hci : ci < 100) (hc : gzCl[ci]? = some (C, T, N)) (hcl : Cond.classLink own index C ∈ lw_all) (hins : Cond.instantiable C N0 ∈ lw_all) (hini : Cond.initialized C ∈ lw_all) (hz : ∀ f, f < N → defaultValue (gz_ty ci f) = if gz_isr (gz_ty ci f) then .null else .int 0)
    (hcc : ce + 1 ≤ rm.cells) (hs : sl + N0 ≤ rm.slots) (hf : sh nm = none) (h0 : nm.1 ≠ 0) (hF : ∀ ad2 : gz_A0, (∀ a, a ≠ nm → ad2 a = ad a) → lvF ad2 = lvF ad ∧ stF ad2 = stF ad) (hdg : decode cc pc = .ok (.new index, 3))
    (k : ∀ ad2 : gz_A0, (∀ a, a ≠ nm → ad2 a = ad a) → gW X nL (gz_us sh nm (ci, N)) (gz_un Rf nm) ad2 (gz_uz V nm) (ce + 1) (sl + N0) (pc + 3) (lvF ad2) (.ref (ad2 nm) :: stF ad2)) : gW X nL sh Rf ad V ce sl pc (lvF ad) (stF ad) := by
  intro H locs ls hw hS hl
  have hKn := hX.2.2.2.2.2.1.1 ci _ hc
  refine W.newcK hX.1 hX.2.1 hX.2.2.2.1 (hX.2.2.2.2.1 _ hcl) (hX.2.2.2.2.1 _ hins) (hX.2.2.2.2.1 _ hini) rfl hdg (by rw [hX.2.2.2.2.2.2.2.2.1]; exact hcc) (by rw [hX.2.2.2.2.2.2.2.2.1]; exact hs) hKn.2.1 rfl fun H1 kC hkC e1 z1 o1 => ?_
  have hk := k (gz_ua ad nm H.size) (fun a h => gz_ua_ne h)
  obtain ⟨g1, g2⟩ := hF (gz_ua ad nm H.size) (fun a h => gz_ua_ne h)
  rw [g1, g2, gz_ua_eq] at hk
  refine hk H1 locs ls (hw.new hf h0 (hX.2.2.2.2.2.2.1 _ hS.1) o1 ?_) ⟨Nat.le_trans hS.1 (by omega), fun q h1 h2 => (o1 q (Nat.lt_of_lt_of_le h1 hS.1)).trans (hS.2.1 q h1 h2), hS.2.2⟩ hl
  unfold gz_at
  rw [if_pos hci, gz_ua_eq]
  refine ⟨_, hc, (u_born (gz_ty ci) hX.2.2.2.2.1 hin hKn hkC e1 hty).to (fun f hf => ?_)⟩
  rw [hz f hf]
  unfold gz_fv
  rw [gz_un_eq, gz_uz_eq]
  rfl
end GZA
