/-! NAMED WORLDS (gz_): cells by names, all ints in V, all references in Rf, the shapes in sh, the addresses in ad. -/
set_option maxRecDepth 100000
abbrev gz_N : Type := Nat × Nat × Nat
abbrev gz_V : Type := gz_N → Nat → Int32
abbrev gz_R : Type := gz_N → Nat → Option gz_N
abbrev gz_S : Type := gz_N → Option (Nat × Nat)
abbrev gz_A0 : Type := gz_N → Nat
abbrev gz_Fi : Type := gz_S → gz_V → gz_R → gz_A0 → Option Value → Prop
def gz_up (V : gz_V) (n : gz_N) (j : Nat) (x : Int32) : gz_V := fun a => if a = n then upd (V n) j x else V a
def gz_ur (Rf : gz_R) (n : gz_N) (j : Nat) (x : Option gz_N) : gz_R := fun a => if a = n then (fun i => if i = j then x else Rf n i) else Rf a
/-- of a Fault only its own two fields -/
def TF8 : u_T := fun k => match k with
  | 0 => ("ClaspedFair$Fault", "kind", "I", true)
  | _ => ("ClaspedFair$Fault", "place", "I", true)
def tyF8 : Nat → FieldType := fun _ => .int
/-- the classes of objects, by tag -/
abbrev gzCl : List vw_C := [(RX0, TX0, 16), (RX1, TX1, 25), (RX2, TX2, 8), (RX3, TX3, 2), (RX4, TX4, 4), (RX5, TX5, 4), (RX6, TX6, 69), (RX7, TX7, 9), (RX8, TF8, 2), (RX10, TX10, 1), (RX11, TX11, 1), (RX12, TX12, 3), (RX13, TX13, 1), (RX14, TX14, 3), (RX15, TX15, 5), (RX17, TX17, 3), (RX18, TX18, 4), (RX19, TX19, 3), (RJ2, TJ2, 3)]
def gz_ty (t : Nat) : Nat → FieldType := match t with
  | 0 => tyX0 | 1 => tyX1 | 2 => tyX2 | 3 => tyX3 | 4 => tyX4 | 5 => tyX5 | 6 => tyX6 | 7 => tyX7 | 8 => tyF8
  | 9 => tyX10 | 10 => tyX11 | 11 => tyX12 | 12 => tyX13 | 13 => tyX14 | 14 => tyX15 | 15 => tyX17 | 16 => tyX18 | 17 => tyX19 | _ => tyJ2
/-- is a field of this type a reference? -/
def gz_isr (ty : FieldType) : Bool := match ty with
  | .object _ => true
  | .array _ => true
  | _ => false
/-- the array types, by tag: 100 .. ints, bytes, booleans; 110 .. references -/
abbrev gz_tys (aC : Nat → ClassId) : List (ClassId × FieldType) := [(aC 100, .int), (aC 101, .byte), (aC 102, .boolean), (aC 110, .object "ClaspedFair$Person"), (aC 111, .object "ClaspedFair$Horse"), (aC 112, .array .int), (aC 113, .object "ClaspedFair$Market"), (aC 114, .object "java/lang/Object")]
def gz_fv (t : Nat) (V : gz_V) (Rf : gz_R) (ad : gz_A0) (n : gz_N) (f : Nat) : Value := if gz_isr (gz_ty t f) then va_rf ((Rf n f).map ad) else .int (V n f)
def gz_at (D : va_G) (aC : Nat → ClassId) (V : gz_V) (Rf : gz_R) (ad : gz_A0) (n : gz_N) (t : Nat × Nat) (H : Heap) : Prop :=
  if t.1 < 100 then ∃ r : vw_C, gzCl[t.1]? = some r ∧ t_OB (ad n) (D.1 t.1) r.2.2 (D.2 t.1) H (fun f => gz_fv t.1 V Rf ad n f)
  else if t.1 < 110 then H[ad n]? = some (arrV (aC t.1) t.2 (fun j => .int (V n j)))
  else H[ad n]? = some (arrV (aC t.1) t.2 (fun j => va_rf ((Rf n j).map ad)))
def gz_wd (D : va_G) (aC : Nat → ClassId) (A : Nat → Prop) (sh : gz_S) (V : gz_V) (Rf : gz_R) (ad : gz_A0) (H : Heap) : Prop :=
  (∀ (n : gz_N) (t : Nat × Nat), sh n = some t → gz_at D aC V Rf ad n t H) ∧ (∀ a b : gz_N, sh a ≠ none → sh b ≠ none → ad a = ad b → a = b) ∧ (∀ n : gz_N, sh n ≠ none → n.1 ≠ 0 → A (ad n)) ∧ (∀ (n : gz_N) (f : Nat) (b : gz_N), sh n ≠ none → Rf n f = some b → b.1 ≠ 0 → sh b ≠ none) ∧ ∀ i : Nat, ad (0, i, 0) = aC (1000 + i)
/-- what a method may change: its named cells (but those of kind 0), and new ones -/
def gz_A (sh : gz_S) (ad : gz_A0) (sz : Nat) : Nat → Prop := fun q => (∃ n : gz_N, sh n ≠ none ∧ n.1 ≠ 0 ∧ ad n = q) ∨ sz ≤ q
theorem gz_wd.weaken {D : va_G} {aC : Nat → ClassId} {A B : Nat → Prop} {sh : gz_S} {V : gz_V} {Rf : gz_R} {ad : gz_A0} {H : Heap} (h : gz_wd D aC A sh V Rf ad H) (hAB : ∀ q, A q → B q) : gz_wd D aC B sh V Rf ad H := ⟨h.1, h.2.1, fun n h1 h2 => hAB _ (h.2.2.1 n h1 h2), h.2.2.2⟩
theorem gz_wd.own {D : va_G} {aC : Nat → ClassId} {A : Nat → Prop} {sh : gz_S} {V : gz_V} {Rf : gz_R} {ad : gz_A0} {H : Heap} {sz : Nat} (h : gz_wd D aC A sh V Rf ad H) : gz_wd D aC (gz_A sh ad sz) sh V Rf ad H := ⟨h.1, h.2.1, fun n h1 h2 => Or.inl ⟨n, h1, h2, rfl⟩, h.2.2.2⟩
theorem gz_at.kept {D : va_G} {aC : Nat → ClassId} {V : gz_V} {Rf : gz_R} {ad : gz_A0} {n : gz_N} {t : Nat × Nat} {H H1 : Heap} (h : gz_at D aC V Rf ad n t H) (hq : H1[ad n]? = H[ad n]?) : gz_at D aC V Rf ad n t H1 := by
  unfold gz_at at h ⊢
  split
  · rename_i c
    rw [if_pos c] at h
    obtain ⟨r, h1, h2⟩ := h
    exact ⟨r, h1, h2.kept hq⟩
  · rename_i c
    rw [if_neg c] at h
    split
    · rename_i c2
      rw [if_pos c2] at h
      exact hq.trans h
    · rename_i c2
      rw [if_neg c2] at h
      exact hq.trans h
theorem gz_at.lt {D : va_G} {aC : Nat → ClassId} {V : gz_V} {Rf : gz_R} {ad : gz_A0} {n : gz_N} {t : Nat × Nat} {H : Heap} (h : gz_at D aC V Rf ad n t H) : ad n < H.size := by
  unfold gz_at at h
  split at h
  · obtain ⟨r, h1, cell, h2, -⟩ := h
    exact (Array.getElem?_eq_some_iff.mp h2).1
  · split at h
    · exact (Array.getElem?_eq_some_iff.mp h).1
    · exact (Array.getElem?_eq_some_iff.mp h).1
theorem gz_at.eqV {D : va_G} {aC : Nat → ClassId} {V V' : gz_V} {Rf Rf' : gz_R} {ad : gz_A0} {n : gz_N} {t : Nat × Nat} {H : Heap} (h : gz_at D aC V Rf ad n t H) (hv : V' n = V n) (hr : Rf' n = Rf n) : gz_at D aC V' Rf' ad n t H := by
  unfold gz_at gz_fv at h ⊢
  rw [hv, hr]
  exact h
theorem gz_up_ne {V : gz_V} {n a : gz_N} {j : Nat} {x : Int32} (h : a ≠ n) : gz_up V n j x a = V a := if_neg h
theorem gz_up_eq {V : gz_V} {n : gz_N} {j : Nat} {x : Int32} : gz_up V n j x n = upd (V n) j x := if_pos rfl
theorem gz_ur_ne {Rf : gz_R} {n a : gz_N} {j : Nat} {x : Option gz_N} (h : a ≠ n) : gz_ur Rf n j x a = Rf a := if_neg h
theorem gz_ur_eq {Rf : gz_R} {n : gz_N} {j : Nat} {x : Option gz_N} : gz_ur Rf n j x n = fun i => if i = j then x else Rf n i := if_pos rfl
/-! a method's context -/
abbrev gz_X : Type := Program × Launch × Env × Room × State × MethodId × Array Value × List Frame × Method × Code × (Nat → Prop) × va_G × (Nat → ClassId) × gz_Fi × Nat × Nat × (State → Prop)
abbrev gx_p (X : gz_X) : Program := X.1
abbrev gx_l (X : gz_X) : Launch := X.2.1
abbrev gx_e (X : gz_X) : Env := X.2.2.1
abbrev gx_R (X : gz_X) : Room := X.2.2.2.1
abbrev gx_s (X : gz_X) : State := X.2.2.2.2.1
abbrev gx_m (X : gz_X) : MethodId := X.2.2.2.2.2.1
abbrev gx_a (X : gz_X) : Array Value := X.2.2.2.2.2.2.1
abbrev gx_b (X : gz_X) : List Frame := X.2.2.2.2.2.2.2.1
abbrev gx_me (X : gz_X) : Method := X.2.2.2.2.2.2.2.2.1
abbrev gx_c (X : gz_X) : Code := X.2.2.2.2.2.2.2.2.2.1
abbrev gx_A (X : gz_X) : Nat → Prop := X.2.2.2.2.2.2.2.2.2.2.1
abbrev gx_D (X : gz_X) : va_G := X.2.2.2.2.2.2.2.2.2.2.2.1
abbrev gx_C (X : gz_X) : Nat → ClassId := X.2.2.2.2.2.2.2.2.2.2.2.2.1
abbrev gx_F (X : gz_X) : gz_Fi := X.2.2.2.2.2.2.2.2.2.2.2.2.2.1
abbrev gx_mc (X : gz_X) : Nat := X.2.2.2.2.2.2.2.2.2.2.2.2.2.2.1
abbrev gx_ms (X : gz_X) : Nat := X.2.2.2.2.2.2.2.2.2.2.2.2.2.2.2.1
abbrev gx_Q (X : gz_X) : State → Prop := X.2.2.2.2.2.2.2.2.2.2.2.2.2.2.2.2
/-! words of the tables that don't ride in the lists: nest mates' links, declares, castable; the asker's entry -/
def gz_isN (w : Cond) : Bool := match w with
  | .fieldLinkNest _ _ _ _ _ _ => true
  | .methodLinkNest _ _ _ _ => true
  | .declares _ => true
  | .castable _ _ => true
  | _ => false
def gzNest : List Cond := lw_tbl.filter gz_isN
def gz_yA : MethodName := ⟨"ClaspedFair$Asker", "fact", "(I)I"⟩
def gz_yF : MethodName := ⟨"ClaspedFair$Market", "fact", "(I)I"⟩
theorem gz_AOsame {ty : FieldType} {u U : State} (hv : u.vm = U.vm) (hZ : (Cond.arrayOver ty).before #[] u = true) : (Cond.arrayOver ty).before #[] U = true := by
  simp only [Cond.before, Cond.holds, Cond.value] at hZ ⊢
  rw [← hv]
  exact hZ
theorem gz_AOwarm {ty : FieldType} {s U : State} (hW : s.WarmedH U.vm) (hZ : (Cond.arrayOver ty).before #[] s = true) : (Cond.arrayOver ty).before #[] U = true := gz_AOsame (u := s.setVm U.vm) rfl (by rw [Cond.arrayOver_setVmC hW.alike]; exact hZ)
def gzOv : List FieldType := [.object "ClaspedFair$Person", .object "ClaspedFair$Horse", .array .int, .object "ClaspedFair$Market", .object "java/lang/Object"]
def gz_NW (U : State) : Prop := (∀ w ∈ gzNest, va_Nw w U) ∧ va_Fw "ClaspedFair$Market" gz_yA gz_yF U ∧ ∀ t ∈ gzOv, (Cond.arrayOver t).before #[] U = true
theorem gz_nw {w : Cond} (h : w ∈ lw_tbl) (hb : gz_isN w = true) : w ∈ gzNest := List.mem_filter.mpr ⟨h, hb⟩
theorem gz_isN_on {w : Cond} (h : gz_isN w = true) : w.onTables = true := by
  cases w <;> first | rfl | cases h
theorem gz_NW.warm {s U : State} (hW : s.WarmedH U.vm) (h : gz_NW s) : gz_NW U := by
  refine ⟨fun w hw => ?_, va_Fw.moved ⟨by decide, by decide⟩ hW.alike h.2.1, fun t ht => gz_AOwarm hW (h.2.2 t ht)⟩
  have hb := (List.mem_filter.mp hw).2
  have hz := h.1 w hw
  cases w <;> first | exact va_Nw.warmF hW hz | exact va_Nw.warmM hW hz | exact va_Nw.warmD hW hz | exact va_Nw.warmC hW hz | cases hb
theorem gz_NW.same {u U : State} (hv : u.vm = U.vm) (h : gz_NW u) : gz_NW U := by
  refine ⟨fun w hw => va_Nw.same (gz_isN_on (List.mem_filter.mp hw).2) hv (h.1 w hw), va_Fw.moved ⟨by decide, by decide⟩ (by rw [hv]; exact Vm.Alike.refl _) h.2.1, fun t ht => gz_AOsame hv (h.2.2 t ht)⟩
/-! static fields that are laid (rows of the starting text kit/laws/EXCEPTIONS) -/
def gy_L (C n d : String) (A : Nat → Prop) (U : State) (H : Heap) : Prop := ∃ (c : ClassId) (k : Class) (i : Nat) (f : Field) (a : Nat) (cell : Cell), U.vm.findClass C = some c ∧ U.fieldFound? C n d = some (c, k, i, f) ∧ f.isStatic = true ∧ k.statics = some a ∧ H[a]? = some cell ∧ cell.vm.isStatics = true ∧ cell.cls = c ∧ f.slot < cell.slots.size ∧ k.staticTypes[f.slot]? = some f.type ∧ ¬ A a
theorem gy_L.moved {C n d : String} {A : Nat → Prop} {u U : State} {H : Heap} (hvm : u.vm.Alike U.vm) (h : gy_L C n d A u H) : gy_L C n d A U H := by
  obtain ⟨c, k, i, f, a, cell, h1, h2, h3, h4, h5, h6, h7, h8, h9, h10⟩ := h
  obtain ⟨k', hi', he⟩ := State.fieldFound?_setVm hvm h2
  exact ⟨c, k', i, f, a, cell, by rw [hvm.findClass]; exact h1, hi', h3, by rw [he]; exact h4, h5, h6, h7, h8, by rw [he]; exact h9, h10⟩
theorem gy_L.kept {C n d : String} {A : Nat → Prop} {U : State} {H H1 : Heap} (h : gy_L C n d A U H) (hq : ∀ a : Nat, a < H.size → ¬ A a → H1[a]? = H[a]?) : gy_L C n d A U H1 := by
  obtain ⟨c, k, i, f, a, cell, h1, h2, h3, h4, h5, h6, h7, h8, h9, h10⟩ := h
  exact ⟨c, k, i, f, a, cell, h1, h2, h3, h4, by rw [hq a (Array.getElem?_eq_some_iff.mp h5).1 h10]; exact h5, h6, h7, h8, h9, h10⟩
theorem gy_L.narrow {C n d : String} {A B : Nat → Prop} {U : State} {H : Heap} (h : gy_L C n d A U H) (hAB : ∀ q, B q → A q) : gy_L C n d B U H := by
  obtain ⟨c, k, i, f, a, cell, h1, h2, h3, h4, h5, h6, h7, h8, h9, h10⟩ := h
  exact ⟨c, k, i, f, a, cell, h1, h2, h3, h4, h5, h6, h7, h8, h9, fun z => h10 (hAB _ z)⟩
theorem gy_L.word {C n d : String} {A : Nat → Prop} {s : State} {args : Array Value} (h : gy_L C n d A s s.heap) : (Cond.laysStatic C n d).before args s = true := by
  obtain ⟨c, k, i, f, a, cell, h1, h2, h3, h4, h5, h6, h7, h8, h9, -⟩ := h
  show (Cond.laysStatic C n d).holds args s none s [] = true
  exact Cond.laysStatic_of h1 h2 h3 h4 h5 h6 h7 h8 h9
/-! what nobody writes: statics of the JDK, the string constants (by their places in gzTx) -/
def gzTx : List (Nat × String) := [(78, "when"), (80, "or"), (82, "and"), (84, "not"), (86, "passes"), (88, "holds"), (90, "asks"), (53, "trait"), (59, "own"), (61, "other"), (63, "grip"), (65, "price"), (67, "worth"), (69, "spirit"), (71, "shook"), (73, "purse"), (75, "kin"), (76, "day"), (95, "on"), (97, "person"), (99, "horse"), (101, "at"), (102, "glove"), (104, "bare"), (106, "sling"), (108, "pay"), (110, "cold")]
def gzLn : List Nat := [4, 2, 3, 3, 6, 5, 4, 5, 3, 5, 4, 5, 5, 6, 5, 5, 3, 3, 2, 6, 5, 2, 5, 4, 5, 3, 4]
def gzBy : List (List Int32) := [[119, 104, 101, 110], [111, 114], [97, 110, 100], [110, 111, 116], [112, 97, 115, 115, 101, 115], [104, 111, 108, 100, 115], [97, 115, 107, 115], [116, 114, 97, 105, 116], [111, 119, 110], [111, 116, 104, 101, 114], [103, 114, 105, 112], [112, 114, 105, 99, 101], [119, 111, 114, 116, 104], [115, 112, 105, 114, 105, 116], [115, 104, 111, 111, 107], [112, 117, 114, 115, 101], [107, 105, 110], [100, 97, 121], [111, 110], [112, 101, 114, 115, 111, 110], [104, 111, 114, 115, 101], [97, 116], [103, 108, 111, 118, 101], [98, 97, 114, 101], [115, 108, 105, 110, 103], [112, 97, 121], [99, 111, 108, 100]]
def gz_St (aC : Nat → Nat) (A : Nat → Prop) (U : State) (H : Heap) : Prop :=
  va_Z "java/util/ArrayList" "DEFAULTCAPACITY_EMPTY_ELEMENTDATA" "[Ljava/lang/Object;" (.ref (aC 1000)) A U H ∧ va_Z "java/lang/String" "COMPACT_STRINGS" "Z" (.int 1) A U H ∧ va_Zq "jdk/internal/util/Preconditions" "SIOOBE_FORMATTER" "Ljava/util/function/BiFunction;" A U H ∧ va_Zq "java/lang/Throwable" "UNASSIGNED_STACK" "[Ljava/lang/StackTraceElement;" A U H ∧ va_Zq "java/lang/Throwable" "SUPPRESSED_SENTINEL" "Ljava/util/List;" A U H ∧ gy_L "java/lang/Throwable" "UNASSIGNED_STACK" "[Ljava/lang/StackTraceElement;" A U H ∧ gy_L "java/lang/Throwable" "SUPPRESSED_SENTINEL" "Ljava/util/List;" A U H ∧
  vk_S 27 gzLn gzBy (fun i => aC (2000 + i)) (fun i => aC (3000 + i)) A U H ∧ (∀ i : Nat, i < 27 → vk_R "ClaspedFair$Reader" (gzTx.getD i (0, "")).1 (gzTx.getD i (0, "")).2 (aC (2000 + i)) U) ∧ va_Mi "[Ljava/lang/Object;" (aC 1004) U ∧ va_T (.object "java/lang/Object") (aC 1000) 0 (fun _ => .null) A U H
theorem gz_St.same {aC : Nat → Nat} {A : Nat → Prop} {u U : State} {H : Heap} (hv : u.vm = U.vm) (h : gz_St aC A u H) : gz_St aC A U H := by
  have al : u.vm.Alike U.vm := by rw [hv]; exact Vm.Alike.refl _
  exact ⟨va_Z.moved al h.1, va_Z.moved al h.2.1, va_Zq.moved al h.2.2.1, va_Zq.moved al h.2.2.2.1, va_Zq.moved al h.2.2.2.2.1, gy_L.moved al h.2.2.2.2.2.1, gy_L.moved al h.2.2.2.2.2.2.1, vk_S.moved al h.2.2.2.2.2.2.2.1, fun i hi => vk_R.same hv.symm (h.2.2.2.2.2.2.2.2.1 i hi), va_Mi.moved al h.2.2.2.2.2.2.2.2.2.1, va_T.moved al h.2.2.2.2.2.2.2.2.2.2⟩
theorem gz_St.call {aC : Nat → Nat} {A B : Nat → Prop} {s U : State} {H H1 : Heap} (hW : s.WarmedH U.vm) (hq : ∀ a : Nat, a < H.size → ¬ A a → H1[a]? = H[a]?) (hAB : ∀ q, B q → A q) (h : gz_St aC A s H) : gz_St aC B U H1 :=
  ⟨((va_Z.moved hW.alike h.1).kept hq).narrow hAB, ((va_Z.moved hW.alike h.2.1).kept hq).narrow hAB, ((va_Zq.moved hW.alike h.2.2.1).kept hq).narrow hAB, ((va_Zq.moved hW.alike h.2.2.2.1).kept hq).narrow hAB, ((va_Zq.moved hW.alike h.2.2.2.2.1).kept hq).narrow hAB, ((gy_L.moved hW.alike h.2.2.2.2.2.1).kept hq).narrow hAB, ((gy_L.moved hW.alike h.2.2.2.2.2.2.1).kept hq).narrow hAB, ((vk_S.moved hW.alike h.2.2.2.2.2.2.2.1).kept hq).narrow hAB, fun i hi => vk_R.warm hW (h.2.2.2.2.2.2.2.2.1 i hi), va_Mi.moved hW.alike h.2.2.2.2.2.2.2.2.2.1, ((va_T.moved hW.alike h.2.2.2.2.2.2.2.2.2.2).kept hq).narrow hAB⟩
/-- the world at a contract's start and end -/
def gz_B (D : va_G) (aC : Nat → ClassId) (A : Nat → Prop) (sh : gz_S) (V : gz_V) (Rf : gz_R) (ad : gz_A0) (U : State) : Prop := gz_wd D aC A sh V Rf ad U.heap ∧ va_K D gzCl (gz_tys aC) U ∧ gz_NW U
def gz_P (D : va_G) (aC : Nat → ClassId) (A : Nat → Prop) (sh : gz_S) (V : gz_V) (Rf : gz_R) (ad : gz_A0) (U : State) : Prop := gz_wd D aC A sh V Rf ad U.heap ∧ va_K D gzCl (gz_tys aC) U ∧ gz_NW U ∧ gz_St aC A U U.heap
def gz_Qc (D : va_G) (aC : Nat → ClassId) (A : Nat → Prop) (Fi : gz_Fi) : Array Value → State → Outcome → State → Prop := fun _ st oc t =>
  (∃ (sh : gz_S) (V : gz_V) (Rf : gz_R) (ad : gz_A0) (rv : Option Value), oc = .returned rv ∧ gz_B D aC A sh V Rf ad t ∧ Fi sh V Rf ad rv) ∧ va_F A st t
def gz_Met (l : Launch) (y : MethodName) (code : ByteArray) (nL : Nat) (ret : Option FieldType) (rm : Room) (D : va_G) (aC : Nat → ClassId) (ad : gz_A0) (sh : gz_S) (V : gz_V) (Rf : gz_R) (av : List Value) (Fi : gz_Fi) (mc ms : Nat) : Prop :=
  ∀ sz : Nat, Met l y (ws_ y code nL ret) rm (va_Pc av (fun U => U.heap.size = sz ∧ gz_P D aC (gz_A sh ad sz) sh V Rf ad U)) (gz_Qc D aC (gz_A sh ad sz) Fi) mc ms (gz_A sh ad sz)
/-- what stays all through a method's walk -/
def gz_ok (X : gz_X) (cc : ByteArray) (own mn : String) (nL : Nat) (rm : Room) (ret : Option FieldType) : Prop :=
  (gx_p X).tables.exec = Jvm.exec ∧ (gx_c X).code = cc ∧ (gx_c X).maxLocals = nL ∧ (gx_s X).vm.findClass own = some (gx_m X).cls ∧ (∀ w ∈ lw_all, w.before (gx_a X) (gx_s X) = true) ∧ va_K (gx_D X) gzCl (gz_tys (gx_C X)) (gx_s X) ∧ (∀ q, (gx_s X).heap.size ≤ q → (gx_A X) q) ∧ (gx_me X).locks = false ∧ gx_R X = rm ∧ (gx_me X).sig.returnType = ret ∧ (gx_me X).name = mn ∧ gz_NW (gx_s X) ∧ gz_St (gx_C X) (gx_A X) (gx_s X) (gx_s X).heap
/-- the judgement: from here the method comes to its end -/
def gW (X : gz_X) (nL : Nat) (sh : gz_S) (Rf : gz_R) (ad : gz_A0) (V : gz_V) (ce sl : Nat) (pc : Nat) (lv : List (Nat × Value)) (st : List Value) : Prop :=
  ∀ (H : Heap) (locs : List Loc) (ls : Array Slot), gz_wd (gx_D X) (gx_C X) (gx_A X) sh V Rf ad H → va_S (gx_A X) (gx_s X).heap H locs → lv_has ls nL lv →
    W (gx_p X) (gx_l X) (gx_e X) (gx_R X) (gx_s X) (gx_m X) (gx_a X) (gx_b X) (gx_me X) (gx_c X) H locs ce sl (gx_Q X) (F0 (gx_m X) pc ls st)
/-- the end of a method that only returns -/
def gz_E (X : gz_X) : Prop := gx_Q X = MQ (gx_b X) (gz_Qc (gx_D X) (gx_C X) (gx_A X) (gx_F X)) (gx_a X) (gx_s X) (gx_mc X) (gx_ms X) (gx_A X)
/-- the same, and no cell is made -/
def gz_Z (X : gz_X) : Prop := gz_E X ∧ gx_mc X = 0 ∧ gx_ms X = 0
theorem gz_ofW {l : Launch} {y : MethodName} {code : ByteArray} {nL : Nat} {ret : Option FieldType} {rm : Room} {D : va_G} {aC : Nat → ClassId} {ad : gz_A0} {sh : gz_S} {V : gz_V} {Rf : gz_R} {av : List Value} {Fi : gz_Fi} {mc ms : Nat} {own mn : String} {lv : List (Nat × Value)}
    (hy : plainName y.cls = true) (hc : y.cls = own) (hm : y.name = mn) (hn : (lg_sl av).length ≤ nL) (hlv : lv_args 0 av = lv)
    (k : ∀ X : gz_X, gz_ok X code own mn nL rm ret → gx_l X = l → gx_D X = D → gx_C X = aC → gx_F X = Fi → gx_mc X = mc → gx_ms X = ms → gz_E X → gW X nL sh Rf ad V 0 0 0 lv []) : gz_Met l y code nL ret rm D aC ad sh V Rf av Fi mc ms := by
  intro sz
  refine Met.ofW (cc := code) (maxL := nL) (ret := ret) hy rfl ?_
  intro p e s m args below meth c s₁ B hml hv
  obtain ⟨rfl, hsz, hw, hK, hNW, hSt⟩ := hv
  have hts := atoms_spec (ws := ws_ y code nL ret) B.pre
  have hts : ∀ w ∈ lw_all, w.before _ s = true := fun w h => hts w (List.mem_cons_of_mem _ h)
  have hown : s.vm.findClass y.cls = some m.cls := findClass_of_methodNamed B.named
  subst hsz
  have hl := lv_entry av (n := nL) hn
  rw [lg_entry_eq]
  rw [hlv] at hl
  have hmn : meth.name = y.name := (name_of_methodNamed B.named B.method).1
  exact k (p, l, e, rm, s, m, av.toArray, below, meth, c, gz_A sh ad s.heap.size, D, aC, Fi, mc, ms, MQ below (gz_Qc D aC (gz_A sh ad s.heap.size) Fi) av.toArray s mc ms (gz_A sh ad s.heap.size)) ⟨B.exec, B.bytes, hml, by rw [← hc]; exact hown, hts, hK, fun q h => Or.inr h, B.notSynchronized, rfl, B.returns, by rw [← hm]; exact hmn, hNW, hSt⟩ rfl rfl rfl rfl rfl rfl rfl s.heap [] _ hw va_S.rf hl
