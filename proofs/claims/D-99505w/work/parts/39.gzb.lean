/-! ROWS FOR CONSTRUCTORS: arrays of references, grids, final fields, <init> calls. Worlds in which what isn't there is zero (gz_z), so that a new cell changes sh alone. -/
set_option maxRecDepth 100000
def gz_z (sh : gz_S) (V : gz_V) (Rf : gz_R) : Prop := ∀ a, sh a = none → V a = (fun _ => 0) ∧ Rf a = (fun _ => none)
theorem gz_uz_z {V : gz_V} {n : gz_N} (h : V n = fun _ => 0) : gz_uz V n = V := by
  funext a
  by_cases e : a = n
  · rw [e, gz_uz_eq, h]
  · rw [gz_uz_ne e]
theorem gz_un_z {Rf : gz_R} {n : gz_N} (h : Rf n = fun _ => none) : gz_un Rf n = Rf := by
  funext a
  by_cases e : a = n
  · rw [e, gz_un_eq, h]
  · rw [gz_un_ne e]
/-- the same addresses where cells were -/
def gz_ag (sh : gz_S) (ad ad2 : gz_A0) : Prop := ∀ a : gz_N, sh a ≠ none ∨ a.1 = 0 → ad2 a = ad a
theorem gz_ag.rf {sh : gz_S} {ad : gz_A0} : gz_ag sh ad ad := fun _ _ => rfl
theorem gz_ag.trans {sh sh2 : gz_S} {ad ad2 ad3 : gz_A0} (h1 : gz_ag sh ad ad2) (hs : ∀ a, sh a ≠ none → sh2 a ≠ none) (h2 : gz_ag sh2 ad2 ad3) : gz_ag sh ad ad3 := fun a h => (h2 a (h.imp (hs a) id)).trans (h1 a h)
theorem gz_us_nn {sh : gz_S} {n : gz_N} {t : Nat × Nat} (a : gz_N) (h : sh a ≠ none) : gz_us sh n t a ≠ none := by
  unfold gz_us
  by_cases e : a = n
  · rw [if_pos e]; exact fun z => by cases z
  · rw [if_neg e]; exact h
/-- a grid's names: nm, and its rows (a, b, j) -/
def gz_gs (sh : gz_S) (nm : gz_N) (N a b M : Nat) : gz_S := fun x => if x = nm then some (112, N) else if x.1 = a ∧ x.2.1 = b ∧ x.2.2 < N then some (100, M) else sh x
def gz_gr (Rf : gz_R) (nm : gz_N) (N a b : Nat) : gz_R := fun x => if x = nm then (fun j => if j < N then some (a, b, j) else none) else Rf x
def gz_ga (ad : gz_A0) (nm : gz_N) (N a b q : Nat) : gz_A0 := fun x => if x = nm then q else if x.1 = a ∧ x.2.1 = b ∧ x.2.2 < N then q + 1 + x.2.2 else ad x
theorem gz_wd.grid {D : va_G} {aC : Nat → ClassId} {A : Nat → Prop} {sh : gz_S} {V : gz_V} {Rf : gz_R} {ad : gz_A0} {H H1 : Heap} {nm : gz_N} {N M a b : Nat} (hw : gz_wd D aC A sh V Rf ad H) (hz : gz_z sh V Rf) (hf : sh nm = none) (h0 : nm.1 ≠ 0) (ha0 : a ≠ 0) (han : nm.1 ≠ a) (hfr : ∀ j, j < N → sh (a, b, j) = none) (hA : ∀ q, H.size ≤ q → A q) (ho : ∀ q, q < H.size → H1[q]? = H[q]?) (h1 : H1[H.size]? = some (arrV (aC 112) N (fun j => .ref (H.size + 1 + j)))) (h2 : ∀ j, j < N → H1[H.size + 1 + j]? = some (arrV (aC 100) M (fun _ => .int 0))) : gz_wd D aC A (gz_gs sh nm N a b M) V (gz_gr Rf nm N a b) (gz_ga ad nm N a b H.size) H1 := by
  have cs : ∀ x, x = nm ∨ (x ≠ nm ∧ x.1 = a ∧ x.2.1 = b ∧ x.2.2 < N) ∨ (x ≠ nm ∧ ¬ (x.1 = a ∧ x.2.1 = b ∧ x.2.2 < N)) := by
    intro x
    by_cases e : x = nm
    · exact Or.inl e
    · by_cases e2 : x.1 = a ∧ x.2.1 = b ∧ x.2.2 < N
      · exact Or.inr (Or.inl ⟨e, e2⟩)
      · exact Or.inr (Or.inr ⟨e, e2⟩)
  have sN : gz_gs sh nm N a b M nm = some (112, N) := if_pos rfl
  have sR : ∀ x, x ≠ nm → (x.1 = a ∧ x.2.1 = b ∧ x.2.2 < N) → gz_gs sh nm N a b M x = some (100, M) := fun x e e2 => by unfold gz_gs; rw [if_neg e, if_pos e2]
  have sO : ∀ x, x ≠ nm → ¬ (x.1 = a ∧ x.2.1 = b ∧ x.2.2 < N) → gz_gs sh nm N a b M x = sh x := fun x e e2 => by unfold gz_gs; rw [if_neg e, if_neg e2]
  have aN : gz_ga ad nm N a b H.size nm = H.size := if_pos rfl
  have aR : ∀ x, x ≠ nm → (x.1 = a ∧ x.2.1 = b ∧ x.2.2 < N) → gz_ga ad nm N a b H.size x = H.size + 1 + x.2.2 := fun x e e2 => by unfold gz_ga; rw [if_neg e, if_pos e2]
  have aO : ∀ x, x ≠ nm → ¬ (x.1 = a ∧ x.2.1 = b ∧ x.2.2 < N) → gz_ga ad nm N a b H.size x = ad x := fun x e e2 => by unfold gz_ga; rw [if_neg e, if_neg e2]
  have rN : gz_gr Rf nm N a b nm = fun j => if j < N then some (a, b, j) else none := if_pos rfl
  have rO : ∀ x, x ≠ nm → gz_gr Rf nm N a b x = Rf x := fun x e => if_neg e
  have zR : ∀ x, (x.1 = a ∧ x.2.1 = b ∧ x.2.2 < N) → sh x = none := fun x e => by
    obtain ⟨x1, x2, x3⟩ := x
    obtain ⟨e1, e2, e3⟩ := e
    dsimp only at e1 e2 e3
    subst e1; subst e2
    exact hfr x3 e3
  have oO : ∀ x, sh x ≠ none → x ≠ nm ∧ ¬ (x.1 = a ∧ x.2.1 = b ∧ x.2.2 < N) := fun x hx => ⟨fun e => hx (by rw [e]; exact hf), fun e => hx (zR x e)⟩
  have lt : ∀ x, sh x ≠ none → ad x < H.size := fun x hx => by
    cases hq : sh x with
    | none => exact absurd hq hx
    | some u => exact (hw.1 x u hq).lt
  have rown : ∀ j, j < N → ((a, b, j) : gz_N) ≠ nm := fun j _ e => han (by rw [← e])
  refine ⟨fun x t hx => ?_, fun x y hx hy e => ?_, fun x hx hx0 => ?_, fun x f y hx hy hy0 => ?_, fun i => ?_⟩
  · rcases cs x with e | ⟨e, e2⟩ | ⟨e, e2⟩
    · subst e
      rw [sN] at hx
      cases hx
      unfold gz_at
      rw [if_neg (show ¬ (112 : Nat) < 100 by decide), if_neg (show ¬ (112 : Nat) < 110 by decide), aN, h1, rN]
      show some (arrV _ _ _) = some (arrV _ _ _)
      unfold arrV
      congr 3
      funext j
      show Value.ref (H.size + 1 + j.val) = va_rf (Option.map _ (if j.val < N then some (a, b, j.val) else none))
      rw [if_pos j.isLt]
      show _ = Value.ref (gz_ga ad x N a b H.size (a, b, j.val))
      rw [aR _ (rown _ j.isLt) ⟨rfl, rfl, j.isLt⟩]
    · rw [sR x e e2] at hx
      cases hx
      unfold gz_at
      rw [if_neg (show ¬ (100 : Nat) < 100 by decide), if_pos (show (100 : Nat) < 110 by decide), aR x e e2, h2 _ e2.2.2, (hz x (zR x e2)).1]
    · rw [sO x e e2] at hx
      have g := hw.1 x t hx
      have hne : sh x ≠ none := by rw [hx]; exact fun z => by cases z
      refine ((g.kept (ho _ g.lt)).move (aO x e e2) (fun f y hy => ?_)).eqV rfl (rO x e)
      by_cases hy0 : y.1 = 0
      · exact aO y (fun q => h0 (by rw [← q]; exact hy0)) (fun q => ha0 (by rw [← q.1]; exact hy0))
      · obtain ⟨q1, q2⟩ := oO y (hw.2.2.2.1 x f y hne hy hy0)
        exact aO y q1 q2
  · have val : ∀ x, gz_gs sh nm N a b M x ≠ none → (x = nm ∧ gz_ga ad nm N a b H.size x = H.size) ∨ (x ≠ nm ∧ x.1 = a ∧ x.2.1 = b ∧ x.2.2 < N ∧ gz_ga ad nm N a b H.size x = H.size + 1 + x.2.2) ∨ (sh x ≠ none ∧ gz_ga ad nm N a b H.size x = ad x) := by
      intro x hx
      rcases cs x with e | ⟨e, e2⟩ | ⟨e, e2⟩
      · exact Or.inl ⟨e, by rw [e, aN]⟩
      · exact Or.inr (Or.inl ⟨e, e2.1, e2.2.1, e2.2.2, aR x e e2⟩)
      · rw [sO x e e2] at hx
        exact Or.inr (Or.inr ⟨hx, aO x e e2⟩)
    rcases val x hx with ⟨x1, x2⟩ | ⟨x0, x1, x2, x3, x4⟩ | ⟨x1, x2⟩ <;> rcases val y hy with ⟨y1, y2⟩ | ⟨y0, y1, y2, y3, y4⟩ | ⟨y1, y2⟩
    · rw [x1, y1]
    · omega
    · have := lt y y1
      omega
    · omega
    · refine Prod.ext (by rw [x1, y1]) (Prod.ext (by rw [x2, y2]) (by omega))
    · have := lt y y1
      omega
    · have := lt x x1
      omega
    · have := lt x x1
      omega
    · exact hw.2.1 x y x1 y1 (by omega)
  · rcases cs x with e | ⟨e, e2⟩ | ⟨e, e2⟩
    · rw [e, aN]; exact hA _ (Nat.le_refl _)
    · rw [aR x e e2]; exact hA _ (by omega)
    · rw [aO x e e2]
      rw [sO x e e2] at hx
      exact hw.2.2.1 x hx hx0
  · by_cases e : x = nm
    · rw [e, rN] at hy
      dsimp only at hy
      by_cases hj : f < N
      · rw [if_pos hj] at hy
        cases hy
        rw [sR _ (rown f hj) ⟨rfl, rfl, hj⟩]
        exact fun z => by cases z
      · rw [if_neg hj] at hy
        cases hy
    · rw [rO x e] at hy
      by_cases e2 : x.1 = a ∧ x.2.1 = b ∧ x.2.2 < N
      · rw [(hz x (zR x e2)).2] at hy
        cases hy
      · rw [sO x e e2] at hx
        have hy1 := hw.2.2.2.1 x f y hx hy hy0
        obtain ⟨q1, q2⟩ := oO y hy1
        rw [sO y q1 q2]
        exact hy1
  · rw [aO _ (fun q => h0 (by rw [← q])) (fun q => ha0 q.1.symm)]
    exact hw.2.2.2.2 i
section GZB
variable {X : gz_X} {cc : ByteArray} {own mn : String} {nL : Nat} {rm : Room} {ret : Option FieldType} {sh sh2 : gz_S} {Rf Rf2 : gz_R} {ad : gz_A0} {V V2 : gz_V} {ce sl pc : Nat} {lvF : gz_A0 → List (Nat × Value)} {stF : gz_A0 → List Value}
/-- a new array of ints, bytes or booleans, in a world that's zero elsewhere -/
theorem gn_newa (hX : gz_ok X cc own mn nL rm ret) {t t0 L : Nat} {atype : ArrayType} {n : Int32} {nm : gz_N} (harr : Cond.arrayClass (newarray.typeOf atype) ∈ lw_all) (ht : ∀ aC, (gz_tys aC)[t0]? = some (aC t, newarray.typeOf atype)) (ht1 : ¬ t < 100) (ht2 : t < 110) (hra : ∀ (U : State) (cA : ClassId), va_RA U cA (newarray.typeOf atype) → U.vm.findClass ("[" ++ (newarray.typeOf atype).toString) = some cA) (hdef : defaultValue (newarray.typeOf atype) = .int 0)
    (hn : ¬ n < 0) (hN : n.toNatClampNeg = L) (hby : L * componentBytes (newarray.typeOf atype) ≤ 536870912) (hc : ce + 1 ≤ rm.cells) (hs : sl + L ≤ rm.slots) (hz : gz_z sh V Rf) (hf : sh nm = none) (h0 : nm.1 ≠ 0) (hF : ∀ ad2 : gz_A0, gz_ag sh ad ad2 → lvF ad2 = lvF ad ∧ stF ad2 = stF ad) (hdg : decode cc pc = .ok (.newarray atype, 2))
    (k : ∀ ad2 : gz_A0, gz_ag sh ad ad2 → gW X nL (gz_us sh nm (t, L)) Rf ad2 V (ce + 1) (sl + L) (pc + 2) (lvF ad2) (.ref (ad2 nm) :: stF ad2)) : gW X nL sh Rf ad V ce sl pc (lvF ad) (.int n :: stF ad) := by
  have ag : ∀ ad2 : gz_A0, (∀ a, a ≠ nm → ad2 a = ad a) → gz_ag sh ad ad2 := fun ad2 h a ha => h a (fun e => by
    rcases ha with q | q
    · exact q (by rw [e]; exact hf)
    · exact h0 (by rw [← e]; exact q))
  refine gz_newa hX harr ht ht1 ht2 hra hdef hn hN hby hc hs hf h0 (fun ad2 h => hF ad2 (ag ad2 h)) hdg (fun ad2 h => ?_)
  rw [gz_uz_z (hz nm hf).1, gz_un_z (hz nm hf).2]
  exact k ad2 (ag ad2 h)
/-- a new object -/
theorem gn_new (hX : gz_ok X cc own mn nL rm ret) {ci index N N0 : Nat} {C : String} {T : u_T} {nm : gz_N} (hin : ∀ w ∈ u_ws C T N, w ∈ lw_all) (hty : ∀ k, k < N → parseFieldDescriptor (T k).2.2.1 = some (gz_ty ci k)) (hci : ci < 100) (hc : gzCl[ci]? = some (C, T, N)) (hcl : Cond.classLink own index C ∈ lw_all) (hins : Cond.instantiable C N0 ∈ lw_all) (hini : Cond.initialized C ∈ lw_all) (hzz : ∀ f, f < N → defaultValue (gz_ty ci f) = if gz_isr (gz_ty ci f) then .null else .int 0)
    (hcc : ce + 1 ≤ rm.cells) (hs : sl + N0 ≤ rm.slots) (hz : gz_z sh V Rf) (hf : sh nm = none) (h0 : nm.1 ≠ 0) (hF : ∀ ad2 : gz_A0, gz_ag sh ad ad2 → lvF ad2 = lvF ad ∧ stF ad2 = stF ad) (hdg : decode cc pc = .ok (.new index, 3))
    (k : ∀ ad2 : gz_A0, gz_ag sh ad ad2 → gW X nL (gz_us sh nm (ci, N)) Rf ad2 V (ce + 1) (sl + N0) (pc + 3) (lvF ad2) (.ref (ad2 nm) :: stF ad2)) : gW X nL sh Rf ad V ce sl pc (lvF ad) (stF ad) := by
  have ag : ∀ ad2 : gz_A0, (∀ a, a ≠ nm → ad2 a = ad a) → gz_ag sh ad ad2 := fun ad2 h a ha => h a (fun e => by
    rcases ha with q | q
    · exact q (by rw [e]; exact hf)
    · exact h0 (by rw [← e]; exact q))
  refine gz_new hX hin hty hci hc hcl hins hini hzz hcc hs hf h0 (fun ad2 h => hF ad2 (ag ad2 h)) hdg (fun ad2 h => ?_)
  rw [gz_uz_z (hz nm hf).1, gz_un_z (hz nm hf).2]
  exact k ad2 (ag ad2 h)
/-- a new array of objects -/
theorem gn_anew (hX : gz_ok X cc own mn nL rm ret) {t t0 L index : Nat} {C : String} {n : Int32} {nm : gz_N} (hcl : Cond.classLink own index C ∈ lw_all) (hov : FieldType.object C ∈ gzOv) (ht : ∀ aC, (gz_tys aC)[t0]? = some (aC t, .object C)) (ht1 : ¬ t < 100) (ht2 : ¬ t < 110)
    (hn : ¬ n < 0) (hN : n.toNatClampNeg = L) (hby : L * 4 ≤ 536870912) (hc : ce + 1 ≤ rm.cells) (hs : sl + L ≤ rm.slots) (hz : gz_z sh V Rf) (hf : sh nm = none) (h0 : nm.1 ≠ 0) (hF : ∀ ad2 : gz_A0, gz_ag sh ad ad2 → lvF ad2 = lvF ad ∧ stF ad2 = stF ad) (hdg : decode cc pc = .ok (.anewarray index, 3))
    (k : ∀ ad2 : gz_A0, gz_ag sh ad ad2 → gW X nL (gz_us sh nm (t, L)) Rf ad2 V (ce + 1) (sl + L) (pc + 3) (lvF ad2) (.ref (ad2 nm) :: stF ad2)) : gW X nL sh Rf ad V ce sl pc (lvF ad) (.int n :: stF ad) := by
  intro H locs ls hw hS hl
  subst hN
  refine W.anew hX.1 hX.2.1 hX.2.2.2.1 (hX.2.2.2.2.1 _ hcl) (hX.2.2.2.2.2.2.2.2.2.2.2.1.2.2 _ hov) rfl hdg rfl hn hby (by rw [hX.2.2.2.2.2.2.2.2.1]; exact hc) (by rw [hX.2.2.2.2.2.2.2.2.1]; exact hs) (fun cA kA comp e1 e2 e3 e4 => ?_)
  obtain ⟨kA2, comp2, k1, k2, k3, k4⟩ := (hX.2.2.2.2.2.1.2 t0 _ (ht _)).2
  have hcA : cA = (gx_C X) t := Option.some.inj (e1.symm.trans k4)
  generalize hH1 : H.push ({ cls := cA, slots := Array.replicate n.toNatClampNeg .null, vm := .none } : Cell) = H1
  have z1 : H1.size = H.size + 1 := by rw [← hH1, Array.size_push]
  have c1 : H1[H.size]? = some (arrV cA n.toNatClampNeg (fun _ => .null)) := by rw [← hH1, Array.getElem?_push_size, ← arrV_new]
  have o1 : ∀ q, q < H.size → H1[q]? = H[q]? := fun q hq => by rw [← hH1]; exact Array.getElem?_push_lt hq |>.trans (Array.getElem?_eq_getElem hq).symm
  have ag : gz_ag sh ad (gz_ua ad nm H.size) := fun a ha => gz_ua_ne (fun e => by
    rcases ha with q | q
    · exact q (by rw [e]; exact hf)
    · exact h0 (by rw [← e]; exact q))
  have hk := k (gz_ua ad nm H.size) ag
  obtain ⟨g1, g2⟩ := hF (gz_ua ad nm H.size) ag
  rw [g1, g2, gz_ua_eq] at hk
  have hw2 := hw.new (t := (t, n.toNatClampNeg)) (H1 := H1) hf h0 (hX.2.2.2.2.2.2.1 _ hS.1) o1 (by
    unfold gz_at
    rw [if_neg ht1, if_neg ht2, gz_ua_eq, gz_un_eq, c1, hcA]
    rfl)
  rw [gz_uz_z (hz nm hf).1, gz_un_z (hz nm hf).2] at hw2
  exact hk H1 locs ls hw2 ⟨Nat.le_trans hS.1 (by omega), fun q h1 h2 => (o1 q (Nat.lt_of_lt_of_le h1 hS.1)).trans (hS.2.1 q h1 h2), hS.2.2⟩ hl
/-- a grid of ints -/
theorem gn_grid (hX : gz_ok X cc own mn nL rm ret) {N M a b index : Nat} {n m : Int32} {nm : gz_N} (hcl : Cond.classLink own index "[[I" ∈ lw_all) (harr : Cond.arrayClass .int ∈ lw_all) (hn : ¬ n < 0) (hm : ¬ m < 0) (hN : n.toNatClampNeg = N) (hM : m.toNatClampNeg = M) (hN1 : N ≤ 134217728) (hM1 : M ≤ 134217728) (hc : ce + (1 + N) ≤ rm.cells) (hs : sl + (N + N * M) ≤ rm.slots) (hz : gz_z sh V Rf) (hf : sh nm = none) (h0 : nm.1 ≠ 0) (ha0 : a ≠ 0) (han : nm.1 ≠ a) (hfr : ∀ j, j < N → sh (a, b, j) = none) (hF : ∀ ad2 : gz_A0, gz_ag sh ad ad2 → lvF ad2 = lvF ad ∧ stF ad2 = stF ad) (hdg : decode cc pc = .ok (.multianewarray index 2, 4))
    (k : ∀ ad2 : gz_A0, gz_ag sh ad ad2 → gW X nL (gz_gs sh nm N a b M) (gz_gr Rf nm N a b) ad2 V (ce + 1 + N) (sl + N + N * M) (pc + 4) (lvF ad2) (.ref (ad2 nm) :: stF ad2)) : gW X nL sh Rf ad V ce sl pc (lvF ad) (.int m :: .int n :: stF ad) := by
  intro H locs ls hw hS hl
  refine gg_W (ty := .int) hX.1 hX.2.1 hX.2.2.2.1 (hX.2.2.2.2.1 _ hcl) (hX.2.2.2.2.2.2.2.2.2.2.2.1.2.2 _ (show FieldType.array .int ∈ gzOv by unfold gzOv; decide)) (hX.2.2.2.2.1 _ harr) hdg hN hM hn hm hN1 hM1 (by show M * 4 ≤ _; omega) rfl rfl (by rw [hX.2.2.2.2.2.2.2.2.1]; exact hc) (by rw [hX.2.2.2.2.2.2.2.2.1]; exact hs) (fun H1 L cA cB e1 e2 z1 o1 c1 r1 hL => ?_)
  have hcA : cA = (gx_C X) 112 := Option.some.inj (e1.symm.trans (hX.2.2.2.2.2.1.2 5 _ rfl).2)
  have hcB : cB = (gx_C X) 100 := Option.some.inj (e2.symm.trans (hX.2.2.2.2.2.1.2 0 _ rfl).2)
  have zR : ∀ x : gz_N, (x.1 = a ∧ x.2.1 = b ∧ x.2.2 < N) → sh x = none := fun x e => by
    obtain ⟨x1, x2, x3⟩ := x
    obtain ⟨q1, q2, q3⟩ := e
    dsimp only at q1 q2 q3
    subst q1; subst q2
    exact hfr x3 q3
  have ag : gz_ag sh ad (gz_ga ad nm N a b H.size) := fun x hx => by
    have q1 : x ≠ nm := fun e => by
      rcases hx with q | q
      · exact q (by rw [e]; exact hf)
      · exact h0 (by rw [← e]; exact q)
    have q2 : ¬ (x.1 = a ∧ x.2.1 = b ∧ x.2.2 < N) := fun e => by
      rcases hx with q | q
      · exact q (zR x e)
      · exact ha0 (by rw [← e.1]; exact q)
    unfold gz_ga
    rw [if_neg q1, if_neg q2]
  have hk := k _ ag
  obtain ⟨g1, g2⟩ := hF _ ag
  rw [g1, g2] at hk
  have e0 : gz_ga ad nm N a b H.size nm = H.size := if_pos rfl
  rw [e0] at hk
  have hw2 := hw.grid (M := M) hz hf h0 ha0 han hfr (fun q hq => hX.2.2.2.2.2.2.1 q (Nat.le_trans hS.1 hq)) o1 (by rw [c1, hcA]) (fun j hj => by rw [r1 j hj, hcB]; rfl)
  refine hk H1 L ls hw2 ⟨Nat.le_trans hS.1 (by omega), fun q h1 h2 => (o1 q (Nat.lt_of_lt_of_le h1 hS.1)).trans (hS.2.1 q h1 h2), fun q hq => ?_⟩ hl
  rcases hL q hq with h | h
  · exact hS.2.2 q h
  · rw [h]
    exact hX.2.2.2.2.2.2.1 _ hS.1
end GZB
section GZBB
variable {X : gz_X} {cc : ByteArray} {own mn : String} {nL : Nat} {rm : Room} {ret : Option FieldType} {sh sh2 : gz_S} {Rf Rf2 : gz_R} {ad : gz_A0} {V V2 : gz_V} {ce sl pc : Nat} {lv : List (Nat × Value)} {st : List Value}
/-- a final field, in its class's own <init> -/
theorem gn_putG (hX : gz_ok X cc own "<init>" nL rm ret) {C : String} {T : u_T} {N N0 ci index : Nat} {n : gz_N} (hin : ∀ w ∈ u_ws C T N, w ∈ lw_all) (hap : ∀ x y, x < N → y < N → x ≠ y → ((gx_D X).2 ci) x ≠ ((gx_D X).2 ci) y) (hci : ci < 100) (hc : gzCl[ci]? = some (C, T, N)) (hsh : sh n = some (ci, N0)) (hn0 : n.1 ≠ 0) (f : Nat) (hf : f < N) (hlink : Cond.fieldLink own index (T f).1 (T f).2.1 (T f).2.2.1 ∈ lw_all) (hfin : (T f).2.2.2 = true) (hdecl : (T f).1 = own) {ty : FieldType} (hd : parseFieldDescriptor (T f).2.2.1 = some ty) {v : Value} (hn : narrow ty v = v) (hfit : fits ty v = true) (hdg : decode cc pc = .ok (.putfield index, 3))
    (hj : ∀ j, updV (fun f => gz_fv ci V Rf ad n f) f v j = gz_fv ci V2 Rf2 ad n j) (hv : ∀ a, a ≠ n → V2 a = V a) (hr : ∀ a, a ≠ n → Rf2 a = Rf a) (hcl : ∀ f b, Rf2 n f = some b → b.1 ≠ 0 → Rf n f = some b ∨ sh b ≠ none ∨ ∃ a g, sh a ≠ none ∧ Rf a g = some b)
    (k : gW X nL sh Rf2 ad V2 ce sl (pc + 3) lv st) : gW X nL sh Rf ad V ce sl pc lv (v :: .ref (ad n) :: st) := by
  intro H locs ls hw hS hl
  obtain ⟨cell, q1, q2, q3, q4⟩ := gz_obj hw hsh hci hc
  obtain ⟨hSl, hfc, kC, hkC, hkind⟩ := hX.2.2.2.2.2.1.1 ci _ hc
  obtain ⟨cf, kf, fi, fd, hi, hsl⟩ := hSl f hf
  have hlay := hX.2.2.2.2.1 _ (hin _ (u_in_lay hf))
  unfold u_lay at hlay
  rw [if_pos hfin] at hlay
  have hst := (u_facts hfc hkC (u_lays hX.2.2.2.2.1 hin hf) hi).1
  have hcf : (gx_m X).cls = cf := by
    obtain ⟨_, _, c', _, _, _, -, -, hf', -, -, -, hown2, -⟩ := Cond.laysFinal_spec hlay
    have e1 : c' = cf := by have := hi.symm.trans hf'; simp at this; exact this.1.symm
    rw [hdecl] at hown2
    rw [← e1]; exact Option.some.inj (hX.2.2.2.1.symm.trans hown2)
  have h6 := u_fits hfc hkC hkind (Or.inr hlay) hi hd hn hfit
  refine W.putFinK hX.1 hX.2.1 hX.2.2.2.1 (hX.2.2.2.2.1 _ hlink) hi hst hcf hX.2.2.2.2.2.2.2.2.2.2.1 (by rw [q2]; exact h6) q1 q3 (by rw [hsl]; exact k2_hasslot (q4 f hf)) rfl rfl hdg fun H' e1 e2 e3 => ?_
  rw [hsl] at e1 ⊢
  have hne : sh n ≠ none := by rw [hsh]; exact fun z => by cases z
  refine k H' _ ls (hw.put hne hv hr e3 (fun g b hb h0 => gz_clo hw hne (hcl g b hb h0) h0) (fun t ht => ?_)) (hS.put e2 e3 (hw.2.2.1 n hne hn0)) hl
  cases hsh.symm.trans ht
  unfold gz_at
  rw [if_pos hci]
  exact ⟨_, hc, t_OB.to ⟨_, e1, q2, q3, t_set q4 hap hf v⟩ (fun j _ => hj j)⟩
theorem gn_putR (hX : gz_ok X cc own "<init>" nL rm ret) {C : String} {T : u_T} {N N0 ci index : Nat} {n b : gz_N} (hin : ∀ w ∈ u_ws C T N, w ∈ lw_all) (hap : ∀ x y, x < N → y < N → x ≠ y → ((gx_D X).2 ci) x ≠ ((gx_D X).2 ci) y) (hci : ci < 100) (hc : gzCl[ci]? = some (C, T, N)) (hsh : sh n = some (ci, N0)) (hn0 : n.1 ≠ 0) (f : Nat) (hf : f < N) (hlink : Cond.fieldLink own index (T f).1 (T f).2.1 (T f).2.2.1 ∈ lw_all) (hfin : (T f).2.2.2 = true) (hdecl : (T f).1 = own) (hr : gz_isr (gz_ty ci f) = true) {ty : FieldType} (hd : parseFieldDescriptor (T f).2.2.1 = some ty) (hn : narrow ty (.ref (ad b)) = .ref (ad b)) (hfit : fits ty (.ref (ad b)) = true) (hb : sh b ≠ none) (hdg : decode cc pc = .ok (.putfield index, 3))
    (k : gW X nL sh (gz_ur Rf n f (some b)) ad V ce sl (pc + 3) lv st) : gW X nL sh Rf ad V ce sl pc lv (.ref (ad b) :: .ref (ad n) :: st) :=
  gn_putG hX hin hap hci hc hsh hn0 f hf hlink hfin hdecl hd hn hfit hdg (fun j => gz_fv_ur (x := some b) hr j) (fun _ _ => rfl) (fun a h => gz_ur_ne h) (fun g b2 h h0 => by
    rw [gz_ur_eq] at h
    dsimp only at h
    by_cases e : g = f
    · rw [if_pos e] at h
      cases h
      exact Or.inr (Or.inl hb)
    · rw [if_neg e] at h
      exact Or.inl h) k
theorem gn_putI (hX : gz_ok X cc own "<init>" nL rm ret) {C : String} {T : u_T} {N N0 ci index : Nat} {n : gz_N} {x : Int32} (hin : ∀ w ∈ u_ws C T N, w ∈ lw_all) (hap : ∀ x y, x < N → y < N → x ≠ y → ((gx_D X).2 ci) x ≠ ((gx_D X).2 ci) y) (hci : ci < 100) (hc : gzCl[ci]? = some (C, T, N)) (hsh : sh n = some (ci, N0)) (hn0 : n.1 ≠ 0) (f : Nat) (hf : f < N) (hlink : Cond.fieldLink own index (T f).1 (T f).2.1 (T f).2.2.1 ∈ lw_all) (hfin : (T f).2.2.2 = true) (hdecl : (T f).1 = own) (hr : gz_isr (gz_ty ci f) = false) {ty : FieldType} (hd : parseFieldDescriptor (T f).2.2.1 = some ty) (hn : narrow ty (.int x) = .int x) (hfit : fits ty (.int x) = true) (hdg : decode cc pc = .ok (.putfield index, 3))
    (k : gW X nL sh Rf ad (gz_up V n f x) ce sl (pc + 3) lv st) : gW X nL sh Rf ad V ce sl pc lv (.int x :: .ref (ad n) :: st) :=
  gn_putG hX hin hap hci hc hsh hn0 f hf hlink hfin hdecl hd hn hfit hdg (fun j => gz_fv_up hr j) (fun a h => gz_up_ne h) (fun _ _ => rfl) (fun g b2 h h0 => Or.inl h) k
/-- super() of Object -/
theorem gn_obj (hX : gz_ok X cc own mn nL rm ret) {index x : Nat} (hlink : Cond.methodLink own index Lib.objectInit ∈ lw_all) (hinst : Cond.instanceMethod Lib.objectInit ∈ lw_all) (hcode : Cond.code Lib.objectInit ⟨#[0xb1]⟩ 1 none ∈ lw_all) (hf : 1 ≤ rm.frames) (hlo : (st.map fun v => v.category).sum + 12 ≤ rm.locals) (hdg : decode cc pc = .ok (.invokespecial index, 3))
    (k : gW X nL sh Rf ad V ce sl (pc + 3) lv st) : gW X nL sh Rf ad V ce sl pc lv (.ref x :: st) := fun H locs ls hw hS hl =>
  W.objInit hX.1 hX.2.1 hX.2.2.2.1 (hX.2.2.2.2.1 _ hlink) (hX.2.2.2.2.1 _ hinst) (hX.2.2.2.2.1 _ hcode) rfl (hl.1.trans hX.2.2.1.symm) rfl hdg (by rw [hX.2.2.2.2.2.2.2.2.1]; exact hf) (by rw [hX.2.2.2.2.2.2.2.2.1]; show 2 * 0 + _ + 12 ≤ _; omega) (k H locs ls hw hS hl)
/-- a static field that nobody writes -/
theorem gn_dflt (hX : gz_ok X cc own mn nL rm ret) {index : Nat} (hlink : Cond.fieldLink own index "java/util/ArrayList" "DEFAULTCAPACITY_EMPTY_ELEMENTDATA" "[Ljava/lang/Object;" ∈ lw_all) (hdg : decode cc pc = .ok (.getstatic index, 3))
    (k : gW X nL sh Rf ad V ce sl (pc + 3) lv (.ref (ad (0, 0, 0)) :: st)) : gW X nL sh Rf ad V ce sl pc lv st := by
  intro H locs ls hw hS hl
  have e := hw.2.2.2.2 0
  refine va_gets hX.1 hX.2.1 hX.2.2.2.2.2.2.2.2.2.2.2.2.1 hS hX.2.2.2.1 (hX.2.2.2.2.1 _ hlink) (fun x h => h) hdg ?_
  have h := k H locs ls hw hS hl
  rw [e] at h
  exact h
/-- the call of an <init> -/
theorem gn_callI (hX : gz_ok X cc own mn nL rm ret) {y : MethodName} {code : ByteArray} {nL2 : Nat} {rm2 : Room} {Fi : gz_Fi} {mc ms index nA : Nat} {n : gz_N} {As rest : List Value}
    (hM : gz_Met (gx_l X) y code nL2 none rm2 (gx_D X) (gx_C X) ad sh V Rf (.ref (ad n) :: As) Fi mc ms) (hlw : GoodIn lw_all (ws_ y code nL2 none)) (hini : Cond.initialized y.cls ∈ lw_all) (hl0 : Cond.methodLink own index y ∈ lw_all) (hinst : Cond.instanceMethod y ∈ lw_all) (hy : y.name = "<init>") (hrc : rm2.cells = mc) (hrs : rm2.slots = ms)
    (hd : y.cls ≠ "java/lang/invoke/MethodHandle" ∧ y.cls ≠ "java/lang/invoke/VarHandle" ∧ (parseMethodDescriptor y.desc).map (fun d => d.parameters.length) = some nA) (hR : rm2.frames + 1 ≤ rm.frames ∧ 8 + (nL2 + 11) + rm2.locals ≤ rm.locals) (hf : ce + mc ≤ rm.cells ∧ sl + ms ≤ rm.slots)
    (hn : As.length = nA) {st0 : List Value} (hst : st0 = As.reverse ++ .ref (ad n) :: rest) (h8 : (rest.map fun v => v.category).sum ≤ 8) (hdg : decode cc pc = .ok (.invokespecial index, 3))
    (k : ∀ (sh2 : gz_S) (V2 : gz_V) (Rf2 : gz_R) (ad2 : gz_A0) (rv : Option Value), Fi sh2 V2 Rf2 ad2 rv → gW X nL sh2 Rf2 ad2 V2 (ce + mc) (sl + ms) (pc + 3) lv (rv.toList ++ rest)) : gW X nL sh Rf ad V ce sl pc lv st0 := by
  intro H locs ls hw hS hl
  have hK := hX.2.2.2.2.2.1
  have hA := gz_Asub hX hw hS
  have hcw := cwI (R := gx_R X) nA hX.2.2.2.2.1 hlw rfl hrc hrs (hX.2.2.2.2.1 _ hini) (hX.2.2.2.2.1 _ hl0) (hX.2.2.2.2.1 _ hinst) hy hd (by rw [hX.2.2.2.2.2.2.2.2.1]; exact hR)
  exact gz_back (va_runI (As := As) (rest := rest) (b := ad n) ⟨hX.1, hX.2.1, hX.2.2.1, hX.2.2.2.1, hX.2.2.2.2.1⟩ (hM H.size) hcw ⟨gz_blind, fun U hU hW => ⟨rfl, by rw [hU], ⟨by rw [hU]; exact hw.own, va_K.moved hW.alike hK, hX.2.2.2.2.2.2.2.2.2.2.2.1.warm hW, hX.2.2.2.2.2.2.2.2.2.2.2.2.call hW (by rw [hU]; exact hS.2.1) hA⟩⟩⟩ rfl hn hl.1 hst (lv_room h8) hdg (by rw [hX.2.2.2.2.2.2.2.2.1]; exact hf)) hS hA (fun sh2 V2 Rf2 ad2 rv H1 locs1 hw1 hF hS1 => k sh2 V2 Rf2 ad2 rv hF H1 locs1 ls hw1 hS1 hl)
/-- the same, a private <init> of a nest mate -/
theorem gn_callIN (hX : gz_ok X cc own mn nL rm ret) {y : MethodName} {host : String} {code : ByteArray} {nL2 : Nat} {rm2 : Room} {Fi : gz_Fi} {mc ms index nA : Nat} {n : gz_N} {As rest : List Value}
    (hM : gz_Met (gx_l X) y code nL2 none rm2 (gx_D X) (gx_C X) ad sh V Rf (.ref (ad n) :: As) Fi mc ms) (hlw : GoodIn lw_all (ws_ y code nL2 none)) (hini : Cond.initialized y.cls ∈ lw_all) (hl0 : Cond.methodLinkNest own index y host ∈ lw_tbl) (hinst : Cond.instanceMethod y ∈ lw_all) (hy : y.name = "<init>") (hrc : rm2.cells = mc) (hrs : rm2.slots = ms)
    (hd : y.cls ≠ "java/lang/invoke/MethodHandle" ∧ y.cls ≠ "java/lang/invoke/VarHandle" ∧ (parseMethodDescriptor y.desc).map (fun d => d.parameters.length) = some nA) (hR : rm2.frames + 1 ≤ rm.frames ∧ 8 + (nL2 + 11) + rm2.locals ≤ rm.locals) (hf : ce + mc ≤ rm.cells ∧ sl + ms ≤ rm.slots)
    (hn : As.length = nA) {st0 : List Value} (hst : st0 = As.reverse ++ .ref (ad n) :: rest) (h8 : (rest.map fun v => v.category).sum ≤ 8) (hdg : decode cc pc = .ok (.invokespecial index, 3))
    (k : ∀ (sh2 : gz_S) (V2 : gz_V) (Rf2 : gz_R) (ad2 : gz_A0) (rv : Option Value), Fi sh2 V2 Rf2 ad2 rv → gW X nL sh2 Rf2 ad2 V2 (ce + mc) (sl + ms) (pc + 3) lv (rv.toList ++ rest)) : gW X nL sh Rf ad V ce sl pc lv st0 := by
  intro H locs ls hw hS hl
  have hK := hX.2.2.2.2.2.1
  have hA := gz_Asub hX hw hS
  have hNW := hX.2.2.2.2.2.2.2.2.2.2.2.1
  have hcw := va_cnB (R := gx_R X) nA hX.2.2.2.2.1 hlw rfl hrc hrs (hNW.1 _ (gz_nw hl0 rfl)) (hX.2.2.2.2.1 _ hini) hd (by rw [hX.2.2.2.2.2.2.2.2.1]; exact hR)
  exact gz_back (va_runIN (As := As) (rest := rest) (b := ad n) ⟨hX.1, hX.2.1, hX.2.2.1, hX.2.2.2.1, hX.2.2.2.2.1⟩ (hM H.size) ⟨hcw, hy, hX.2.2.2.2.1 _ hinst⟩ ⟨gz_blind, fun U hU hW => ⟨rfl, by rw [hU], ⟨by rw [hU]; exact hw.own, va_K.moved hW.alike hK, hNW.warm hW, hX.2.2.2.2.2.2.2.2.2.2.2.2.call hW (by rw [hU]; exact hS.2.1) hA⟩⟩⟩ rfl hn hl.1 hst (lv_room h8) hdg (by rw [hX.2.2.2.2.2.2.2.2.1]; exact hf)) hS hA (fun sh2 V2 Rf2 ad2 rv H1 locs1 hw1 hF hS1 => k sh2 V2 Rf2 ad2 rv hF H1 locs1 ls hw1 hS1 hl)
end GZBB
/-- the end of an <init>: the world grew -/
def gz_FN (sh : gz_S) (ad : gz_A0) (sh2 : gz_S) (Rf2 : gz_R) (V2 : gz_V) (rv : Option Value) : gz_Fi := fun sh3 V3 Rf3 ad3 rv3 => sh3 = sh2 ∧ V3 = V2 ∧ Rf3 = Rf2 ∧ gz_ag sh ad ad3 ∧ rv3 = rv
