/-! FAULT's <init>, from a cell that is new -/
set_option maxRecDepth 100000
def gy_s8 : gz_S := fun n => if n = (97, 0, 0) then some (8, 2) else none
def gy_z8 : gz_V := fun _ _ => 0
def gy_n8 : gz_R := fun _ _ => none
def rm_x8_init : Room := { frames := 4, cells := 0, slots := 0, locals := 54 }
def gy_new8 (a : Nat) (U : State) : Prop := ∃ (cX : ClassId) (kX : Class), U.vm.findClass RX8 = some cX ∧ U.vm.classes[cX]? = some kX ∧ U.heap[a]? = some (freshCell cX kX)
def gy_M8 (l : Launch) (D : va_G) (aC : Nat → ClassId) (ad : gz_A0) (k p : Int32) : Prop :=
  ∀ sz : Nat, Met l yX8_init (ws_ yX8_init cX8_init 3 none) rm_x8_init (va_Pc [.ref (ad (97, 0, 0)), .int k, .int p] (fun U => U.heap.size = sz ∧ gz_P D aC (gz_A gy_s8 ad sz) gy_s8 gy_z8 gy_n8 ad U ∧ gy_new8 (ad (97, 0, 0)) U)) (gz_Qc D aC (gz_A gy_s8 ad sz) (gz_F1 gy_s8 gy_n8 ad (gz_up (gz_up gy_z8 (97, 0, 0) 0 k) (97, 0, 0) 1 p) none)) 0 0 (gz_A gy_s8 ad sz)
theorem gy_s8_eq : gy_s8 (97, 0, 0) = some (8, 2) := if_pos rfl
/-! (of the starting text kit/laws/EXCEPTIONS) -/
theorem gy_isRef {C n d : String} {v : Value} {A : Nat → Prop} {s : State} {args : Array Value} (h : va_Z C n d v A s s.heap) (hv : v.isRef = true) : (Cond.isRef (.static C n d)).before args s = true := by
  obtain ⟨cf, kf, fi, f, a, cell, h1, h2, h3, h4, h5, h6, h7, -⟩ := h
  have he : (Term.static C n d).eval args s none [] s = some v := by
    simp [Term.eval, State.fieldNamed?, h1, h2, h4, h5, h6, h7]
  simp only [Cond.before, Cond.holds, Cond.value, he]
  cases v <;> simp_all [Value.isRef]
theorem gy_isRefq {C n d : String} {A : Nat → Prop} {s : State} {args : Array Value} (h : va_Zq C n d A s s.heap) : (Cond.isRef (.static C n d)).before args s = true := by
  rcases h with h | ⟨t, h⟩
  · exact gy_isRef h rfl
  · exact gy_isRef h rfl
theorem gy_ats_all {aC : Nat → Nat} {A : Nat → Prop} {s : State} {args : Array Value} (hts : ∀ w ∈ lw_all, w.before args s = true) (hN : gz_NW s) (hS : gz_St aC A s s.heap) : ∀ w ∈ gy_ats, w.before args s = true := by
  intro w hw
  by_cases hb : gy_bad w = true
  · unfold gy_bad at hb
    simp only [Bool.or_eq_true, decide_eq_true_eq] at hb
    rcases hb with (((hb | hb) | hb) | hb) | hb
    · rw [hb]; exact gy_isRefq hS.2.2.2.1
    · rw [hb]; exact gy_isRefq hS.2.2.2.2.1
    · rw [hb]; exact hS.2.2.2.2.2.1.word
    · rw [hb]; exact hS.2.2.2.2.2.2.1.word
    · rw [hb]; exact va_Nw.use rfl (hN.1 _ (gz_nw q680 rfl))
  · exact hts w (gy_ats_in w (List.mem_filter.mpr ⟨hw, by simp [hb]⟩))
theorem c_x8_init {l : Launch} (htr : l.stackTraces = false) {D : va_G} {aC : Nat → ClassId} {ad : gz_A0} {k p : Int32} : gy_M8 l D aC ad k p := by
  intro sz
  refine Met.ofW (cc := cX8_init) (maxL := 3) (ret := none) (by decide) rfl ?_
  intro pr e s m args below meth c s₁ B hml hv
  obtain ⟨rfl, hsz, ⟨hw, hK, hNW, hSt⟩, cX, kX, hfX, hkX, hcell⟩ := hv
  have hts := atoms_spec (ws := ws_ yX8_init cX8_init 3 none) B.pre
  have hts : ∀ w ∈ lw_all, w.before _ s = true := fun w h => hts w (List.mem_cons_of_mem _ h)
  have hown : s.vm.findClass yX8_init.cls = some m.cls := findClass_of_methodNamed B.named
  subst hsz
  have hl := lv_entry [Value.ref (ad (97, 0, 0)), .int k, .int p] (n := 3) (Nat.le_of_ble_eq_true rfl)
  rw [lg_entry_eq]
  have hmn : meth.name = yX8_init.name := (name_of_methodNamed B.named B.method).1
  let X : gz_X := (pr, l, e, rm_x8_init, s, m, [Value.ref (ad (97, 0, 0)), .int k, .int p].toArray, below, meth, c, gz_A gy_s8 ad s.heap.size, D, aC, gz_F1 gy_s8 gy_n8 ad (gz_up (gz_up gy_z8 (97, 0, 0) 0 k) (97, 0, 0) 1 p) none, 0, 0, MQ below (gz_Qc D aC (gz_A gy_s8 ad s.heap.size) (gz_F1 gy_s8 gy_n8 ad (gz_up (gz_up gy_z8 (97, 0, 0) 0 k) (97, 0, 0) 1 p) none)) [Value.ref (ad (97, 0, 0)), .int k, .int p].toArray s 0 0 (gz_A gy_s8 ad s.heap.size))
  have hX : gz_ok X cX8_init RX8 "<init>" 3 rm_x8_init none := ⟨B.exec, B.bytes, hml, hown, hts, hK, fun q h => Or.inr h, B.notSynchronized, rfl, B.returns, hmn, hNW, hSt⟩
  have hE : gz_E X := rfl
  have kW : gW X 3 gy_s8 gy_n8 ad gy_z8 0 0 4 [(0, .ref (ad (97, 0, 0))), (1, .int k), (2, .int p)] [] := by
    refine gz_aload_n (q := 0) hX dX8_init_4 rfl rfl ?_
    refine gz_iload_n (q := 1) hX dX8_init_5 rfl rfl ?_
    refine gn_putI (ci := 8) (ty := .int) hX in_F8 (gz_apart hX in_F8 tyF8 tyF8_ok nmF8 rfl) (by decide) rfl gy_s8_eq (by decide) 0 (by decide) q719 rfl rfl rfl (tyF8_ok 0 (by decide)) rfl rfl dX8_init_6 ?_
    refine gz_aload_n (q := 0) hX dX8_init_9 rfl rfl ?_
    refine gz_iload_n (q := 2) hX dX8_init_10 rfl rfl ?_
    refine gn_putI (ci := 8) (ty := .int) hX in_F8 (gz_apart hX in_F8 tyF8 tyF8_ok nmF8 rfl) (by decide) rfl gy_s8_eq (by decide) 1 (by decide) q721 rfl rfl rfl (tyF8_ok 1 (by decide)) rfl rfl dX8_init_11 ?_
    exact gz_vret hX hE ⟨rfl, rfl, rfl, rfl, rfl⟩ dX8_init_14
  refine lv_aload_n B.exec B.bytes dX8_init_0 rfl (lv_at hl 0 rfl) ?_
  intro T hT XS
  have htr2 : e.platform.stackTraces = false := (show e.platform.stackTraces = l.stackTraces by rw [XS.admits.platform]).trans htr
  obtain ⟨V, ce, L, X1, hL, hVW, hc1, hc2, hc3, st⟩ := gy_super XS B.exec htr2 hown (gy_ats_all hts hNW hSt) hT hfX hkX (by rw [hT]; exact hcell) (g := F0 m 1 _ [.ref (ad (97, 0, 0))]) rfl (by rw [hml]; exact hl.1) rfl (by rw [B.bytes]; exact dX8_init_1) (by decide) (Nat.le_of_ble_eq_true rfl)
  have hKc := hK.1 8 _ rfl
  have hcX : cX = D.1 8 := Option.some.inj (hfX.symm.trans hKc.2.1)
  have hborn := u_born (o := ad (97, 0, 0)) (H := s.heap) tyF8 hts in_F8 hKc (by rw [← hcX]; exact hkX) (by rw [← hcX]; exact hcell) tyF8_ok
  have hlt : ad (97, 0, 0) < V.heap.size := by rw [hVW, hT]; exact (Array.getElem?_eq_some_iff.mp hcell).1
  have hself : (V.setCell (ad (97, 0, 0)) ce).heap[ad (97, 0, 0)]? = some ce := heapAt_setCell_self (s := V) ce hlt
  have hoth : ∀ q, q ≠ ad (97, 0, 0) → (V.setCell (ad (97, 0, 0)) ce).heap[q]? = s.heap[q]? := fun q hq => by rw [heapAt_setCell_ne _ (Ne.symm hq), hVW, hT]
  have hw1 : gz_wd D aC (gz_A gy_s8 ad s.heap.size) gy_s8 gy_z8 gy_n8 ad (V.setCell (ad (97, 0, 0)) ce).heap := by
    refine hw.put (n := (97, 0, 0)) (gz_nn gy_s8_eq) (fun _ _ => rfl) (fun _ _ => rfl) hoth (fun f b h _ => by cases h) (fun t ht => ?_)
    cases gy_s8_eq.symm.trans ht
    unfold gz_at
    rw [if_pos (by decide)]
    refine ⟨_, rfl, ce, hself, by rw [hc1, hcX], hc2, fun j hj => ?_⟩
    obtain ⟨cf, kf, fi, fd, hi, hsl⟩ := hKc.1 j hj
    obtain ⟨cell0, g1, -, -, g4⟩ := hborn
    have e0 : cell0 = freshCell cX kX := Option.some.inj (g1.symm.trans hcell)
    have g5 := g4 j hj
    rw [e0] at g5
    rw [← hsl] at g5 ⊢
    have hj2 : (TF8 j).1 = RX8 ∧ ((TF8 j).2.1 = "kind" ∨ (TF8 j).2.1 = "place") ∧ (TF8 j).2.2.1 = "I" := by
      have : j = 0 ∨ j = 1 := by
        have hj : j < 2 := hj
        omega
      rcases this with rfl | rfl
      · exact ⟨rfl, Or.inl rfl, rfl⟩
      · exact ⟨rfl, Or.inr rfl, rfl⟩
    rw [hj2.1, hj2.2.2] at hi
    rw [hc3 _ hj2.2.1 cf kf fi fd hi]
    exact g5
  have hS1 : va_S (gz_A gy_s8 ad s.heap.size) s.heap (V.setCell (ad (97, 0, 0)) ce).heap L := by
    refine ⟨by rw [size_setCell, hVW, hT]; exact Nat.le_refl _, fun q h1 h2 => hoth q (fun e1 => h2 (Or.inl ⟨(97, 0, 0), gz_nn gy_s8_eq, by decide, e1.symm⟩)), fun q hq => ?_⟩
    rw [hL q hq]
    exact Or.inl ⟨(97, 0, 0), gz_nn gy_s8_eq, by decide, rfl⟩
  obtain ⟨t, a1, b1⟩ := kW _ L _ hw1 hS1 hl _ rfl X1
  exact ⟨t, st t a1, b1⟩
