/-! A GRID (multianewarray with two lengths): the model's steps, with the kit's Stand carried along -/
set_option maxRecDepth 100000
section GZG
variable {p : Program} {l : Launch} {e : Env} {R : Room} {s : State} {m : MethodId} {args : Array Value} {below : List Frame} {meth : Method} {c : Code} {locs : List Loc} {cells slots : Nat}
/-- one array, from the model's own steps -/
theorem gg_one {E : CtlPost} {d : Bool} {acts : List Action} {T : State} {g : JFrame} (X : Stand p l e R s m args below meth c T locs cells slots) {cA cB : ClassId} {k : Class} {ty : FieldType} {N : Nat} {x : Value} (hk : T.vm.classes[cA]? = some k) (hkind : k.kind = .array cB ty) (hN : N ≤ 134217728) (hbytes : N * componentBytes ty ≤ 536870912) (hfit : fits ty x = true) (hdef : x.isDefault = true) (h1 : cells + 1 ≤ R.cells) (h2 : slots + N ≤ R.slots) {Q : Addr → Pre}
    (hq : Stand p l e R s m args below meth c (T.pushCell (arrV cA N (fun _ => x))) locs (cells + 1) (slots + N) → Q T.heap.size d acts ((T.pushCell (arrV cA N (fun _ => x))).setTop g)) : wp (Jvm.newArray cA N x) Q E e d acts (T.setTop g) := by
  have X1 := X.pushed (arrV cA N (fun _ => x))
  rw [arrV_size] at X1
  have hq := hq X1
  obtain ⟨r1, r2⟩ := X.roomAbove h1 h2
  have b1 : ¬ N > e.platform.arrayLengthLimit := by rw [Launch.admits_arrayLengthLimit X.admits]; omega
  have b2 : ¬ N * componentBytes ty > e.platform.maxHeapBytes := by rw [Launch.admits_maxHeapBytes X.admits]; omega
  have hd : allocActs (Array.replicate N x) T.heap.size acts = acts := by
    unfold allocActs
    rw [if_pos]
    rw [Array.all_replicate]
    split <;> simp [hdef]
  have hfits : ∀ i v, (Array.replicate N x)[i]? = some v → (T.setTop g).fitsSlot cA .none i v = true := by
    intro i v hv
    rw [Array.getElem?_replicate] at hv
    split at hv
    · cases hv
      simp [State.fitsSlot, State.slotType?, hk, hkind, hfit]
    · cases hv
  simp only [Jvm.newArray, Jvm.arrayFits, wp_bind', W.ask, W.ite, b1, if_false, wp_pure', W.theClass, State.vm_setTop, hk, hkind, b2, W.alloc, W.stop, Option.some.injEq, exists_eq_left', Array.size_replicate, State.heap_setTop, hd]
  rw [if_neg (by omega)]
  refine ⟨by omega, r2, hfits, ?_⟩
  rw [arrV_new, State.pushCell_setTop]
  exact hq
/-- how far the grid is made: U's top is g; the outer array and i rows are there -/
def gg_I (p : Program) (l : Launch) (e : Env) (R : Room) (s : State) (m : MethodId) (args : Array Value) (below : List Frame) (meth : Method) (c : Code) (locs : List Loc) (cells slots : Nat) (T : State) (g : JFrame) (cA cB : ClassId) (N M : Nat) (x : Value) (i : Nat) (U : State) : Prop :=
  ∃ (Y : State) (L : List Loc), U = Y.setTop g ∧ Stand p l e R s m args below meth c Y L (cells + 1 + i) (slots + N + i * M) ∧ (∀ q ∈ L, q ∈ locs ∨ q.base = T.heap.size) ∧ Y.vm = T.vm ∧ Y.heap.size = T.heap.size + 1 + i ∧ (∀ q, q < T.heap.size → Y.heap[q]? = T.heap[q]?) ∧ Y.heap[T.heap.size]? = some (arrV cA N (fun j => if j < i then .ref (T.heap.size + 1 + j) else .null)) ∧ ∀ j, j < i → Y.heap[T.heap.size + 1 + j]? = some (arrV cB M (fun _ => x))
theorem gg_next {T Y : State} {L : List Loc} {cA cB : ClassId} {N M i : Nat} {x : Value} {g : JFrame} (X : Stand p l e R s m args below meth c Y L (cells + 1 + i) (slots + N + i * M)) (hi : i < N) (hL : ∀ q ∈ L, q ∈ locs ∨ q.base = T.heap.size) (hv : Y.vm = T.vm) (hz : Y.heap.size = T.heap.size + 1 + i) (ho : ∀ q, q < T.heap.size → Y.heap[q]? = T.heap[q]?) (ha : Y.heap[T.heap.size]? = some (arrV cA N (fun j => if j < i then .ref (T.heap.size + 1 + j) else .null))) (hr : ∀ j, j < i → Y.heap[T.heap.size + 1 + j]? = some (arrV cB M (fun _ => x)))
    (X1 : Stand p l e R s m args below meth c (Y.pushCell (arrV cB M (fun _ => x))) L (cells + 1 + i + 1) (slots + N + i * M + M)) : gg_I p l e R s m args below meth c locs cells slots T g cA cB N M x (i + 1) (((Y.pushCell (arrV cB M (fun _ => x))).setCell T.heap.size ((arrV cA N (fun j => if j < i then .ref (T.heap.size + 1 + j) else .null)).setSlot i (.ref Y.heap.size))).setTop g) := by
  have hlt : T.heap.size < Y.heap.size := by omega
  have ha1 : (Y.pushCell (arrV cB M (fun _ => x))).heap[T.heap.size]? = some (arrV cA N (fun j => if j < i then .ref (T.heap.size + 1 + j) else .null)) := by rw [State.heap_pushCell_of_lt (h := hlt)]; exact ha
  have X2 := X1.stored ha1 i (.ref Y.heap.size)
  refine ⟨_, L ++ [⟨T.heap.size, i⟩], rfl, ?_, ?_, ?_, ?_, ?_, ?_, ?_⟩
  · have e3 : slots + N + (i + 1) * M = slots + N + i * M + M := by rw [Nat.succ_mul]; omega
    rw [e3]
    exact X2
  · intro q hq
    rcases List.mem_append.mp hq with h | h
    · exact hL q h
    · rw [List.mem_singleton.mp h]
      exact Or.inr rfl
  · simpa using hv
  · simp [State.setCell, hz]
    omega
  · intro q hq
    rw [State.heap_setCell_other (Nat.ne_of_gt hq), State.heap_pushCell_of_lt (h := Nat.lt_trans hq hlt)]
    exact ho q hq
  · rw [State.heap_setCell_self ha1, arrV_store]
    congr 2
    funext j
    unfold updV
    by_cases h : j = i
    · rw [if_pos h, if_pos (by omega), h, hz]
    · rw [if_neg h]
      show (if j < i then _ else _) = _
      by_cases h2 : j < i
      · rw [if_pos h2, if_pos (by omega)]
      · rw [if_neg h2, if_neg (by omega)]
  · intro j hj
    rw [State.heap_setCell_other (show T.heap.size ≠ T.heap.size + 1 + j by omega)]
    by_cases h : j = i
    · rw [h, ← hz]
      exact State.heap_pushCell_size _ _
    · rw [State.heap_pushCell_of_lt (h := show T.heap.size + 1 + j < Y.heap.size by omega)]
      exact hr j (by omega)
theorem gg_make {E : CtlPost} {d : Bool} {acts : List Action} {T : State} {g : JFrame} (X : Stand p l e R s m args below meth c T locs cells slots) {cA cB cC : ClassId} {kA kB : Class} {ty : FieldType} {n k : Int32} {N M : Nat} (hN : n.toNatClampNeg = N) (hM : k.toNatClampNeg = M) (hkA : T.vm.classes[cA]? = some kA) (hkindA : kA.kind = .array cB (.array ty)) (hkB : T.vm.classes[cB]? = some kB) (hkindB : kB.kind = .array cC ty) (hn : ¬ n < 0) (hk : ¬ k < 0) (hN1 : N ≤ 134217728) (hM1 : M ≤ 134217728) (hM2 : M * componentBytes ty ≤ 536870912) (hfit : fits ty (defaultValue ty) = true) (hdef : (defaultValue ty).isDefault = true) (h1 : cells + (1 + N) ≤ R.cells) (h2 : slots + (N + N * M) ≤ R.slots) {Q : Addr → Pre}
    (hq : ∀ d' acts' U, gg_I p l e R s m args below meth c locs cells slots T g cA cB N M (defaultValue ty) N U → Q T.heap.size d' acts' U) : wp (multianewarray.make cA [n, k]) Q E e d acts (T.setTop g) := by
  subst hN
  subst hM
  have hfind : ([k].find? (· < 0)) = none := by simp [hk]
  rw [multianewarray.make]
  simp only [wp_bind', W.ite, hn, if_false, wp_pure', W.theClass, State.vm_setTop, hkA, hkindA, Option.some.injEq, exists_eq_left']
  refine gg_one (ty := .array ty) X hkA hkindA hN1 (by show _ * 4 ≤ _; omega) rfl rfl (by omega) (by have := Nat.zero_le (n.toNatClampNeg * k.toNatClampNeg); omega) (fun X0 => ?_)
  simp only [hfind]
  rw [ite_self, wp_bind', Std.Legacy.Range.forIn_eq_forIn_range']
  have hsz : ([:n.toNatClampNeg] : Std.Legacy.Range).size = n.toNatClampNeg := by simp [Std.Legacy.Range.size]
  rw [hsz]
  show wp (forIn (List.range' 0 n.toNatClampNeg 1) PUnit.unit _) _ E e d acts _
  refine wp_forIn_inv (fun rest U => ∃ i, i + rest.length = n.toNatClampNeg ∧ rest = List.range' i rest.length ∧ gg_I p l e R s m args below meth c locs cells slots T g cA cB n.toNatClampNeg k.toNatClampNeg (defaultValue ty) i U) _ _ ⟨0, by simp, by simp, ?_⟩ ?_ ?_
  · refine ⟨_, locs, rfl, by simpa using X0, fun q hq => Or.inl hq, by simp, by simp, fun q hq => State.heap_pushCell_of_lt _ _ hq, ?_, fun j hj => absurd hj (Nat.not_lt_zero _)⟩
    rw [State.heap_pushCell_size]
    simp
  · rintro y rest U d1 a1 Q1 ⟨i, hlen, hrest, Y, L, rfl, XY, hL, hv, hz, ho, ha, hr⟩ hnext
    rw [List.length_cons, List.range'_succ] at hrest
    obtain ⟨rfl, hrest⟩ := List.cons.inj hrest
    rw [List.length_cons] at hlen
    have hi : y < n.toNatClampNeg := by omega
    have hmul : y * k.toNatClampNeg + k.toNatClampNeg ≤ n.toNatClampNeg * k.toNatClampNeg := by
      have := Nat.mul_le_mul_right k.toNatClampNeg (show y + 1 ≤ n.toNatClampNeg from hi)
      rw [Nat.succ_mul] at this
      exact this
    simp only [wp_bind']
    rw [multianewarray.make]
    simp only [wp_bind', W.ite, hk, if_false, wp_pure', W.theClass, State.vm_setTop, hv, hkB, hkindB, Option.some.injEq, exists_eq_left']
    refine gg_one XY (by rw [hv]; exact hkB) hkindB hM1 hM2 hfit hdef (by omega) (by omega) (fun X1 => ?_)
    simp only [wp_bind', W.writeLoc, wp_pure']
    refine ⟨_, by rw [State.heap_setTop, State.heap_pushCell_of_lt (h := (show T.heap.size < Y.heap.size by omega))]; exact ha, by simp [arrV], by rw [arrV_size]; exact hi, ?_, hnext _ _ _ ⟨y + 1, by omega, hrest, ?_⟩⟩
    · simp [State.fitsSlot, State.slotType?, arrV, hv, hkA, hkindA, fits]
    · rw [State.setCell_setTop]
      exact gg_next XY hi hL hv hz ho ha hr X1
  · rintro U d1 a1 ⟨i, hlen, -, hI⟩
    have hi : i = n.toNatClampNeg := by simpa using hlen
    subst hi
    simp only [wp_pure']
    exact hq _ _ _ hI
/-- one instruction, where the end is found behind it -/
theorem gg_ex {tb : Tables} [Ours tb] {T : State} {f : JFrame} {i : Instr} {len : Nat} {Q : State → Prop} (h : At T f.method c below) (hd : decode c.code f.pc = .ok (i, len)) (hw : wpRun (tb.exec i) (fun _ s1 _ => ∀ acts, ∃ t, Steps tb e below (afterInstr e len (.ok () s1 acts)).1 t ∧ Q t) (fun _ _ _ => False) e (T.setTop f)) : ∃ t, Steps tb e below (T.setTop f) t ∧ Q t := by
  have e0 := stepThread_java (tb := tb) (e := e) (State.frames_setTop' f h.top) h.plain h.code hd
  have hg : (T.setTop f).goesOn := ⟨h.running, by rw [State.curStatus?_setTop]; exact h.runnable, by rw [State.alone_setTop]; exact h.alone⟩
  have hw := (wpRun_iff_run _ _ _ _ _).mp hw
  cases hr : (tb.exec i).run e (T.setTop f) with
  | ok a s1 acts =>
    rw [hr] at hw e0
    obtain ⟨t, a1, b1⟩ := hw acts
    exact ⟨t, Steps.head hg (h.within f) (by rw [e0]; exact a1), b1⟩
  | ctl x s1 acts =>
    rw [hr] at hw
    cases x <;> exact hw.elim
/-- the row: a grid of ints -/
theorem gg_W {H : Heap} {Q : State → Prop} {cc : ByteArray} (hexec : p.tables.exec = Jvm.exec) (hb : c.code = cc) {own : String} {index : Nat} {ty : FieldType} (hown : s.vm.findClass own = some m.cls) (hclink : (Cond.classLink own index ("[" ++ (FieldType.array ty).toString)).before args s = true) (hover : (Cond.arrayOver (.array ty)).before args s = true) (harr : (Cond.arrayClass ty).before args s = true) {pc : Nat} {ls : Array Slot} {rest : List Value} {n k : Int32} {N M : Nat} (hdg : decode cc pc = .ok (.multianewarray index 2, 4)) (hN : n.toNatClampNeg = N) (hM : k.toNatClampNeg = M) (hn : ¬ n < 0) (hk : ¬ k < 0) (hN1 : N ≤ 134217728) (hM1 : M ≤ 134217728) (hM2 : M * componentBytes ty ≤ 536870912) (hfit : fits ty (defaultValue ty) = true) (hdef : (defaultValue ty).isDefault = true) (h1 : cells + (1 + N) ≤ R.cells) (h2 : slots + (N + N * M) ≤ R.slots)
    (kk : ∀ (H1 : Heap) (L : List Loc) (cA cB : ClassId), s.vm.findClass ("[" ++ (FieldType.array ty).toString) = some cA → s.vm.findClass (FieldType.array ty).toString = some cB → H1.size = H.size + 1 + N → (∀ q, q < H.size → H1[q]? = H[q]?) → H1[H.size]? = some (arrV cA N (fun j => .ref (H.size + 1 + j))) → (∀ j, j < N → H1[H.size + 1 + j]? = some (arrV cB M (fun _ => defaultValue ty))) → (∀ q ∈ L, q ∈ locs ∨ q.base = H.size) →
      W p l e R s m args below meth c H1 L (cells + 1 + N) (slots + N + N * M) Q (F0 m (pc + 4) ls (.ref H.size :: rest))) : W p l e R s m args below meth c H locs cells slots Q (F0 m pc ls (.int k :: .int n :: rest)) := by
  intro T hT X
  subst hT
  subst hb
  have hpl : e.platform.magicAccessors = ({} : Platform).magicAccessors := by rw [X.admits.platform]
  obtain ⟨cB, cA, kA, hcB, -, hkA, hkindA, hnA⟩ := arrayOverA_spec hover
  obtain ⟨cB2, kB, cC, hcB2, hkB, hkindB⟩ := Cond.arrayClass_spec harr
  cases Option.some.inj (hcB2.symm.trans hcB)
  obtain ⟨c0, hc0, hcl⟩ := Cond.classLink_spec hown hclink e.platform hpl
  cases hnA.symm.trans hc0
  obtain ⟨hg1, hw1, hr1⟩ := State.classEntry (e := e) X.warmed hcl
  have hm0 : (F0 m pc ls (.int k :: .int n :: rest)).method = m := rfl
  generalize T.vm.noted m.cls index (.cls cA) = vm1 at hg1 hw1 hr1
  obtain ⟨kA1, hkA1, heA⟩ := hw1.alike.2.2 _ _ hkA
  obtain ⟨kB1, hkB1, heB⟩ := hw1.alike.2.2 _ _ hkB
  have hkiA : kA1.kind = .array cB (.array ty) := by rw [heA]; exact hkindA
  have hkiB : kB1.kind = .array cC ty := by rw [heB]; exact hkindB
  have X1 := X.noted hw1
  generalize hG : F0 m pc ls (.int k :: .int n :: rest) = g
  have hgm : g.method = m := by rw [← hG]
  have hgs : g.stack = .int k :: .int n :: rest := by rw [← hG]
  have hgp : g.pc = pc := by rw [← hG]
  have hdg1 : decode c.code g.pc = .ok (.multianewarray index 2, 4) := by rw [hgp]; exact hdg
  refine gg_ex (i := .multianewarray index 2) (len := 4) (by rw [hgm]; exact X.here) hdg1 ?_
  rw [hexec]
  simp [jvm, wpRun, exec, X.here.top]
  simp only [multianewarray.sem, wp_bind', W.resolveClassAt_links (State.method?_setTop g X.here.top) (by rw [hgm]; exact hg1)]
  rw [W.popN, if_neg (by decide)]
  refine ⟨g, State.topJava?_setTop' (s := T.setVm vm1) g X.here.top, [.int n, .int k], rest, rfl, hgs, ?_⟩
  simp only [List.mapM_cons, List.mapM_nil, wp_bind', wp_pure']
  have eS : ((T.setTop g).setVm vm1).setTop { g with stack := rest } = (T.setVm vm1).setTop { g with stack := rest } := by
    show ((T.setVm vm1).setTop g).setTop _ = _
    rw [State.setTop_setTop]
  rw [eS]
  refine gg_make X1 hN hM hkA1 hkiA hkB1 hkiB hn hk hN1 hM1 hM2 hfit hdef h1 h2 (fun d1 a1 U hU => ?_)
  obtain ⟨Y, L, rfl, XY, hL, hv, hz, ho, ha, hr⟩ := hU
  have hka : Y.heap[T.heap.size]? = some (arrV cA N (fun j => .ref (T.heap.size + 1 + j))) := by
    refine Eq.trans ha ?_
    congr 1
    unfold arrV
    congr 2
    funext j
    exact if_pos j.isLt
  obtain ⟨t, b1, b2⟩ := kk Y.heap L cA cB hnA hcB hz ho hka hr hL Y rfl XY
  simp only [wp_bind', W.mark, W.pushRef, State.topJava?_setTop' _ XY.here.top, Option.some.injEq, exists_eq_left', State.setTop_setTop, State.heap_setTop]
  intro acts
  simp [jvm, XY.here.top]
  rw [← hG]
  exact ⟨t, b1, b2⟩
end GZG
