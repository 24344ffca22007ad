/-! FAULT: its constructor's super(), by the library's own law of Throwable's constructor (launches without stack traces). The proof of gy_super follows vx_ctorMade0 of the starting text kit/laws/EXCEPTIONS, turned to an object of a class with fields of its own. -/
set_option maxRecDepth 100000
theorem in_F8 : ∀ w ∈ u_ws RX8 TF8 2, w ∈ lw_all := lw_in (u_ws RX8 TF8 2) [727, 729] (by decide +kernel) (by decide +kernel)
theorem tyF8_ok : ∀ k, k < 2 → parseFieldDescriptor (TF8 k).2.2.1 = some (tyF8 k) := by decide +kernel
theorem nmF8 : ∀ a, a < 2 → ∀ b, b < 2 → a ≠ b → (TF8 a).2.1 ≠ (TF8 b).2.1 := by decide +kernel
def gyExc : String := "java/lang/Exception"
/-- the words that it takes -/
def gy_ats : List Cond := Bundle.throwableAtoms ++ Bundle.chain0Atoms gyExc [] ++
  [.methodLink RX8 1 (Bundle.init0 gyExc), .instantiable RX8 8, .selects RX8 Bundle.tFill0 Bundle.tFill0, .selects RX8 Bundle.tFill Bundle.tFill,
   .lays RX8 Bundle.tN "cause" "Ljava/lang/Throwable;", .lays RX8 Bundle.tN "stackTrace" Bundle.steD, .lays RX8 Bundle.tN "suppressedExceptions" Bundle.listD,
   .isRef (.static Bundle.tN "UNASSIGNED_STACK" Bundle.steD), .isRef (.static Bundle.tN "SUPPRESSED_SENTINEL" Bundle.listD),
   .fieldLink Bundle.tN 198 Bundle.tN "backtrace" "Ljava/lang/Object;", .lays Bundle.tN Bundle.tN "backtrace" "Ljava/lang/Object;", .lays RX8 Bundle.tN "backtrace" "Ljava/lang/Object;", .laysFinal RX8 RX8 "kind" "I", .laysFinal RX8 RX8 "place" "I"]
def gy_bad (w : Cond) : Bool := decide (w = .isRef (.static Bundle.tN "UNASSIGNED_STACK" Bundle.steD)) || decide (w = .isRef (.static Bundle.tN "SUPPRESSED_SENTINEL" Bundle.listD)) || decide (w = .laysStatic Bundle.tN "UNASSIGNED_STACK" Bundle.steD) || decide (w = .laysStatic Bundle.tN "SUPPRESSED_SENTINEL" Bundle.listD) || decide (w = .declares (Bundle.init0 Bundle.tN))
theorem gy_ats_in : ∀ w ∈ gy_ats.filter (fun w => !gy_bad w), w ∈ lw_all := by
  intro w hw
  have h : (gy_ats.filter (fun w => !gy_bad w)).all (fun w => decide (w ∈ lw_all)) = true := by decide +kernel
  exact of_decide_eq_true (List.all_eq_true.mp h w hw)
section GYF
variable {p : Program} {l : Launch} {e : Env} {R : Room} {s : State} {m₀ : MethodId} {args : Array Value} {below : List Frame} {meth : Method} {c : Code} {W : State} {cells slots : Nat}
set_option maxHeartbeats 1000000 in
theorem gy_super (X : Stand p l e R s m₀ args below meth c W [] cells slots) (hexec : p.tables.exec = Jvm.exec) (htr : e.platform.stackTraces = false) (hown : s.vm.findClass RX8 = some m₀.cls) (h : ∀ a ∈ gy_ats, a.before args s = true) (hWs : W.heap = s.heap)
    {a : Addr} {cX : ClassId} {kX : Class} (hfoundX : s.vm.findClass RX8 = some cX) (hkX : s.vm.classes[cX]? = some kX) (hcell : W.heap[a]? = some (freshCell cX kX))
    {g : JFrame} (hg : g.method = m₀) (hsize : g.locals.size = c.maxLocals) {rest : List Value} (hstack : g.stack = .ref a :: rest)
    (hd6 : decode c.code g.pc = .ok (.invokespecial 1, 3))
    (hRframes : 3 < R.frames) (hRlocals : 2 * g.monitorRoom + (rest.map fun v => v.category).sum + (13 * (0 + 1) + 41) ≤ R.locals) :
    ∃ (V : State) (ce : Cell) (L : List Loc), Stand p l e R s m₀ args below meth c (V.setCell a ce) L cells slots ∧ (∀ y ∈ L, y.base = a) ∧ V.heap = W.heap ∧ ce.cls = cX ∧ ce.vm = .none ∧
      (∀ nm, (nm = "kind" ∨ nm = "place") → ∀ cf kf fi f, s.fieldFound? RX8 nm "I" = some (cf, kf, fi, f) → ce.slots[f.slot]? = (freshCell cX kX).slots[f.slot]?) ∧
      ∀ target, Steps p.tables e below ((V.setCell a ce).setTop { g with stack := rest, pc := g.pc + 3 }) target → Steps p.tables e below (W.setTop g) target := by
  have howns : e.platform.frameOwnsMonitors = true := by rw [X.admits.platform]
  have hfin : e.platform.finalization = false := by rw [X.admits.platform]
  have hpl : e.platform.magicAccessors = ({} : Platform).magicAccessors := by rw [X.admits.platform]
  have a' : ∀ x, x ∈ gy_ats → x.holds args s none s [] = true := fun x hx => h x hx
  obtain ⟨T, Z, L, LZ, Y⟩ := ThrowableC.of_atoms (args := args) howns hfin hpl (fun x hx => h x (by simp [gy_ats, hx]))
  obtain ⟨P1, Ps, hlen, L1, hL, hP1m, hlink1, hlink⟩ := Bundle.chain0 (args := args) hpl Y.init0 [] gyExc (by decide) (fun _ h => nomatch h) (fun x hx => h x (by simp [gy_ats, hx]))
  have hfound := hfoundX
  obtain ⟨c1, kX', hc1, hk, hord, -, -, hn6⟩ := Cond.instantiable_spec (a' (.instantiable RX8 8) (by simp [gy_ats]))
  cases Option.some.inj (hc1.symm.trans hfound)
  cases Option.some.inj (hkX.symm.trans hk)
  have hsel0 : selectMethod e.platform s.vm cX T.fill0 = .method T.fill0 := by
    obtain ⟨c2, r2, m2, q1, q2, q3, q4, -⟩ := Cond.selects_spec (a' (.selects RX8 Bundle.tFill0 Bundle.tFill0) (by simp [gy_ats]))
    cases Option.some.inj (q1.symm.trans hfound)
    cases Option.some.inj (q2.symm.trans (State.methodFound?_of_named Y.fill0 (by decide)))
    cases Option.some.inj (q3.symm.trans Y.fill0)
    rw [Launch.admits_selectMethod X.admits]; exact q4
  have hselF : selectMethod e.platform s.vm cX T.fill = .method T.fill := by
    obtain ⟨c2, r2, m2, q1, q2, q3, q4, -⟩ := Cond.selects_spec (a' (.selects RX8 Bundle.tFill Bundle.tFill) (by simp [gy_ats]))
    cases Option.some.inj (q1.symm.trans hfound)
    cases Option.some.inj (q2.symm.trans (State.methodFound?_of_named Y.fill (by decide)))
    cases Option.some.inj (q3.symm.trans Y.fill)
    rw [Launch.admits_selectMethod X.admits]; exact q4
  obtain ⟨cellS0, hcS0, hiss⟩ := Y.statics
  obtain ⟨u0, hu0⟩ := Cond.staticRefV Y.unassigned L.unassignedStatic L.statics hcS0 hiss (a' (.isRef (.static Bundle.tN "UNASSIGNED_STACK" Bundle.steD)) (by simp [gy_ats]))
  obtain ⟨sen, hsen⟩ := Cond.staticRefV Y.sentinel L.sentinelStatic L.statics hcS0 hiss (a' (.isRef (.static Bundle.tN "SUPPRESSED_SENTINEL" Bundle.listD)) (by simp [gy_ats]))
  obtain ⟨ci198, i198, fB, hk198, hg198, ha198, hsB, -, hnB, htB, hffB⟩ := Cond.ownField (t := .object "java/lang/Object") Y.found L.cls (by decide +kernel) (a' (.fieldLink Bundle.tN 198 Bundle.tN "backtrace" "Ljava/lang/Object;") (by simp [gy_ats])) (a' (.lays Bundle.tN Bundle.tN "backtrace" "Ljava/lang/Object;") (by simp [gy_ats])) e.platform hpl
  have hcellS : W.heap[T.aS]? = some cellS0 := by rw [hWs]; exact hcS0
  have hknownS : cellS0.vm ≠ .unknown := by
    intro hu
    rw [hu] at hiss
    cases hiss
  have hneS : T.aS ≠ a := fun e1 => by
    rw [e1, hcell] at hcellS
    cases hcellS
    cases hiss
  obtain ⟨tyC, dC, hdC, hdnC⟩ := Cond.laysAt hfound hk Y.cause (a' (.lays RX8 Bundle.tN "cause" "Ljava/lang/Throwable;") (by simp [gy_ats]))
  obtain ⟨tyS, dS, hdS, hdnS⟩ := Cond.laysAt hfound hk Y.stack (a' (.lays RX8 Bundle.tN "stackTrace" Bundle.steD) (by simp [gy_ats]))
  obtain ⟨tyP, dP, hdP, hdnP⟩ := Cond.laysAt hfound hk Y.supp (a' (.lays RX8 Bundle.tN "suppressedExceptions" Bundle.listD) (by simp [gy_ats]))
  obtain ⟨tyB, dB, hdB, hdnB⟩ := Cond.laysAt hfound hk hffB (a' (.lays RX8 Bundle.tN "backtrace" "Ljava/lang/Object;") (by simp [gy_ats]))
  have bC := Cond.laysApart hdB hdC hdnB hdnC (by rw [hnB, Y.causeName]; decide)
  have bS := Cond.laysApart hdB hdS hdnB hdnS (by rw [hnB, Y.stackName]; decide)
  have bP := Cond.laysApart hdB hdP hdnB hdnP (by rw [hnB, Y.suppName]; decide)
  have hskip : SkipFacts T e.platform s (fun u => u) u0 ((preparedCellV T.toThrowableT (freshCell cX kX) a u0 sen).withEntry W.cur) :=
    ⟨{ ci198 := ci198, i198 := i198, fBack := fB }, ⟨hk198, hg198, ha198, hsB⟩, by
      have := fresh_default (c := cX) tyB
      rw [htB] at this
      simpa [preparedCellV, Cell.setSlot, Cell.withEntry, Array.getElem?_setIfInBounds, bC, bS, bP, bC.symm, bS.symm, bP.symm, defaultValue] using this, fun _ _ => rfl⟩
  obtain ⟨tm, methC, cdC, kC, vm₁, hnC, -, -, -, -, -, -, -, hW₁, st1⟩ := Steps.initCold (tb := p.tables) (e := e) (below := below) (s := s) (U := W) X.here hexec X.warmed hpl hown (t := Bundle.init0 gyExc) rfl rfl (Bundle.fit_spec (n := gyExc) (by decide)).2
    (a' (.methodLink RX8 1 (Bundle.init0 gyExc)) (by simp [gy_ats])) (h (.instanceMethod (Bundle.init0 gyExc)) (by simp [gy_ats, Bundle.chain0Atoms, Bundle.passAtoms])) (bytes := Bundle.five) (maxL := 1) (h (.code (Bundle.init0 gyExc) Bundle.five 1 none) (by simp [gy_ats, Bundle.chain0Atoms, Bundle.passAtoms]))
    (f := g) hg (a := a) (rest := rest) hstack hd6
  cases Option.some.inj (hnC.symm.trans hP1m)
  have X₁ := X.noted hW₁
  obtain ⟨vm₂, X₂, st2⟩ := X₁.ctorPlainOffV hexec (g := { g with stack := rest }) hg hsize T L Z LZ (P1 :: Ps)
    (fun P hP => by rcases List.mem_cons.mp hP with rfl | hP; exact L1; exact hL P hP) ⟨hlink1, hlink⟩ (u0 := u0) (sen := sen) (self := a) (cell := freshCell cX kX) (cellS := cellS0)
    hcell (fun _ => by simp) (by simp) rfl rfl hsel0 hselF hcellS hneS hknownS hu0 hsen
    (Takes.of_laid hk hord tyC (by rw [Y.causeType]; rfl)) (Takes.of_laid hk hord tyS (by rw [Y.stackType]; exact fits_refV_array _ u0)) (Takes.of_laid hk hord tyP (by rw [Y.suppType]; exact fits_refV_object _ sen)) Y.objLocals hskip htr [] hd6
    (by simp only [List.length_cons, hlen]; exact hRframes) (by simp only [List.length_cons, hlen]; exact hRlocals)
  refine ⟨(W.setVm vm₁).setVm vm₂, _, _, X₂, fun y hy => ?_, rfl, rfl, rfl, fun nm hnm cf kf fi f hf => ?_, fun target hwalk => st1 _ (fun acts => ?_)⟩
  · simp only [List.nil_append, List.mem_cons, List.not_mem_nil, or_false] at hy
    rcases hy with rfl | rfl | rfl | rfl <;> rfl
  · have hlf : (Cond.laysFinal RX8 RX8 nm "I").before args s = true := by
      rcases hnm with rfl | rfl
      · exact h _ (by simp [gy_ats])
      · exact h _ (by simp [gy_ats])
    have hname : f.name = nm := (State.fieldFound?_type hf (show parseFieldDescriptor "I" = some .int by decide)).1
    have nC : f.slot ≠ T.fCause.slot := u_apart (Or.inr hlf) (Or.inl (h (.lays RX8 Bundle.tN "cause" "Ljava/lang/Throwable;") (by simp [gy_ats]))) hf Y.cause (by rw [hname, Y.causeName]; rcases hnm with rfl | rfl <;> decide)
    have nS : f.slot ≠ T.fStack.slot := u_apart (Or.inr hlf) (Or.inl (h (.lays RX8 Bundle.tN "stackTrace" Bundle.steD) (by simp [gy_ats]))) hf Y.stack (by rw [hname, Y.stackName]; rcases hnm with rfl | rfl <;> decide)
    have nP : f.slot ≠ T.fSupp.slot := u_apart (Or.inr hlf) (Or.inl (h (.lays RX8 Bundle.tN "suppressedExceptions" Bundle.listD) (by simp [gy_ats]))) hf Y.supp (by rw [hname, Y.suppName]; rcases hnm with rfl | rfl <;> decide)
    simp [preparedCellV, Cell.setSlot, Array.getElem?_setIfInBounds, nC, nS, nP, nC.symm, nS.symm, nP.symm]
  · rw [doInvoke_state]
    exact st2 _ hwalk
end GYF
