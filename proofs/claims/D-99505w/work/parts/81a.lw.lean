/-! THE LAW: two worlds, x's and m's. (The rows lx_ of methods with handlers: a starting text, kit/laws/EXCEPTIONS; R_law .. lw_At: of kit/laws/SKELETON.whole.) Printed by wip/D-99505w/gen/mklaw.py -/
set_option maxRecDepth 100000
def R_law : String := "ClaspedFairLaw"
def lw_P (b : Addr) (xs : List Int32) (args : Array Value) (s : State) : Prop := args = #[.ref b] ∧ s.IntsAt b xs ∧ xs.length ≤ 384 ∧ (Jvm.Cond.and given_1 narrow_1).before args s = true
def lw_Q (_ : Array Value) (s : State) (o : Outcome) (t : State) : Prop := o = .returned (some (.int 1)) ∧ Framed s o t [] 601024 7293034
def lw_Z (below : List Frame) (a : Array Value) (s : State) : State → Prop := fun t => ∃ o, t.status = .running ∧ Ended t below o ∧ lw_Q a s o t
/-- the law's own end, with 1 on the stack, nothing written that was there before, its room as the claim has it -/
theorem lw_ret {p : Program} {l : Launch} {e : Env} {s : State} {m : MethodId} {below : List Frame} {meth : Method} {c : Code} {b : Nat} (hx : p.tables.exec = Jvm.exec) (hb : c.code = code) (hr : meth.sig.returnType = ret) (hlocks : meth.locks = false) {pc : Nat} {H : Heap} {ls : Array Slot} (hdg : decode code pc = .ok (.ireturn, 1)) : W p l e room_1 s m #[Value.ref b] below meth c H [] 601024 7293034 (lw_Z below #[Value.ref b] s) (F0 m pc ls [.int 1]) := by
  intro T hT X
  obtain ⟨fs, hret, hrun, hended, hW, hframe⟩ := X.leave (v := some (.int 1)) (hlocks := hlocks) (fun h => by rw [hr] at h; cases h)
  have hmeth' : T.vm.method? m = some meth := X.method'
  refine ⟨T.setFrames fs, ?_, .returned (some (.int 1)), hrun, hended, rfl, ⟨_, rfl⟩, hW, hframe⟩
  jvm_step X.here [X.here.top, hx, hb, hdg, hmeth', hr, ret, narrow_b1]
  (try refine ⟨rfl, ?_⟩); (try refine ⟨rfl, ?_⟩)
  first | (intro acts; rw [hret _ acts rfl rfl rfl]) | rw [hret _ _ rfl rfl rfl]
  exact Steps.refl _
/-- what holds at the law's entry: the machine, the code, the tables' words (any of lw_tbl by 'hts w (by decide +kernel)'), the script of L ints xs at the cell b, what the Statement gives of the start (any of its parts by flat_of_before) -/
def lw_At (p : Program) (s : State) (m : MethodId) (meth : Method) (c : Code) (b L : Nat) (xs : Nat → Int32) : Prop :=
  p.tables.exec = Jvm.exec ∧ c.code = code ∧ meth.sig.returnType = ret ∧ c.maxLocals = 4 ∧ s.vm.findClass R_law = some m.cls ∧ (∀ w ∈ lw_tbl, w.before #[Value.ref b] s = true) ∧ va_X b L xs s s.heap ∧ b < s.heap.size ∧ meth.locks = false ∧ (Jvm.Cond.and given_1 narrow_1).before #[Value.ref b] s = true
section LXW
variable {p : Program} {l : Launch} {e : Env} {R : Room} {s : State} {m : MethodId} {args : Array Value} {below : List Frame} {meth : Method} {c : Code} {H : Heap} {locs : List Loc} {cells slots : Nat} {Q : State → Prop} {T : State}
theorem lx_callVW (X : Stand p l e R s m args below meth c T locs cells slots) (hexec : p.tables.exec = Jvm.exec) {own C : String} {index : Nat} {y : MethodName} {bytes : ByteArray} {maxL : Nat} {ret : Option FieldType} {hh : List (Nat × Nat × Nat × Nat)}
    (hown : s.vm.findClass own = some m.cls) (hlink : (Cond.methodLink own index y).before args s = true) (hinst : (Cond.instanceMethod y).before args s = true) (hsel : (Cond.selects C y y).before args s = true)
    (hcode : (Cond.codeWith y bytes maxL ret hh).before args s = true) (hy : y.cls ≠ "java/lang/invoke/MethodHandle" ∧ y.cls ≠ "java/lang/invoke/VarHandle")
    {W9 : Nat} {Pre : Pt → Array Value → Prop} {Post : Pt → Array Value → Option Value → Pt → Prop} (hK : Back l R p e below s args y 3 W9 Pre Post)
    {b : Addr} {cellB : Cell} (hcell : T.heap[b]? = some cellB) (hobj : cellB.vm.isStatics = false) (hcls : s.vm.findClass C = some cellB.cls)
    {g : JFrame} (hg : g.method = m) (hsize : g.locals.size = c.maxLocals) {argsL rest : List Value} (hlen : ∀ sig, parseMethodDescriptor y.desc = some sig → argsL.length = sig.parameters.length)
    (hstack : g.stack = argsL.reverse ++ .ref b :: rest) (hW : 2 * g.monitorRoom + (rest.map fun v => v.category).sum ≤ W9) (hdg : decode c.code g.pc = .ok (.invokevirtual index, 3))
    (hpre : ∀ vm₁, s.WarmedH vm₁ → Pre ⟨T.setVm vm₁, locs, cells, slots⟩ (Value.ref b :: argsL).toArray) :
    ∃ (v : Option Value) (vm₁ : Vm) (B : Pt), s.WarmedH vm₁ ∧ Stand p l e R s m args below meth c B.U B.locs B.cells B.slots ∧ Post ⟨T.setVm vm₁, locs, cells, slots⟩ (Value.ref b :: argsL).toArray v B ∧
      ∀ target, Steps p.tables e below (B.U.setTop { g with pc := g.pc + 3, stack := v.toList ++ rest }) target → Steps p.tables e below (T.setTop g) target := by
  obtain ⟨mk, methM, hnamed, hmethM, hstM, habM⟩ := Cond.instanceMethod_spec hinst
  obtain ⟨m8, methM', cM, hn8, hmethM', -, -, -, -, -, -, hsigM⟩ := Cond.codeWith_spec hcode
  cases Option.some.inj (hn8.symm.trans hnamed)
  cases hmethM.symm.trans hmethM'
  obtain ⟨c2, r2, m2, q1, q2, q3, q4, kP, hkP, hkPi⟩ := Cond.selects_spec hsel
  cases hcls.symm.trans q1
  cases (State.methodFound?_of_named hnamed hy).symm.trans q2
  cases hnamed.symm.trans q3
  have hselP : selectMethod e.platform s.vm cellB.cls mk = .method mk := by rw [Launch.admits_selectMethod X.admits]; exact q4
  obtain ⟨vm₁, X₁, hstep₁⟩ := X.invokevirtual hexec hown hlink hnamed hmethM hstM hkP hkPi hy (a := b) (cell := cellB) hcell
    (fun z h => by rw [h] at hobj; cases hobj) hselP hmethM habM hkP hkPi (g := g) hg (argsL := argsL) (rest := rest) (hlen _ hsigM) hstack hdg
  obtain ⟨v, B, X', hpost, hsteps⟩ := hK m meth c ⟨T.setVm vm₁, locs, cells, slots⟩ { g with stack := rest } (.invokevirtual index) mk (Value.ref b :: argsL).toArray X₁ hg hsize hdg hW (X₁.named hnamed) (hpre vm₁ X₁.warmed)
  exact ⟨v, vm₁, B, X₁.warmed, X', hpost, fun target h => hstep₁ _ fun acts => by rw [doInvoke_state]; exact hsteps.trans h⟩
abbrev lx_CVW (R : Room) (s : State) (args : Array Value) (own C : String) (index : Nat) (y : MethodName) (bytes : ByteArray) (maxL : Nat) (ret : Option FieldType) (hh : List (Nat × Nat × Nat × Nat)) (ws : List Cond) (rm : Room) (mc ms n : Nat) : Prop :=
  (rm.cells = mc ∧ rm.slots = ms ∧ rm.frames + 1 ≤ R.frames ∧ 8 + (maxL + 11) + rm.locals ≤ R.locals ∧ (∀ w ∈ ws, ∀ (a' : Array Value) (U : State), s.WarmedH U.vm → w.before a' U = true) ∧ Cond.codeWith y bytes maxL ret hh ∈ ws) ∧
  (Cond.codeWith y bytes maxL ret hh).before args s = true ∧ (Cond.initialized y.cls).before args s = true ∧ (y.cls ≠ "java/lang/invoke/MethodHandle" ∧ y.cls ≠ "java/lang/invoke/VarHandle") ∧
  (∀ sig, parseMethodDescriptor y.desc = some sig → n = sig.parameters.length) ∧ (Cond.methodLink own index y).before args s = true ∧ (Cond.instanceMethod y).before args s = true ∧ (Cond.selects C y y).before args s = true
theorem lx_cwVW {own C : String} {index maxL mc ms : Nat} {y : MethodName} {bytes : ByteArray} {ret : Option FieldType} {hh : List (Nat × Nat × Nat × Nat)} {Ts ws ws' : List Cond} {rm : Room} (n : Nat) (ht : ∀ w ∈ Ts, w.before args s = true) (hT : GoodIn Ts (wsV own index C y ws)) (hw : ws = Cond.codeWith y bytes maxL ret hh :: ws') (hrc : rm.cells = mc) (hrs : rm.slots = ms)
    (hd : y.cls = C ∧ y.cls ≠ "java/lang/invoke/MethodHandle" ∧ y.cls ≠ "java/lang/invoke/VarHandle" ∧ (parseMethodDescriptor y.desc).map (fun d => d.parameters.length) = some n) (hR : rm.frames + 1 ≤ R.frames ∧ 8 + (maxL + 11) + rm.locals ≤ R.locals) :
    lx_CVW R s args own C index y bytes maxL ret hh ws rm mc ms n := by
  obtain ⟨hC, hd⟩ := hd
  subst hC
  have ok : ∀ w ∈ wsV own index y.cls y ws, w.before args s = true := fun w h => ht w (hT w h).1
  have hG : GoodIn Ts ws := fun w h => hT w (by unfold wsV; exact List.mem_append_right _ h)
  have hc : Cond.codeWith y bytes maxL ret hh ∈ ws := by rw [hw]; exact List.mem_cons_self
  refine ⟨⟨hrc, hrs, hR.1, hR.2, pay_in ht hG, hc⟩, ht _ (hG _ hc).1, ok _ (by simp [wsV]), ⟨hd.1, hd.2.1⟩, fun sig h => ?_, ok _ (by simp [wsV]), ok _ (by simp [wsV]), ok _ (by simp [wsV])⟩
  have h2 := hd.2.2
  rw [h] at h2
  exact (Option.some.inj h2).symm
theorem lx_runVW {y : MethodName} {bytes cc : ByteArray} {maxL nL mc ms n index : Nat} {ret : Option FieldType} {hh : List (Nat × Nat × Nat × Nat)} {ws : List Cond} {rm : Room} {Pc : Array Value → State → Prop} {Qc : Array Value → State → Outcome → State → Prop} {free : Addr → Prop} {Ts : List Cond} {own C : String} {b : Addr} {As rest : List Value} {g : JFrame}
    (S : CallFix p m c cc nL s args Ts own) (hM : Met l y ws rm Pc Qc mc ms free) (cw : lx_CVW R s args own C index y bytes maxL ret hh ws rm mc ms n) (hp : PreV s H C b Pc As)
    (hg : g.method = m) (hn : As.length = n) (hsize : g.locals.size = nL) (hstack : g.stack = As.reverse ++ .ref b :: rest) (hW : 2 * g.monitorRoom + (rest.map fun v => v.category).sum ≤ 8) (hdg : decode cc g.pc = .ok (.invokevirtual index, 3)) (hf : cells + mc ≤ R.cells ∧ slots + ms ≤ R.slots) :
    va_Run p l e R s m args below meth c H locs cells slots mc ms g rest (Qc (Value.ref b :: As).toArray) free := by
  obtain ⟨⟨hrc, hrs, hfr, hlo, hws, hcw⟩, hcode, hini, hy, hlen, hl, hin, hse⟩ := cw
  have hK : Back l R p e below s args y 3 8 (PreOf R mc ms Pc) (PostOf Qc mc ms free) := va_backW (hh := hh) (bytes := bytes) (maxL := maxL) (ret := ret) hM hp.1 hrc hrs hfr hlo hws hcw (fun a' U hW => word_at hW (Or.inl (by first | rfl | simp [Cond.onTables, Cond.keeps, Cond.steady])) hini)
  obtain ⟨hx, hb, hml, ho, -⟩ := S
  obtain ⟨-, ⟨cellB, hcB, hoB, hclB⟩, hPc⟩ := hp
  intro T hT X
  obtain ⟨v, vm₁, ⟨U', l2, c2, s2⟩, hW₁, X', ⟨g', mk, t, L, e1, e2, hq, h1, hL, h2, h3⟩, st⟩ := lx_callVW X hx (C := C) (hh := hh) (bytes := bytes) (maxL := maxL) (ret := ret) ho hl hin hse hcode hy hK (by rw [hT]; exact hcB) hoB hclB hg (hsize.trans hml.symm) (argsL := As) (rest := rest) (fun sig h => hn.trans (hlen sig h)) hstack hW (by rw [hb]; exact hdg)
    (fun vm₁ hW₁ => ⟨hf.1, hf.2, hPc (T.setVm vm₁) hT hW₁⟩)
  dsimp only [Pt.U, Pt.locs, Pt.cells, Pt.slots] at X' e1 e2 h1 h2 h3 st
  subst h1; subst h2; subst h3
  exact ⟨v, (T.setVm vm₁).calling g' mk (Value.ref b :: As).toArray, t, U', L, hT, X', hL, e1, e2, hq, st⟩
end LXW
def lw_dj (Ds : gz_S) (ax am : gz_A0) : Prop := ∀ a b : gz_N, xw_s Ds a ≠ none → a.1 ≠ 0 → tw_S b ≠ none → ax a ≠ am b
/-- both worlds lie in the heap, apart -/
def lw_wo (X : gz_X) (px pm : Nat) (Ds : gz_S) (Df : gz_R) (Vx Vm : gz_V) (ax am : gz_A0) (H : Heap) : Prop :=
  ax (10, 0, 0) = px ∧ am (1, 0, 0) = pm ∧ gz_wd (gx_D X) (gx_C X) (gx_A X) (xw_s Ds) Vx (xw_c Df) ax H ∧ gz_wd (gx_D X) (gx_C X) (gx_A X) tw_S Vm tw_R am H ∧ lw_dj Ds ax am
def lW (X : gz_X) (px pm : Nat) (Ds : gz_S) (Df : gz_R) (Vx Vm : gz_V) (ce sl pc : Nat) (lv : List (Nat × Value)) (st : List Value) : Prop :=
  ∀ (ax am : gz_A0) (H : Heap) (locs : List Loc) (ls : Array Slot), lw_wo X px pm Ds Df Vx Vm ax am H → va_S (gx_A X) (gx_s X).heap H locs → lv_has ls 4 lv →
    W (gx_p X) (gx_l X) (gx_e X) (gx_R X) (gx_s X) (gx_m X) (gx_a X) (gx_b X) (gx_me X) (gx_c X) H locs ce sl (gx_Q X) (F0 (gx_m X) pc ls st)
/-- the law's context: its script, its end -/
def lw_ok (X : gz_X) (b L : Nat) (xs : Nat → Int32) : Prop := gz_ok X code R_law "law" 4 room_1 ret ∧ gx_A X = (fun q => (gx_s X).heap.size ≤ q) ∧ va_X b L xs (gx_s X) (gx_s X).heap ∧ b < (gx_s X).heap.size ∧ gx_a X = #[Value.ref b] ∧ gx_C X 1000 < (gx_s X).heap.size ∧ gx_Q X = lw_Z (gx_b X) #[Value.ref b] (gx_s X)
section LWR
variable {X : gz_X} {b L : Nat} {xs : Nat → Int32} {px pm : Nat} {Ds : gz_S} {Df : gz_R} {Vx Vm : gz_V} {ce sl pc : Nat} {lv lv2 : List (Nat × Value)} {st : List Value}
theorem ll_widen {k n : Nat} (h1 : ce ≤ k) (h2 : sl ≤ n) (kk : lW X px pm Ds Df Vx Vm k n pc lv st) : lW X px pm Ds Df Vx Vm ce sl pc lv st := fun ax am H locs ls hi hS hl => W.widen h1 h2 (kk ax am H locs ls hi hS hl)
theorem ll_iconst (hX : lw_ok X b L xs) {n : Int} {v : Int32} (hdg : decode code pc = .ok (.iconst n, 1)) (hv : Int32.ofInt n = v) (k : lW X px pm Ds Df Vx Vm ce sl (pc + 1) lv (.int v :: st)) : lW X px pm Ds Df Vx Vm ce sl pc lv st := fun ax am H locs ls hi hS hl => lv_iconst hX.1.1 hX.1.2.1 hdg hv (k ax am H locs ls hi hS hl)
theorem ll_bipush (hX : lw_ok X b L xs) {n : Int} {v : Int32} (hdg : decode code pc = .ok (.bipush n, 2)) (hv : (Int8.ofInt n).toInt32 = v) (k : lW X px pm Ds Df Vx Vm ce sl (pc + 2) lv (.int v :: st)) : lW X px pm Ds Df Vx Vm ce sl pc lv st := fun ax am H locs ls hi hS hl => lv_bipush hX.1.1 hX.1.2.1 hdg hv (k ax am H locs ls hi hS hl)
theorem ll_iload_n (hX : lw_ok X b L xs) {k4 : Fin 4} {i q : Nat} {x : Int32} (hdg : decode code pc = .ok (.iload_n k4, 1)) (hi : (k4 : Nat) = i) (hq : lv[q]? = some (i, .int x)) (k : lW X px pm Ds Df Vx Vm ce sl (pc + 1) lv (.int x :: st)) : lW X px pm Ds Df Vx Vm ce sl pc lv st := fun ax am H locs ls h0 hS hl => lv_iload_n hX.1.1 hX.1.2.1 hdg hi (lv_at hl q hq) (k ax am H locs ls h0 hS hl)
theorem ll_aload_n (hX : lw_ok X b L xs) {k4 : Fin 4} {i q : Nat} {x : Nat} (hdg : decode code pc = .ok (.aload_n k4, 1)) (hi : (k4 : Nat) = i) (hq : lv[q]? = some (i, .ref x)) (k : lW X px pm Ds Df Vx Vm ce sl (pc + 1) lv (.ref x :: st)) : lW X px pm Ds Df Vx Vm ce sl pc lv st := fun ax am H locs ls h0 hS hl => lv_aload_n hX.1.1 hX.1.2.1 hdg hi (lv_at hl q hq) (k ax am H locs ls h0 hS hl)
theorem ll_istore_n (hX : lw_ok X b L xs) {k4 : Fin 4} {i : Nat} {x : Int32} (hdg : decode code pc = .ok (.istore_n k4, 1)) (hi : (k4 : Nat) = i) (hn : i < 4) (hf : (i, Value.int x) :: lv.filter (fun q => !(q.1 == i) && !(q.1 + 1 == i && q.2.category == 2)) = lv2) (k : lW X px pm Ds Df Vx Vm ce sl (pc + 1) lv2 st) : lW X px pm Ds Df Vx Vm ce sl pc lv (.int x :: st) := fun ax am H locs ls h0 hS hl => lv_istore_n hX.1.1 hX.1.2.1 hdg hi hl hn hf (fun ls2 hl2 => k ax am H locs ls2 h0 hS hl2)
theorem ll_iadd (hX : lw_ok X b L xs) {x y : Int32} (hdg : decode code pc = .ok (.iadd, 1)) (k : lW X px pm Ds Df Vx Vm ce sl (pc + 1) lv (.int (x + y) :: st)) : lW X px pm Ds Df Vx Vm ce sl pc lv (.int y :: .int x :: st) := fun ax am H locs ls h0 hS hl => lv_iadd hX.1.1 hX.1.2.1 hdg (k ax am H locs ls h0 hS hl)
theorem ll_isub (hX : lw_ok X b L xs) {x y : Int32} (hdg : decode code pc = .ok (.isub, 1)) (k : lW X px pm Ds Df Vx Vm ce sl (pc + 1) lv (.int (x - y) :: st)) : lW X px pm Ds Df Vx Vm ce sl pc lv (.int y :: .int x :: st) := fun ax am H locs ls h0 hS hl => lv_isub hX.1.1 hX.1.2.1 hdg (k ax am H locs ls h0 hS hl)
theorem ll_iand (hX : lw_ok X b L xs) {x y : Int32} (hdg : decode code pc = .ok (.iand, 1)) (k : lW X px pm Ds Df Vx Vm ce sl (pc + 1) lv (.int (x &&& y) :: st)) : lW X px pm Ds Df Vx Vm ce sl pc lv (.int y :: .int x :: st) := fun ax am H locs ls h0 hS hl => lv_iand hX.1.1 hX.1.2.1 hdg (k ax am H locs ls h0 hS hl)
theorem ll_bA (hX : lw_ok X b L xs) : ¬ gx_A X b := by
  rw [hX.2.1]
  have := hX.2.2.2.1
  show ¬ (gx_s X).heap.size ≤ b
  omega
theorem ll_sld (hX : lw_ok X b L xs) {i : Int32} (hin : vp_in i L) (hdg : decode code pc = .ok (.iaload, 1)) (k : lW X px pm Ds Df Vx Vm ce sl (pc + 1) lv (.int (xs i.toNatClampNeg) :: st)) : lW X px pm Ds Df Vx Vm ce sl pc lv (.int i :: .ref b :: st) := fun ax am H locs ls h0 hS hl => va_sld hX.1.1 hX.1.2.1 hX.2.2.1 hX.2.2.2.1 (ll_bA hX) hS hin hdg (k ax am H locs ls h0 hS hl)
theorem ll_slen (hX : lw_ok X b L xs) (hdg : decode code pc = .ok (.arraylength, 1)) (k : lW X px pm Ds Df Vx Vm ce sl (pc + 1) lv (.int (Int32.ofNat L) :: st)) : lW X px pm Ds Df Vx Vm ce sl pc lv (.ref b :: st) := fun ax am H locs ls h0 hS hl => va_slen hX.1.1 hX.1.2.1 hX.2.2.1 hX.2.2.2.1 (ll_bA hX) hS hdg (k ax am H locs ls h0 hS hl)
theorem ll_icmp_gt (hX : lw_ok X b L xs) {x y : Int32} {off : Int} {tgt : Nat} (hdg : decode code pc = .ok (.if_icmp .gt off, 3)) (ht : (pc : Int) + off = (tgt : Int)) (kt : y < x → lW X px pm Ds Df Vx Vm ce sl tgt lv st) (kf : ¬ y < x → lW X px pm Ds Df Vx Vm ce sl (pc + 3) lv st) : lW X px pm Ds Df Vx Vm ce sl pc lv (.int y :: .int x :: st) := fun ax am H locs ls h0 hS hl => lv_icmp_gt hX.1.1 hX.1.2.1 hdg ht (fun z => kt z ax am H locs ls h0 hS hl) (fun z => kf z ax am H locs ls h0 hS hl)
theorem ll_icmp_eqT (hX : lw_ok X b L xs) {x : Int32} {off : Int} {tgt : Nat} (hdg : decode code pc = .ok (.if_icmp .eq off, 3)) (ht : (pc : Int) + off = (tgt : Int)) (kt : lW X px pm Ds Df Vx Vm ce sl tgt lv st) : lW X px pm Ds Df Vx Vm ce sl pc lv (.int x :: .int x :: st) := fun ax am H locs ls h0 hS hl => lv_icmp_eq hX.1.1 hX.1.2.1 hdg ht (fun z => kt ax am H locs ls h0 hS hl) (fun z => absurd rfl z)
theorem ll_if_eq (hX : lw_ok X b L xs) {x : Int32} {off : Int} {tgt : Nat} (hdg : decode code pc = .ok (.ifCond .eq off, 3)) (ht : (pc : Int) + off = (tgt : Int)) (kt : x = 0 → lW X px pm Ds Df Vx Vm ce sl tgt lv st) (kf : ¬ x = 0 → lW X px pm Ds Df Vx Vm ce sl (pc + 3) lv st) : lW X px pm Ds Df Vx Vm ce sl pc lv (.int x :: st) := fun ax am H locs ls h0 hS hl => lv_if_eq hX.1.1 hX.1.2.1 hdg ht (fun z => kt z ax am H locs ls h0 hS hl) (fun z => kf z ax am H locs ls h0 hS hl)
theorem ll_goto (hX : lw_ok X b L xs) {off : Int} {tgt : Nat} (hdg : decode code pc = .ok (.goto off, 3)) (ht : (pc : Int) + off = (tgt : Int)) (k : lW X px pm Ds Df Vx Vm ce sl tgt lv st) : lW X px pm Ds Df Vx Vm ce sl pc lv st := fun ax am H locs ls h0 hS hl => lv_goto hX.1.1 hX.1.2.1 hdg ht (k ax am H locs ls h0 hS hl)
theorem ll_iinc (hX : lw_ok X b L xs) {i q : Nat} {n : Int} {x v : Int32} (hdg : decode code pc = .ok (.iinc i n, 3)) (hq : lv[q]? = some (i, .int x)) (hv : x + Int32.ofInt n = v) (hn : i < 4) (hf : (i, Value.int v) :: lv.filter (fun q => !(q.1 == i) && !(q.1 + 1 == i && q.2.category == 2)) = lv2) (k : lW X px pm Ds Df Vx Vm ce sl (pc + 3) lv2 st) : lW X px pm Ds Df Vx Vm ce sl pc lv st := fun ax am H locs ls h0 hS hl => lv_iinc hX.1.1 hX.1.2.1 hdg hl hq hv hn hf (fun ls2 hl2 => k ax am H locs ls2 h0 hS hl2)
theorem ll_tableAt (hX : lw_ok X b L xs) {dflt lo hi : Int} {offs : Array Int} {len : Nat} {x v : Int32} {off : Int} {tgt : Nat} (hdg : decode code pc = .ok (.tableswitch dflt lo hi offs, len)) (hx : x = v) (h1 : ¬ v.toInt < lo) (h2 : ¬ hi < v.toInt) (ho : offs[(v.toInt - lo).toNat]? = some off) (ht : (pc : Int) + off = (tgt : Int)) (k : lW X px pm Ds Df Vx Vm ce sl tgt lv st) : lW X px pm Ds Df Vx Vm ce sl pc lv (.int x :: st) := fun ax am H locs ls h0 hS hl => lv_tableIn hX.1.1 hX.1.2.1 hdg (by rw [hx]; exact h1) (by rw [hx]; exact h2) (by rw [hx]; exact ho) ht (k ax am H locs ls h0 hS hl)
theorem ll_tableOut (hX : lw_ok X b L xs) {dflt lo hi : Int} {offs : Array Int} {len : Nat} {x : Int32} {tgt : Nat} (hdg : decode code pc = .ok (.tableswitch dflt lo hi offs, len)) (h : x.toInt < lo ∨ hi < x.toInt) (ht : (pc : Int) + dflt = (tgt : Int)) (k : lW X px pm Ds Df Vx Vm ce sl tgt lv st) : lW X px pm Ds Df Vx Vm ce sl pc lv (.int x :: st) := fun ax am H locs ls h0 hS hl => lv_tableOut hX.1.1 hX.1.2.1 hdg h ht (k ax am H locs ls h0 hS hl)
theorem ll_end (hX : lw_ok X b L xs) (hce : ce ≤ 601024) (hsl : sl ≤ 7293034) (hdg : decode code pc = .ok (.ireturn, 1)) : lW X px pm Ds Df Vx Vm ce sl pc lv [.int 1] := by
  intro ax am H locs ls h0 hS hl
  refine va_forget (fun q hq => ?_) (W.widen hce hsl ?_)
  · have := hS.2.2 q hq
    rw [hX.2.1] at this
    exact this
  · have h := lw_ret (p := gx_p X) (l := gx_l X) (e := gx_e X) (s := gx_s X) (m := gx_m X) (below := gx_b X) (meth := gx_me X) (c := gx_c X) (b := b) (pc := pc) (H := H) (ls := ls) hX.1.1 hX.1.2.1 hX.1.2.2.2.2.2.2.2.2.2.1 hX.1.2.2.2.2.2.2.2.1 hdg
    rw [hX.1.2.2.2.2.2.2.2.2.1, hX.2.2.2.2.1, hX.2.2.2.2.2.2]
    exact h
/-! calls: the other world is kept -/
theorem ll_kept {sh sh0 : gz_S} {Rf0 : gz_R} {V : gz_V} {Rf : gz_R} {V0 : gz_V} {ad ad0 : gz_A0} {A : Nat → Prop} {D : va_G} {aC : Nat → ClassId} {H H1 : Heap} (hx : gz_wd D aC A sh0 V0 Rf0 ad0 H) (hm : gz_wd D aC A sh V Rf ad H) (hd : ∀ a b : gz_N, sh0 a ≠ none → a.1 ≠ 0 → sh b ≠ none → ad0 a ≠ ad b) (hk : ∀ q, q < H.size → ¬ gz_A sh0 ad0 H.size q → H1[q]? = H[q]?) : gz_wd D aC A sh V Rf ad H1 := by
  refine ⟨fun n t hn => ?_, hm.2⟩
  have g := hm.1 n t hn
  have hne : sh n ≠ none := by rw [hn]; exact fun z => by cases z
  refine g.kept (hk _ g.lt (fun z => ?_))
  rcases z with ⟨a, h1, h2, h3⟩ | z
  · exact hd a n h1 h2 hne h3
  · have := g.lt
    omega
theorem ll_djn {sh sh0 sh2 : gz_S} {V V2 : gz_V} {Rf Rf2 : gz_R} {ad ad0 ad2 : gz_A0} {A : Nat → Prop} {D : va_G} {aC : Nat → ClassId} {H H1 : Heap} (h2 : gz_wd D aC (gz_A sh0 ad0 H.size) sh2 V2 Rf2 ad2 H1) (hm : gz_wd D aC A sh V Rf ad H) (hd : ∀ a b : gz_N, sh0 a ≠ none → a.1 ≠ 0 → sh b ≠ none → ad0 a ≠ ad b) : ∀ a b : gz_N, sh2 a ≠ none → a.1 ≠ 0 → sh b ≠ none → ad2 a ≠ ad b := by
  intro a b ha h0 hb e
  obtain ⟨t, ht⟩ := gp_nn_of hb
  have hlt := (hm.1 b t ht).lt
  rcases h2.2.2.1 a ha h0 with ⟨n, g1, g2, g3⟩ | g
  · exact hd n b g1 g2 hb (by rw [g3, e])
  · omega
theorem ll_Asub {sh : gz_S} {V : gz_V} {Rf : gz_R} {ad : gz_A0} {H : Heap} {locs : List Loc} (hX : lw_ok X b L xs) (hw : gz_wd (gx_D X) (gx_C X) (gx_A X) sh V Rf ad H) (hS : va_S (gx_A X) (gx_s X).heap H locs) : ∀ q, gz_A sh ad H.size q → (gx_A X) q := gz_Asub hX.1 hw hS
/-- behind an x call -/
theorem ll_backX (hX : lw_ok X b L xs) {ax am : gz_A0} {H : Heap} {locs : List Loc} {ls : Array Slot} {Fi : gz_Fi} {a : Array Value} {mc ms : Nat} {Ds2 : gz_S} {Df2 : gz_R} {V2 : gz_V} {r : Int32} {st0 : List Value}
    (hi : lw_wo X px pm Ds Df Vx Vm ax am H) (hS : va_S (gx_A X) (gx_s X).heap H locs) (hl : lv_has ls 4 lv)
    (hr : va_Run (gx_p X) (gx_l X) (gx_e X) (gx_R X) (gx_s X) (gx_m X) (gx_a X) (gx_b X) (gx_me X) (gx_c X) H locs ce sl mc ms (F0 (gx_m X) pc ls st0) st (gz_Qc (gx_D X) (gx_C X) (gz_A (xw_s Ds) ax H.size) Fi a) (gz_A (xw_s Ds) ax H.size))
    (hFi : ∀ sh2 V2' Rf2 ad2 rv, Fi sh2 V2' Rf2 ad2 rv → sh2 = xw_s Ds2 ∧ V2' = V2 ∧ Rf2 = xw_c Df2 ∧ ad2 (10, 0, 0) = ax (10, 0, 0) ∧ rv = some (.int r))
    (k : lW X px pm Ds2 Df2 V2 Vm (ce + mc) (sl + ms) (pc + 3) lv (.int r :: st)) : W (gx_p X) (gx_l X) (gx_e X) (gx_R X) (gx_s X) (gx_m X) (gx_a X) (gx_b X) (gx_me X) (gx_c X) H locs ce sl (gx_Q X) (F0 (gx_m X) pc ls st0) := by
  obtain ⟨hpx, hpm, hx, hm, hd⟩ := hi
  have hA := ll_Asub hX hx hS
  intro T hT XS
  obtain ⟨v, st₀, t, T', Lc, h0, X', hL, e1, e2, ⟨⟨sh2, V2', Rf2, ad2, rv, hv, hB, hF⟩, hz, hk⟩, stp⟩ := hr T hT XS
  cases hv
  obtain ⟨rfl, rfl, rfl, had, rfl⟩ := hFi _ _ _ _ _ hF
  rw [h0] at hz hk
  obtain ⟨t2, a1, b1⟩ := k ad2 am T'.heap (locs ++ Lc) ls ⟨had.trans hpx, hpm, by rw [e1]; exact hB.1.weaken hA, by rw [e1]; exact ll_kept hx hm hd hk, ll_djn hB.1 hm hd⟩ ⟨Nat.le_trans hS.1 (by rw [e1]; exact hz), fun q h1 h2 => by rw [e1, hk q (Nat.lt_of_lt_of_le h1 hS.1) (fun z => h2 (hA q z))]; exact hS.2.1 q h1 h2, fun q hq => by
      rcases List.mem_append.mp hq with h | h
      · exact hS.2.2 q h
      · exact hA _ (hL q h)⟩ hl T' rfl X'
  exact ⟨t2, stp t2 a1, b1⟩
/-- behind an m call -/
theorem ll_backM (hX : lw_ok X b L xs) (hz0 : ∀ n : gz_N, xw_s Ds n ≠ none → n.1 = 0 → n = (0, 0, 0)) {ax am : gz_A0} {H : Heap} {locs : List Loc} {ls : Array Slot} {a : Array Value} {V2 : gz_V} {r : Int32} {st0 : List Value}
    (hi : lw_wo X px pm Ds Df Vx Vm ax am H) (hS : va_S (gx_A X) (gx_s X).heap H locs) (hl : lv_has ls 4 lv)
    (hr : va_Run (gx_p X) (gx_l X) (gx_e X) (gx_R X) (gx_s X) (gx_m X) (gx_a X) (gx_b X) (gx_me X) (gx_c X) H locs ce sl 0 0 (F0 (gx_m X) pc ls st0) st (gz_Qc (gx_D X) (gx_C X) (gz_A tw_S am H.size) (gz_F1 tw_S tw_R am V2 (some (.int r))) a) (gz_A tw_S am H.size))
    (k : lW X px pm Ds Df Vx V2 ce sl (pc + 3) lv (.int r :: st)) : W (gx_p X) (gx_l X) (gx_e X) (gx_R X) (gx_s X) (gx_m X) (gx_a X) (gx_b X) (gx_me X) (gx_c X) H locs ce sl (gx_Q X) (F0 (gx_m X) pc ls st0) := by
  obtain ⟨hpx, hpm, hx, hm, hd⟩ := hi
  have hA := ll_Asub hX hm hS
  have tw0 : ∀ a : gz_N, tw_S a ≠ none → a.1 ≠ 0 := fun a ha e => ha (by
    unfold tw_S
    rw [if_neg (fun q => by rw [q] at e; cases e), if_neg (fun q => by rw [e] at q; cases q.1)])
  intro T hT XS
  obtain ⟨v, st₀, t, T', Lc, h0, X', hL, e1, e2, ⟨⟨sh2, V2', Rf2, ad2, rv, hv, hB, hF⟩, hz, hk⟩, stp⟩ := hr T hT XS
  cases hv
  obtain ⟨rfl, rfl, rfl, rfl, rfl⟩ := hF
  rw [h0] at hz hk
  have hx2 : gz_wd (gx_D X) (gx_C X) (gx_A X) (xw_s Ds) Vx (xw_c Df) ax t.heap := by
    refine ⟨fun n u hn => ?_, hx.2⟩
    have g := hx.1 n u hn
    have hne : xw_s Ds n ≠ none := by rw [hn]; exact fun z => by cases z
    refine g.kept (hk _ g.lt (fun z => ?_))
    rcases z with ⟨a, h1, h2, h3⟩ | z
    · by_cases h0 : n.1 = 0
      · have e := hz0 n hne h0
        subst e
        have h4 := hx.2.2.2.2 0
        have h5 := hm.2.2.1 a h1 (tw0 a h1)
        rw [hX.2.1] at h5
        have h5 : (gx_s X).heap.size ≤ ad2 a := h5
        have h6 : ad2 a = (gx_C X) 1000 := h3.trans h4
        rw [h6] at h5
        exact absurd (Nat.lt_of_lt_of_le hX.2.2.2.2.2.1 h5) (Nat.lt_irrefl _)
      · exact hd n a hne h0 h1 h3.symm
    · have := g.lt
      omega
  obtain ⟨t2, a1, b1⟩ := k ax ad2 T'.heap (locs ++ Lc) ls ⟨hpx, hpm, by rw [e1]; exact hx2, by rw [e1]; exact hB.1.weaken hA, hd⟩ ⟨Nat.le_trans hS.1 (by rw [e1]; exact hz), fun q h1 h2 => by rw [e1, hk q (Nat.lt_of_lt_of_le h1 hS.1) (fun z => h2 (hA q z))]; exact hS.2.1 q h1 h2, fun q hq => by
      rcases List.mem_append.mp hq with h | h
      · exact hS.2.2 q h
      · exact hA _ (hL q h)⟩ hl T' rfl X'
  exact ⟨t2, stp t2 a1, b1⟩
end LWR
