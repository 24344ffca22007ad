/-! READER's PARSER: calls, ends, next() -/
set_option maxRecDepth 100000
def gp_rA : gz_A0 → gz_N → Option Value := fun ad r => some (.ref (ad r))
def gp_rI : gz_A0 → Int32 → Option Value := fun _ r => some (.int r)
def gp_rU : gz_A0 → Unit → Option Value := fun _ _ => none
def gp_pT : gz_S → gz_N → Prop := fun Ds r => r.1 = 98 ∧ Ds r ≠ none
def gp_pI : gz_S → Int32 → Prop := fun _ _ => True
def gp_pU : gz_S → Unit → Prop := fun _ _ => True
section GPC
variable {α β : Type} {X : gz_X} {cc : ByteArray} {own mn : String} {nL : Nat} {rm : Room} {ret : Option FieldType} {B : gp_B} {E : gp_E} {P : gz_S → α → Prop} {rvf : gz_A0 → α → Option Value} {o : gp_R α} {F L : Nat} {Ds : gz_S} {Df : gz_R} {V : gz_V} {c : Nat} {ad : gz_A0} {pc : Nat} {lv : List (Nat × Value)}
/-- a call that may throw -/
theorem gp_call (hX : gz_ok X cc own mn nL rm ret) (hE : gp_end X B E P rvf o F L) (hI : gp_in B E Ds Df V c ad) {call : gp_O β} {f : gz_S → gz_R → gz_V → Nat → β → gp_O α} (h : gp_bx c call f = some o) {y : MethodName} {code : ByteArray} {nL2 : Nat} {ret2 : Option FieldType} {F2 L2 : Nat} {P2 : gz_S → β → Prop} {rvf2 : gz_A0 → β → Option Value} {index nA : Nat} {n : gz_N} {C : String} {T : u_T} {N N0 ci : Nat} {As st0 : List Value}
    (hM : ∀ o1 : gp_R β, call = some o1 → c ≤ gp_ct o1 → gp_Met (gx_l X) y code nL2 ret2 F2 L2 (gx_D X) (gx_C X) ad Ds Df V c (.ref (ad n) :: As) B P2 rvf2 o1) (hlw : GoodIn lw_all (wsV own index C y (ws_ y code nL2 ret2)))
    (hd : y.cls = C ∧ y.cls ≠ "java/lang/invoke/MethodHandle" ∧ y.cls ≠ "java/lang/invoke/VarHandle" ∧ (parseMethodDescriptor y.desc).map (fun d => d.parameters.length) = some nA) (hR : F2 + 1 ≤ F ∧ 8 + (nL2 + 11) + L2 ≤ L)
    (hci : ci < 100) (hc : gzCl[ci]? = some (C, T, N)) (hsh : xw_s Ds n = some (ci, N0)) (hn : As.length = nA) (lvF : gz_A0 → List (Nat × Value)) (stF : gz_A0 → List Value) (hst : st0 = As.reverse ++ .ref (ad n) :: stF ad) (h8 : ((stF ad).map fun v => v.category).sum ≤ 8) (hF : ∀ ad2 : gz_A0, gz_ag (xw_s Ds) ad ad2 → lvF ad2 = lvF ad ∧ stF ad2 = stF ad) (hdg : decode cc pc = .ok (.invokevirtual index, 3))
    (k : ∀ (Ds2 : gz_S) (Df2 : gz_R) (V2 : gz_V) (c2 : Nat) (r2 : β), f Ds2 Df2 V2 c2 r2 = some o → gp_gr Ds Ds2 → P2 Ds2 r2 → gP X nL B E Ds2 Df2 V2 c2 (pc + 3) lvF (fun ad => (rvf2 ad r2).toList ++ stF ad)) : gW X nL (xw_s Ds) (xw_c Df) ad V (c - E.2.2.1) (24 * (c - E.2.2.1)) pc (lvF ad) st0 := by
  have hr : rm = gp_rm F L (gp_ct o - E.2.2.1) := by rw [← hX.2.2.2.2.2.2.2.2.1, hE.2.2.2.2.2.2]
  have hle := hI.2.2.2.1
  rcases gp_bx_o h with ⟨q, hx, hq, ho⟩ | ⟨Ds2, Df2, V2, c2, r2, hx, h1, h2, h3⟩
  · have hct : gp_ct o = q.2.2 := by rw [ho]; rfl
    have hct1 : gp_ct (α := β) (.inl q) = q.2.2 := rfl
    refine gy_call hX (hM _ hx hq) hlw rfl rfl hd (by rw [hr]; exact hR) (by rw [hr, hct, hct1]; show _ ≤ q.2.2 - E.2.2.1 ∧ _ ≤ 24 * (q.2.2 - E.2.2.1); omega) hci hc hsh hn hst h8 hdg ?_ ?_
    · rintro sh2 V2 Rf2 ad2 q' ⟨k1, p1, c1, e, hF0⟩
      cases e
      exact gy_leave hX hE.1 ⟨k1, p1, c1, ho, hF0⟩ (by rw [hE.2.2.1, hct, hct1]; show _ ≤ c1 - E.2.2.1; have : c ≤ c1 := hq; show c - E.2.2.1 + (c1 - c) ≤ _; omega) (by rw [hE.2.2.2.1, hct, hct1]; show 24 * (c - E.2.2.1) + 24 * (c1 - c) ≤ 24 * (c1 - E.2.2.1); have : c ≤ c1 := hq; omega)
    · rintro sh2 V2 Rf2 ad2 rv ⟨Ds2, Df2, V2', c2, r2, e, -⟩
      cases e
  · have hct1 : gp_ct (.inr (Ds2, Df2, V2, c2, r2)) = c2 := rfl
    refine gy_call hX (hM _ hx h1) hlw rfl rfl hd (by rw [hr]; exact hR) (by rw [hr, hct1]; show _ ≤ gp_ct o - E.2.2.1 ∧ _ ≤ 24 * (gp_ct o - E.2.2.1); omega) hci hc hsh hn hst h8 hdg ?_ ?_
    · rintro sh2 V2' Rf2 ad2 q' ⟨k1, p1, c1, e, -⟩
      cases e
    · rintro sh2 V2' Rf2 ad2 rv ⟨Ds3, Df3, V3, c3, r3, e, rfl, rfl, rfl, hag, hba, hgr, hP, rfl⟩
      cases e
      have hk := k Ds2 Df2 V2 c2 r2 h3 hgr hP ad2 ⟨hba, hI.2.1.trans (fun a ha => hI.2.2.1.xs.nn ha) hag, hI.2.2.1.trans hgr, Nat.le_trans hle h1, by rw [hE.2.2.2.2.2.1]; exact h2⟩
      obtain ⟨g1, g2⟩ := hF ad2 hag
      dsimp only at hk
      rw [g1, g2] at hk
      have e1 : c - E.2.2.1 + (gp_ct (.inr (Ds2, Df2, V2, c2, r2)) - c) = c2 - E.2.2.1 := by rw [hct1]; omega
      have e2 : 24 * (c - E.2.2.1) + 24 * (gp_ct (.inr (Ds2, Df2, V2, c2, r2)) - c) = 24 * (c2 - E.2.2.1) := by rw [hct1]; omega
      rw [e1, e2]
      exact hk
theorem gp_vret {P : gz_S → Unit → Prop} {o : gp_R Unit} (hX : gz_ok X cc own mn nL rm none) (hE : gp_end X B E P gp_rU o F L) (hI : gp_in B E Ds Df V c ad) (hP : P Ds ()) (h : (some (.inr (Ds, Df, V, c, ())) : gp_O Unit) = some o) (hdg : decode cc pc = .ok (.return_, 1)) : gW X nL (xw_s Ds) (xw_c Df) ad V (c - E.2.2.1) (24 * (c - E.2.2.1)) pc lv [] := by
  have ho := (Option.some.inj h).symm
  have hct : gp_ct o = c := by rw [ho]; rfl
  have g := gy_vret (sh := xw_s Ds) (V := V) (Rf := xw_c Df) (ad := ad) (pc := pc) (lv := lv) hX hE.1 (hE.2.1 _ _ _ _ _ ⟨Ds, Df, V, c, (), ho, rfl, rfl, rfl, hI.2.1, hI.1, hI.2.2.1, hP, rfl⟩) hdg
  rw [hE.2.2.1, hE.2.2.2.1, hct] at g
  exact g
theorem gp_iret {P : gz_S → Int32 → Prop} {o : gp_R Int32} {r : Int32} (hX : gz_ok X cc own mn nL rm (some .int)) (hE : gp_end X B E P gp_rI o F L) (hI : gp_in B E Ds Df V c ad) (hP : P Ds r) (h : (some (.inr (Ds, Df, V, c, r)) : gp_O Int32) = some o) (hdg : decode cc pc = .ok (.ireturn, 1)) : gW X nL (xw_s Ds) (xw_c Df) ad V (c - E.2.2.1) (24 * (c - E.2.2.1)) pc lv [.int r] := by
  have ho := (Option.some.inj h).symm
  have hct : gp_ct o = c := by rw [ho]; rfl
  have g := gy_iret (sh := xw_s Ds) (V := V) (Rf := xw_c Df) (ad := ad) (pc := pc) (lv := lv) (x := r) hX hE.1 (hE.2.1 _ _ _ _ _ ⟨Ds, Df, V, c, r, ho, rfl, rfl, rfl, hI.2.1, hI.1, hI.2.2.1, hP, rfl⟩) hdg
  rw [hE.2.2.1, hE.2.2.2.1, hct] at g
  exact g
theorem gp_aret {P : gz_S → gz_N → Prop} {o : gp_R gz_N} {r : gz_N} {rt : FieldType} (hX : gz_ok X cc own mn nL rm ret) (hE : gp_end X B E P gp_rA o F L) (hI : gp_in B E Ds Df V c ad) (hr : ret = some rt) (hrt : (∃ n, rt = .object n) ∨ ∃ t, rt = .array t) (hP : P Ds r) (h : (some (.inr (Ds, Df, V, c, r)) : gp_O gz_N) = some o) (hdg : decode cc pc = .ok (.areturn, 1)) : gW X nL (xw_s Ds) (xw_c Df) ad V (c - E.2.2.1) (24 * (c - E.2.2.1)) pc lv [.ref (ad r)] := by
  have ho := (Option.some.inj h).symm
  have hct : gp_ct o = c := by rw [ho]; rfl
  have g := gy_aret (sh := xw_s Ds) (V := V) (Rf := xw_c Df) (ad := ad) (pc := pc) (lv := lv) (x := ad r) hX hE.1 hr hrt (hE.2.1 _ _ _ _ _ ⟨Ds, Df, V, c, r, ho, rfl, rfl, rfl, hI.2.1, hI.1, hI.2.2.1, hP, rfl⟩) hdg
  rw [hE.2.2.1, hE.2.2.2.1, hct] at g
  exact g
/-- the call of an <init> that makes no cell -/
theorem gp_ini (hX : gz_ok X cc own mn nL rm ret) (hE : gp_end X B E P rvf o F L) (hI : gp_in B E Ds Df V c ad) {y : MethodName} {code : ByteArray} {nL2 : Nat} {rm2 : Room} {V1 : gz_V} {Rf1 : gz_R} {Df1 : gz_R} {index nA : Nat} {n : gz_N} {As rest : List Value}
    (hM : gz_Met (gx_l X) y code nL2 none rm2 (gx_D X) (gx_C X) ad (xw_s Ds) V (xw_c Df) (.ref (ad n) :: As) (gz_F1 (xw_s Ds) Rf1 ad V1 none) 0 0) (hlw : GoodIn lw_all (ws_ y code nL2 none)) (hini : Cond.initialized y.cls ∈ lw_all) (hl0 : Cond.methodLink own index y ∈ lw_all) (hinst : Cond.instanceMethod y ∈ lw_all) (hy : y.name = "<init>") (hrc : rm2.cells = 0) (hrs : rm2.slots = 0)
    (hd : y.cls ≠ "java/lang/invoke/MethodHandle" ∧ y.cls ≠ "java/lang/invoke/VarHandle" ∧ (parseMethodDescriptor y.desc).map (fun d => d.parameters.length) = some nA) (hR : rm2.frames + 1 ≤ F ∧ 8 + (nL2 + 11) + rm2.locals ≤ L)
    (hn : As.length = nA) {st0 : List Value} (hst : st0 = As.reverse ++ .ref (ad n) :: rest) (h8 : (rest.map fun v => v.category).sum ≤ 8) (hdg : decode cc pc = .ok (.invokespecial index, 3)) (hDf : Rf1 = xw_c Df1)
    (k : gW X nL (xw_s Ds) (xw_c Df1) ad V1 (c - E.2.2.1) (24 * (c - E.2.2.1)) (pc + 3) lv rest) : gW X nL (xw_s Ds) (xw_c Df) ad V (c - E.2.2.1) (24 * (c - E.2.2.1)) pc lv st0 := by
  have hr : rm = gp_rm F L (gp_ct o - E.2.2.1) := by rw [← hX.2.2.2.2.2.2.2.2.1, hE.2.2.2.2.2.2]
  subst hDf
  refine gn_callI (As := As) (rest := rest) (n := n) hX hM hlw hini hl0 hinst hy hrc hrs hd (by rw [hr]; exact hR) (gp_hf hX hE hI) hn hst h8 hdg ?_
  rintro sh2 V2 Rf2 ad2 rv ⟨rfl, rfl, rfl, rfl, rfl⟩
  exact k
end GPC
theorem x7_next_L0_fr {N : Nat} {Ds : gz_S} {Df : gz_R} {u : gz_N} {a : gz_N} (ha : a ≠ u) : ∀ (n : Nat) {V W : gz_V}, x7_next_L0 N Ds Df u n V = some W → W a = V a := by
  intro n
  induction n with
  | zero => intro V W h; rw [x7_next_L0] at h; cases h
  | succ n ih =>
    intro V W h
    rw [x7_next_L0] at h
    obtain ⟨r1, -, h⟩ := gz_bd_o h
    by_cases c1 : r1 = 32
    · have h := gz_ifp c1 h
      obtain ⟨V2, e2, h⟩ := gz_let_o h
      rw [ih h, ← e2, gz_up_ne ha]
    · have h := gz_ifn c1 h
      obtain ⟨r2, -, h⟩ := gz_bd_o h
      by_cases c2 : r2 = 10
      · have h := gz_ifp c2 h
        obtain ⟨V2, e2, h⟩ := gz_let_o h
        rw [ih h, ← e2, gz_up_ne ha]
      · have h := gz_ifn c2 h
        cases h
        rfl
theorem x7_next_L62_fr {N : Nat} {Ds : gz_S} {Df : gz_R} {u : gz_N} {a : gz_N} (ha : a ≠ u) : ∀ (n : Nat) {V W : gz_V}, x7_next_L62 N Ds Df u n V = some W → W a = V a := by
  intro n
  induction n with
  | zero => intro V W h; rw [x7_next_L62] at h; cases h
  | succ n ih =>
    intro V W h
    rw [x7_next_L62] at h
    obtain ⟨r1, -, h⟩ := gz_bd_o h
    by_cases c1 : r1 = 0
    · have h := gz_ifp c1 h
      cases h
      rfl
    · have h := gz_ifn c1 h
      obtain ⟨V2, e2, h⟩ := gz_let_o h
      rw [ih h, ← e2, gz_up_ne ha]
theorem x7_next_L105_fr {N : Nat} {Ds : gz_S} {Df : gz_R} {u : gz_N} {a : gz_N} (ha : a ≠ u) : ∀ (n : Nat) {V W : gz_V}, x7_next_L105 N Ds Df u n V = some W → W a = V a := by
  intro n
  induction n with
  | zero => intro V W h; rw [x7_next_L105] at h; cases h
  | succ n ih =>
    intro V W h
    rw [x7_next_L105] at h
    obtain ⟨r1, -, h⟩ := gz_bd_o h
    by_cases c1 : r1 = 0
    · have h := gz_ifp c1 h
      cases h
      rfl
    · have h := gz_ifn c1 h
      obtain ⟨V1, g, h⟩ := gz_bd_o h
      obtain ⟨V2, e2, h⟩ := gz_let_o h
      rw [ih h, ← e2, gz_up_ne ha]
      by_cases c2 : ((V u 3) + 4) ≤ (V u 2)
      · have g := gz_ifp c2 g
        cases g
        rfl
      · have g := gz_ifn c2 g
        obtain ⟨r3, -, g⟩ := gz_bd_o g
        obtain ⟨V3, e3, g⟩ := gz_let_o g
        cases g
        rw [← e3, gz_up_ne ha]
theorem x7_next_fr {N : Nat} {Ds : gz_S} {Df : gz_R} {u : gz_N} {V W : gz_V} (h : x7_next N Ds Df V u = some W) : ∀ a, a ≠ u → W a = V a := by
  intro a ha
  rw [x7_next] at h
  obtain ⟨V1, e1, h⟩ := gz_bd_o h
  obtain ⟨V3, e3, h⟩ := gz_let_o h
  have q3 : V3 a = V a := by rw [← e3, gz_up_ne ha, x7_next_L0_fr ha N e1]
  obtain ⟨r5, -, h⟩ := gz_bd_o h
  rw [← q3]
  by_cases c5 : r5 = -1
  · have h := gz_ifp c5 h
    obtain ⟨V4, e4, h⟩ := gz_let_o h
    cases h
    rw [← e4, gz_up_ne ha]
  · have h := gz_ifn c5 h
    obtain ⟨r8, -, h⟩ := gz_bd_o h
    by_cases c8 : r8 = 0
    · have h := gz_ifp c8 h
      obtain ⟨r11, -, h⟩ := gz_bd_o h
      by_cases c11 : r11 = 0
      · have h := gz_ifp c11 h
        obtain ⟨r14, -, h⟩ := gz_bd_o h
        obtain ⟨y16, -, h⟩ := gz_bd_o h
        obtain ⟨V4, e4, h⟩ := gz_let_o h
        obtain ⟨V5, e5, h⟩ := gz_let_o h
        cases h
        rw [← e5, gz_up_ne ha, ← e4, gz_up_ne ha]
      · have h := gz_ifn c11 h
        obtain ⟨V4, e4, h⟩ := gz_let_o h
        obtain ⟨V5, e5, h⟩ := gz_bd_o h
        obtain ⟨y6, -, h⟩ := gz_let_o h
        obtain ⟨V7, e7, h⟩ := gz_let_o h
        cases h
        rw [← e7, gz_up_ne ha, x7_next_L105_fr ha N e5, ← e4, gz_up_ne ha]
    · have h := gz_ifn c8 h
      obtain ⟨V4, e4, h⟩ := gz_bd_o h
      obtain ⟨r6, -, h⟩ := gz_bd_o h
      obtain ⟨V5, e5, h⟩ := gz_let_o h
      cases h
      rw [← e5, gz_up_ne ha, x7_next_L62_fr ha N e4]
theorem gp_in.next {B : gp_B} {E : gp_E} {N : Nat} {Ds : gz_S} {Df : gz_R} {V W : gz_V} {c : Nat} {ad : gz_A0} {u : gz_N} (hi : gp_in B E Ds Df V c ad) (hn : gp_nn B u) (h : x7_next N Ds Df V u = some W) : gp_in B E Ds Df W c ad := hi.wV hn (x7_next_fr h)
