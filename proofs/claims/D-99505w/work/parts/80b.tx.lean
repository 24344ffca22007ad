/-! ClaspedFair.text. Printed by wip/D-99505w/gen/mkrd.py -/
set_option maxRecDepth 100000
/-- the contract of a method with handlers -/
def gz_MetW (l : Launch) (y : MethodName) (code : ByteArray) (nL : Nat) (ret : Option FieldType) (hh : List (Nat × Nat × Nat × Nat)) (rm : Room) (D : va_G) (aC : Nat → ClassId) (ad : gz_A0) (sh : gz_S) (V : gz_V) (Rf : gz_R) (av : List Value) (Fi : gz_Fi) (mc ms : Nat) : Prop :=
  ∀ sz : Nat, Met l y (wsW_ y code nL ret hh) rm (va_Pc av (fun U => U.heap.size = sz ∧ gz_P D aC (gz_A sh ad sz) sh V Rf ad U)) (gz_Qc D aC (gz_A sh ad sz) Fi) mc ms (gz_A sh ad sz)
theorem gz_ofWW {l : Launch} {y : MethodName} {code : ByteArray} {nL : Nat} {ret : Option FieldType} {hh : List (Nat × Nat × Nat × Nat)} {rm : Room} {D : va_G} {aC : Nat → ClassId} {ad : gz_A0} {sh : gz_S} {V : gz_V} {Rf : gz_R} {av : List Value} {Fi : gz_Fi} {mc ms : Nat} {own mn : String} {lv : List (Nat × Value)}
    (hy : plainName y.cls = true) (hc : y.cls = own) (hm : y.name = mn) (hn : (lg_sl av).length ≤ nL) (hlv : lv_args 0 av = lv)
    (k : ∀ X : gz_X, gz_ok X code own mn nL rm ret → gx_l X = l → gx_D X = D → gx_C X = aC → gx_F X = Fi → gx_mc X = mc → gx_ms X = ms → gz_E X → (gx_c X).exceptionTable.toList = tableOf hh → gW X nL sh Rf ad V 0 0 0 lv []) : gz_MetW l y code nL ret hh rm D aC ad sh V Rf av Fi mc ms := by
  intro sz
  refine va_MetW (cc := code) (maxL := nL) (ret := ret) (hh := hh) hy rfl ?_
  intro p e s m args below meth c s₁ B hml hv
  obtain ⟨rfl, hsz, hw, hK, hNW, hSt⟩ := hv
  have hts := atoms_spec (ws := wsW_ y code nL ret hh) B.pre
  have htb := gy_table (x := y) B (hts _ List.mem_cons_self)
  have hts : ∀ w ∈ lw_all, w.before _ s = true := fun w h => hts w (List.mem_cons_of_mem _ h)
  have hown : s.vm.findClass y.cls = some m.cls := findClass_of_methodNamed B.named
  subst hsz
  have hl := lv_entry av (n := nL) hn
  rw [lg_entry_eq]
  rw [hlv] at hl
  have hmn : meth.name = y.name := (name_of_methodNamed B.named B.method).1
  exact k (p, l, e, rm, s, m, av.toArray, below, meth, c, gz_A sh ad s.heap.size, D, aC, Fi, mc, ms, MQ below (gz_Qc D aC (gz_A sh ad s.heap.size) Fi) av.toArray s mc ms (gz_A sh ad s.heap.size)) ⟨B.exec, B.bytes, hml, by rw [← hc]; exact hown, hts, hK, fun q h => Or.inr h, B.notSynchronized, rfl, B.returns, by rw [← hm]; exact hmn, hNW, hSt⟩ rfl rfl rfl rfl rfl rfl rfl htb s.heap [] _ hw va_S.rf hl
def x0_tx (Ds : gz_S) (Df : gz_R) (V : gz_V) (c : Nat) (o : gp_R Int32) : Option (gz_S × gz_R × gz_V × Nat × Int32) := match o with
  | .inl q => some (Ds, Df, gz_up (gz_up (gz_up V (10, 0, 0) 2 q.1) (10, 0, 0) 3 q.2.1) (10, 0, 0) 1 0, c, -1)
  | .inr q => some (q.1, q.2.1, gz_up q.2.2.1 (10, 0, 0) 1 0, q.2.2.2.1, q.2.2.2.2)
noncomputable def x0_text (N : Nat) (Ds : gz_S) (Df : gz_R) (V : gz_V) (c : Nat) (a1 : Int32) : Option (gz_S × gz_R × gz_V × Nat × Int32) :=
  gz_let (gz_up V (10, 0, 0) 2 0) (fun V1 => gz_let (gz_up V1 (10, 0, 0) 3 (-1)) (fun V2 => if x0_isIn a1 0 3 = 0 then some (Ds, Df, gz_up V2 (10, 0, 0) 1 0, c, -1) else gz_bd (x0_reads N Ds Df V2 c a1) (fun o => gz_gd (c ≤ gp_ct o ∧ gp_ct o ≤ c + 1000) (x0_tx Ds Df V2 c o))))
def x0_hh : List (Nat × Nat × Nat × Nat) := [(10, 29, 36, 122), (10, 29, 62, 0), (36, 55, 62, 0), (62, 64, 62, 0)]
def rm_x0_text : Room := { frames := 48, cells := 1000, slots := 24000, locals := 1000 }
def x0_tFi (Ds : gz_S) (ad : gz_A0) (Ds2 : gz_S) (Df2 : gz_R) (V2 : gz_V) (r : Int32) : gz_Fi := fun sh3 V3 Rf3 ad3 rv => sh3 = xw_s Ds2 ∧ V3 = V2 ∧ Rf3 = xw_c Df2 ∧ gz_ag (xw_s Ds) ad ad3 ∧ rv = some (.int r)
theorem c_x0_text {l : Launch} {D : va_G} {aC : Nat → ClassId} {ad : gz_A0} {N : Nat} {Ds Ds2 : gz_S} {Df Df2 : gz_R} {V W2 : gz_V} {c c2 : Nat} {a1 r : Int32} (htr : l.stackTraces = false) (h97 : Ds (97, 0, 0) = none) (hfree : ∀ n : gz_N, n.1 = 98 → c ≤ n.2.1 → Ds n = none) (h : x0_text N Ds Df V c a1 = some (Ds2, Df2, W2, c2, r)) : gz_MetW l yX0_text cX0_text 5 (some .int) x0_hh rm_x0_text D aC ad (xw_s Ds) V (xw_c Df) [.ref (ad (10, 0, 0)), .int a1] (x0_tFi Ds ad Ds2 Df2 W2 r) 1000 24000 := by
  refine gz_ofWW (own := RX0) (mn := "text") (lv := [(0, .ref (ad (10, 0, 0))), (1, .int a1)]) (by decide) rfl rfl (Nat.le_of_ble_eq_true rfl) rfl ?_
  intro X hX h1 h2 h3 h5 h6 h7 hE htb
  refine gz_clW (fun hcl => ?_)
  have tend : ∀ (Ds' : gz_S) (Df' : gz_R) (V' V3 : gz_V) (ad' : gz_A0) (r' : Int32) (ce sl : Nat), gx_F X (xw_s Ds') V3 (xw_c Df') ad' (some (.int r')) → gz_up V' (10, 0, 0) 1 0 = V3 → ce ≤ 1000 → sl ≤ 24000 → gW X 5 (xw_s Ds') (xw_c Df') ad' V' ce sl 28 [(0, .ref (ad' (10, 0, 0))), (1, .int a1)] [.int r'] := by
    intro Ds' Df' V' V3 ad' r' ce sl hF hV hce hsl
    refine gz_istore_n (lv2 := [(2, .int r'), (0, .ref (ad' (10, 0, 0))), (1, .int a1)]) hX dX0_text_28 rfl (by decide) rfl ?_
    refine gz_aload_n (q := 1) hX dX0_text_29 rfl rfl ?_
    refine gz_iconst (v := 0) hX dX0_text_30 gl_c_0 ?_
    refine xp_X0_60 hX xs_main (gz_ne0 9 rfl) dX0_text_31 hV ?_
    refine gz_iload_n (q := 0) hX dX0_text_34 rfl rfl ?_
    refine gz_widen (k := gx_mc X) (n := gx_ms X) (by rw [h6]; exact hce) (by rw [h7]; exact hsl) ?_
    exact gz_iret hX hE hF dX0_text_35
  rw [x0_text] at h
  obtain ⟨V1, e1, h⟩ := gz_let_o h
  obtain ⟨V2, e2, h⟩ := gz_let_o h
  refine gz_aload_n (q := 0) hX dX0_text_0 rfl rfl ?_
  refine gz_iconst (v := 0) hX dX0_text_1 gl_c_0 ?_
  refine xp_X0_115 hX xs_main (gz_ne0 9 rfl) dX0_text_2 e1 ?_
  refine gz_aload_n (q := 0) hX dX0_text_5 rfl rfl ?_
  refine gz_iconst (v := (-1)) hX dX0_text_6 gl_c_m1 ?_
  refine xp_X0_13 hX xs_main (gz_ne0 9 rfl) dX0_text_7 e2 ?_
  refine gz_iload_n (q := 1) hX dX0_text_10 rfl rfl ?_
  refine gz_iconst (v := 0) hX dX0_text_11 gl_c_0 ?_
  refine gz_iconst (v := 3) hX dX0_text_12 gl_c_3 ?_
  refine gu_callS (As := [.int a1, .int 0, .int 3]) hX (c_x0_isIn rfl) (lw_x0_isIn_ q502) rfl rfl nn_x0_isIn ⟨Nat.le_of_ble_eq_true rfl, Nat.le_of_ble_eq_true rfl⟩ ⟨Nat.zero_le _, Nat.zero_le _⟩ rfl rfl (Nat.le_of_ble_eq_true rfl) dX0_text_13 rfl ?_
  refine gz_if_eq (tgt := 27) hX dX0_text_16 (by decide) (fun c1 => ?_) (fun c1 => ?_)
  · have h := gz_ifp c1 h
    refine gz_iconst (v := (-1)) hX dX0_text_27 gl_c_m1 ?_
    obtain ⟨g1, g2, g3, g4, g5⟩ := gz_in5 h
    subst g1; subst g2; subst g4
    refine tend Ds Df V2 W2 ad (-1) 0 0 ?_ g3 (Nat.zero_le _) (Nat.zero_le _)
    rw [h5]
    exact ⟨rfl, rfl, rfl, gz_ag.rf, by rw [g5]⟩
  · have h := gz_ifn c1 h
    obtain ⟨o, eo, h⟩ := gz_bd_o h
    obtain ⟨⟨hc1, hc2⟩, h⟩ := gz_gd_o h
    refine gz_aload_n (q := 0) hX dX0_text_19 rfl rfl ?_
    refine gz_iload_n (q := 1) hX dX0_text_20 rfl rfl ?_
    refine gy_call (ci := 0) (n := (10, 0, 0)) (As := [.int a1]) (rest := []) hX (c_x0_reads (by rw [h1]; exact htr) hcl h97 hfree hc1 eo) (lw_x0_reads_ q510) rfl rfl nn_x0_reads ⟨Nat.le_of_ble_eq_true rfl, Nat.le_of_ble_eq_true rfl⟩ ?_ (by decide) rfl xs_main rfl rfl (Nat.le_of_ble_eq_true rfl) dX0_text_21 ?_ ?_
    · show 0 + (gp_ct o - c) ≤ 1000 ∧ 0 + 24 * (gp_ct o - c) ≤ 24000
      omega
    · rintro sh2 V3 Rf2 ad2 q ⟨k, p, c3, ho, rfl, rfl, rfl, ha2, rfl⟩
      subst ho
      obtain ⟨g1, g2, g3, g4, g5⟩ := gz_in5 h
      subst g1; subst g2; subst g4
      have em : ad (10, 0, 0) = ad2 (10, 0, 0) := (ha2 _ (Or.inl (gz_nn xs_main))).symm
      rw [em]
      have hc3 : c3 - c ≤ 1000 := by have : c3 ≤ c + 1000 := hc2; omega
      have h97s : xw_s (gz_us Ds (97, 0, 0) (8, 2)) (97, 0, 0) = some (8, 2) := by rw [gp_xs (by show 90 ≤ 97; decide)]; exact gz_us_eq
      have hk0 : gy_V8 V2 k p (97, 0, 0) 0 = k := by
        unfold gy_V8
        rw [gz_up_eq, gz_up_eq]
        rfl
      have hk1 : gy_V8 V2 k p (97, 0, 0) 1 = p := by
        unfold gy_V8
        rw [gz_up_eq, gz_up_eq]
        rfl
      have body : gW X 5 (xw_s (gz_us Ds (97, 0, 0) (8, 2))) (xw_c (gz_un Df (97, 0, 0))) ad2 (gy_V8 V2 k p) (0 + (gp_ct (α := Int32) (.inl (k, p, c3)) - c)) (0 + 24 * (gp_ct (α := Int32) (.inl (k, p, c3)) - c)) 36 [(0, .ref (ad2 (10, 0, 0))), (1, .int a1)] [.ref (ad2 (97, 0, 0))] := by
        refine gz_astore_n (lv2 := [(2, .ref (ad2 (97, 0, 0))), (0, .ref (ad2 (10, 0, 0))), (1, .int a1)]) hX dX0_text_36 rfl (by decide) rfl ?_
        refine gz_aload_n (q := 1) hX dX0_text_37 rfl rfl ?_
        refine gz_aload_n (q := 0) hX dX0_text_38 rfl rfl ?_
        refine gz_getN (ci := 8) (v := .int k) hX in_F8 (by decide) rfl h97s 0 (by decide) q720 (by show Value.int _ = _; rw [hk0]) dX0_text_39 ?_
        refine xp_X0_115 hX xs_main (gz_ne0 9 rfl) dX0_text_42 rfl ?_
        refine gz_aload_n (q := 1) hX dX0_text_45 rfl rfl ?_
        refine gz_aload_n (q := 0) hX dX0_text_46 rfl rfl ?_
        refine gz_getN (ci := 8) (v := .int p) hX in_F8 (by decide) rfl h97s 1 (by decide) q722 (by show Value.int _ = _; rw [gz_up_ne (by decide), hk1]) dX0_text_47 ?_
        refine xp_X0_13 hX xs_main (gz_ne0 9 rfl) dX0_text_50 rfl ?_
        refine gz_iconst (v := (-1)) hX dX0_text_53 gl_c_m1 ?_
        refine gz_istore_n (lv2 := [(3, .int (-1)), (2, .ref (ad2 (97, 0, 0))), (0, .ref (ad2 (10, 0, 0))), (1, .int a1)]) hX dX0_text_54 rfl (by decide) rfl ?_
        refine gz_aload_n (q := 2) hX dX0_text_55 rfl rfl ?_
        refine gz_iconst (v := 0) hX dX0_text_56 gl_c_0 ?_
        refine xp_X0_60 hX xs_main (gz_ne0 9 rfl) dX0_text_57 rfl ?_
        refine gz_iload_n (q := 0) hX dX0_text_60 rfl rfl ?_
        have hne : ∀ n : gz_N, xw_s Ds n ≠ none → n ≠ (97, 0, 0) := fun n hn e => hn (by rw [e, gp_xs (by show 90 ≤ 97; decide)]; exact h97)
        refine gz_lessW (sh2 := xw_s Ds) (V2 := W2) (Rf2 := xw_c Df) (ad2 := ad2) (fun n t hn => ?_) (fun n hn => ?_) (fun n hn => ?_) (fun _ _ => rfl) hcl ?_
        · rw [← cd_us (by decide), gz_us_ne (hne n (by rw [hn]; exact fun z => by cases z))]
          exact hn
        · rw [← g3]
          by_cases em : n = (10, 0, 0)
          · subst em
            rw [gz_up_eq, gz_up_eq, gz_up_eq, gz_up_eq, gz_up_eq, gz_up_eq]
            unfold gy_V8
            rw [gz_up_ne (hne _ hn), gz_up_ne (hne _ hn), gz_uz_ne (hne _ hn)]
          · rw [gz_up_ne em, gz_up_ne em, gz_up_ne em, gz_up_ne em, gz_up_ne em, gz_up_ne em]
            unfold gy_V8
            rw [gz_up_ne (hne _ hn), gz_up_ne (hne _ hn), gz_uz_ne (hne _ hn)]
        · rw [← cd_un (by decide), gz_un_ne (hne n hn)]
        refine gz_widen (k := gx_mc X) (n := gx_ms X) (by rw [h6]; show 0 + (c3 - c) ≤ 1000; omega) (by rw [h7]; show 0 + 24 * (c3 - c) ≤ 24000; omega) ?_
        refine gz_iret hX hE ?_ dX0_text_61
        rw [h5]
        exact ⟨rfl, rfl, rfl, ha2, by rw [← g5]⟩
      intro H locs ls cell hw hS hl p1 p2 p3
      exact gy_catch (own := RX0) (name := RX8) (E := RX8) hX.2.2.2.1 [] ⟨10, 29, 36, 122⟩ (tableOf [(10, 29, 62, 0), (36, 55, 62, 0), (62, 64, 62, 0)]) htb (fun z hz => by cases hz) rfl (by decide) (hX.2.2.2.2.1 _ q509) (va_Nw.use rfl (hX.2.2.2.2.2.2.2.2.2.2.2.1.1 _ (gz_nw q677 rfl))) p1 p2 p3 (body H locs ls hw hS hl)
    · rintro sh2 V3 Rf2 ad2 rv ⟨Ds3, Df3, V4, c3, r3, ho, rfl, rfl, rfl, hag, hgr, rfl⟩
      subst ho
      obtain ⟨g1, g2, g3, g4, g5⟩ := gz_in5 h
      dsimp only at g1 g2 g3 g4 g5
      subst g1; subst g2; subst g4
      have em : ad (10, 0, 0) = ad2 (10, 0, 0) := (hag _ (Or.inl (gz_nn xs_main))).symm
      rw [em]
      have hc3 : c3 ≤ c + 1000 := hc2
      refine gz_goto (tgt := 28) hX dX0_text_24 (by decide) ?_
      refine tend _ _ _ W2 ad2 r3 _ _ ?_ g3 (by show 0 + (c3 - c) ≤ 1000; omega) (by show 0 + 24 * (c3 - c) ≤ 24000; omega)
      rw [h5]
      exact ⟨rfl, rfl, rfl, hag, by rw [g5]⟩
