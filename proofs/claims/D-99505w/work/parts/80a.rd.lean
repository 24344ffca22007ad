/-! READER's constructor; ClaspedFair.reads. Printed by wip/D-99505w/gen/mkrd.py -/
set_option maxRecDepth 100000
def rm_x7_init : Room := { frames := 1, cells := 1, slots := 12, locals := 12 }
def x7_Fi (Ds : gz_S) (Df : gz_R) (V : gz_V) (ad : gz_A0) (u : gz_N) (c : Nat) (k : Int32) : gz_Fi := fun sh3 V3 Rf3 ad3 rv => sh3 = xw_s (gz_us Ds (98, c, 0) (100, 12)) ∧ V3 = gz_up (gz_uz V (98, c, 0)) u 0 k ∧ Rf3 = xw_c (gz_ur (gz_un (gz_ur Df u 8 (some (10, 0, 0))) (98, c, 0)) u 1 (some (98, c, 0))) ∧ (∀ x, x ≠ (98, c, 0) → ad3 x = ad x) ∧ rv = none
theorem nn_x7_init : yX7_init.cls ≠ "java/lang/invoke/MethodHandle" ∧ yX7_init.cls ≠ "java/lang/invoke/VarHandle" ∧ (parseMethodDescriptor yX7_init.desc).map (fun d => d.parameters.length) = some 2 := by decide +kernel
theorem c_x7_init {l : Launch} {D : va_G} {aC : Nat → ClassId} {ad : gz_A0} {Ds : gz_S} {Df : gz_R} {V : gz_V} {u : gz_N} {c : Nat} {k : Int32} (hu : 90 ≤ u.1 ∧ Ds u = some (7, 9)) (hf : Ds (98, c, 0) = none) : gz_Met l yX7_init cX7_init 3 none rm_x7_init D aC ad (xw_s Ds) V (xw_c Df) [.ref (ad u), .ref (ad (10, 0, 0)), .int k] (x7_Fi Ds Df V ad u c k) 1 12 := by
  refine gz_ofW (own := RX7) (mn := "<init>") (lv := [(0, .ref (ad u)), (1, .ref (ad (10, 0, 0))), (2, .int k)]) (by decide) rfl rfl (Nat.le_of_ble_eq_true rfl) rfl ?_
  intro X hX _ _ _ h5 h6 h7 hE
  have h0 : u.1 ≠ 0 := by have := hu.1; omega
  have hun : u ≠ (98, c, 0) := fun e => by rw [e, hf] at hu; cases hu.2
  refine gz_aload_n (q := 0) hX dX7_init_0 rfl rfl ?_
  refine gz_aload_n (q := 1) hX dX7_init_1 rfl rfl ?_
  refine gn_putR (ci := 7) (b := (10, 0, 0)) hX in_X7 (gz_apart hX in_X7 tyX7 tyX7_ok nmX7 rfl) (by decide) rfl (xs_dyn hu) h0 8 (by decide) q529 rfl rfl rfl (tyX7_ok 8 (by decide)) rfl rfl (gz_nn xs_main) dX7_init_2 ?_
  refine gz_aload_n (q := 0) hX dX7_init_5 rfl rfl ?_
  refine gn_obj0 hX q519 (by decide) dX7_init_6 ?_
  rw [gp_xur hu.1]
  refine gz_aload_n (q := 0) hX dX7_init_9 rfl rfl ?_
  refine gz_bipush (v := 12) hX dX7_init_10 gl_b_12 ?_
  refine gz_newa (t := 100) (t0 := 0) (L := 12) (atype := .int) (nm := (98, c, 0)) (lvF := fun ad => [(0, .ref (ad u)), (1, .ref (ad (10, 0, 0))), (2, .int k)]) (stF := fun ad => [.ref (ad u)]) hX q237 (fun _ => rfl) (by decide) (by decide) (fun U cA h => va_nm_int h) rfl (by decide) (by decide) (by decide) (Nat.le_of_ble_eq_true rfl) (Nat.le_of_ble_eq_true rfl) (by rw [gp_xs (by show 90 ≤ 98; decide)]; exact hf) (by show (98 : Nat) ≠ 0; decide) (fun ad2 h2 => by have e1 := h2 u hun; have e2 := h2 (10, 0, 0) (fun e => by cases e); exact ⟨by simp only [e1, e2], by simp only [e1]⟩) dX7_init_12 (fun ad2 h2 => ?_)
  rw [cd_us (by decide), cd_un (by decide)]
  have hu2 : 90 ≤ u.1 ∧ gz_us Ds (98, c, 0) (100, 12) u = some (7, 9) := ⟨hu.1, by rw [gz_us_ne hun]; exact hu.2⟩
  refine gn_putR (ci := 7) (b := (98, c, 0)) hX in_X7 (gz_apart hX in_X7 tyX7 tyX7_ok nmX7 rfl) (by decide) rfl (xs_dyn hu2) h0 1 (by decide) q521 rfl rfl rfl (tyX7_ok 1 (by decide)) rfl rfl (by rw [gp_xs (by show 90 ≤ 98; decide), gz_us_eq]; exact fun z => by cases z) dX7_init_14 ?_
  rw [gp_xur hu.1]
  refine gz_aload_n (q := 0) hX dX7_init_17 rfl rfl ?_
  refine gz_iload_n (q := 2) hX dX7_init_18 rfl rfl ?_
  refine gn_putI (ci := 7) hX in_X7 (gz_apart hX in_X7 tyX7 tyX7_ok nmX7 rfl) (by decide) rfl (xs_dyn hu2) h0 0 (by decide) q520 rfl rfl rfl (tyX7_ok 0 (by decide)) rfl rfl dX7_init_19 ?_
  exact gn_ret hX hE h5 h6 h7 ⟨rfl, rfl, rfl, h2, rfl⟩ dX7_init_22
/-! reads -/
noncomputable def x0_reads (N : Nat) (Ds : gz_S) (Df : gz_R) (V : gz_V) (c : Nat) (a1 : Int32) : gp_O Int32 :=
  gp_nw (7, 9) Ds Df V c (fun Ds1 Df1 V1 c1 => gp_nw (100, 12) Ds1 (gz_ur Df1 (98, c, 0) 8 (some (10, 0, 0))) V1 c1 (fun Ds2 Df2 V2 c2 => gz_let (gz_ur Df2 (98, c, 0) 1 (some (98, c1, 0))) (fun Df3 => gz_let (gz_up V2 (98, c, 0) 0 a1) (fun V3 =>
    if a1 = 0 then gp_bx c2 (x7_law N c Ds2 Df3 V3 c2 (98, c, 0)) (fun Ds4 Df4 V4 c4 r => gz_let (gz_ur Df4 (20, 0, 0) 9 (some r)) (fun Df5 => some (.inr (Ds4, Df5, V4, c4, V4 r 2))))
    else if a1 = 1 then gp_bx c2 (x7_fair N c Ds2 Df3 V3 c2 (98, c, 0)) (fun Ds4 Df4 V4 c4 r => gz_let (gz_ur Df4 (20, 0, 0) 10 (some r)) (fun Df5 => gz_b2 (x0_forgets V4) (fun V5 _ => some (.inr (Ds4, Df5, V5, c4, V5 r 2)))))
    else if a1 = 2 then gp_bx c2 (x7_habits N c Ds2 Df3 V3 c2 (98, c, 0)) (fun Ds4 Df4 V4 c4 r => gz_let (gz_ur Df4 (20, 0, 0) 11 (some r)) (fun Df5 => gz_b2 (x0_forgets V4) (fun V5 _ => some (.inr (Ds4, Df5, V5, c4, V5 r 2)))))
    else gp_bx c2 (x7_kin N c Ds2 Df3 V3 c2 (98, c, 0)) (fun Ds4 Df4 V4 c4 r => gz_let (gz_ur Df4 (20, 0, 0) 12 (some r)) (fun Df5 => gz_let (gz_up V4 (20, 0, 0) 20 (V4 (98, c, 0) 7)) (fun V5 => some (.inr (Ds4, Df5, V5, c4, V5 (98, c, 0) 7)))))))))
def x0_rFi (Ds : gz_S) (ad : gz_A0) (o : gp_R Int32) : gz_Fi := fun sh3 V3 Rf3 ad3 rv => ∃ (Ds2 : gz_S) (Df2 : gz_R) (V2 : gz_V) (c2 : Nat) (r : Int32), o = .inr (Ds2, Df2, V2, c2, r) ∧ sh3 = xw_s Ds2 ∧ V3 = V2 ∧ Rf3 = xw_c Df2 ∧ gz_ag (xw_s Ds) ad ad3 ∧ gp_gr Ds Ds2 ∧ rv = some (.int r)
theorem x0_ag {Ds : gz_S} {ad ad2 : gz_A0} {n : gz_N} (h : gz_ag (xw_s Ds) ad ad2) (hn : xw_s Ds n ≠ none) : ad2 n = ad n := h n (Or.inl hn)
section RDE
variable {X : gz_X} {cc : ByteArray} {own mn : String} {nL : Nat} {rm : Room} {B : gp_B} {E : gp_E} {P : gz_S → Int32 → Prop} {o : gp_R Int32} {F L : Nat} {Ds : gz_S} {Df Df0 : gz_R} {V V0 : gz_V} {c : Nat} {ad : gz_A0} {pc : Nat} {lv : List (Nat × Value)}
theorem x0_rret {r : Int32} (hX : gz_ok X cc own mn nL rm (some .int)) (hE : gp_end X B E P gp_rI o F L) (h5 : gx_F X = x0_rFi E.1 E.2.1 o) (hI : gp_in B E Ds Df0 V0 c ad) (h : (some (.inr (Ds, Df, V, c, r)) : gp_O Int32) = some o) (hdg : decode cc pc = .ok (.ireturn, 1)) : gW X nL (xw_s Ds) (xw_c Df) ad V (c - E.2.2.1) (24 * (c - E.2.2.1)) pc lv [.int r] := by
  have ho := (Option.some.inj h).symm
  have hct : gp_ct o = c := by rw [ho]; rfl
  have g := gy_iret (sh := xw_s Ds) (V := V) (Rf := xw_c Df) (ad := ad) (pc := pc) (lv := lv) (x := r) hX hE.1 (by rw [h5]; exact ⟨Ds, Df, V, c, r, ho, rfl, rfl, rfl, hI.2.1, hI.2.2.1, rfl⟩) hdg
  rw [hE.2.2.1, hE.2.2.2.1, hct] at g
  exact g
end RDE
theorem c_x0_reads {l : Launch} {D : va_G} {aC : Nat → ClassId} {ad : gz_A0} {N : Nat} {Ds : gz_S} {Df : gz_R} {V : gz_V} {c : Nat} {a1 : Int32} {o : gp_R Int32} (htr : l.stackTraces = false) (hcl : gp_cl Ds Df) (h97 : Ds (97, 0, 0) = none) (hfree : ∀ n : gz_N, n.1 = 98 → c ≤ n.2.1 → Ds n = none) (hct : c ≤ gp_ct o) (h : x0_reads N Ds Df V c a1 = some o) : gy_Mt l yX0_reads cX0_reads 3 (some .int) (gp_rm 46 960 (gp_ct o - c)) D aC ad (xw_s Ds) V (xw_c Df) [.ref (ad (10, 0, 0)), .int a1] (x0_rFi Ds ad o) (gp_Fx (Ds, Df, V, ad, c) o) (gp_ct o - c) (24 * (gp_ct o - c)) := by
  refine gy_of (own := RX0) (mn := "reads") (lv := [(0, .ref (ad (10, 0, 0))), (1, .int a1)]) (by decide) rfl rfl (Nat.le_of_ble_eq_true rfl) rfl (fun X hX h1 h2 h3 h4 h5 h6 h7 => ?_)
  have hE : gp_end X (Ds, Df, V, ad, c) (Ds, ad, c, gp_ct o) (fun _ _ => False) gp_rI o 46 960 := ⟨h7, fun _ _ _ _ _ hf => by obtain ⟨_, _, _, _, _, _, _, _, _, _, _, _, hf, _⟩ := hf; exact hf.elim, h5, h6, by rw [h1]; exact htr, rfl, hX.2.2.2.2.2.2.2.2.1⟩
  have hI : gp_in (Ds, Df, V, ad, c) (Ds, ad, c, gp_ct o) Ds Df V c ad := ⟨⟨gp_gr.rf, fun _ _ => ⟨rfl, rfl⟩, fun _ _ => rfl, hcl, h97, fun n hn => hfree n hn.1 hn.2, hfree, Nat.le_refl _⟩, gz_ag.rf, gp_gr.rf, Nat.le_refl _, hct⟩
  have goal : gW X 3 (xw_s Ds) (xw_c Df) ad V (c - c) (24 * (c - c)) 0 [(0, .ref (ad (10, 0, 0))), (1, .int a1)] [] := by
    rw [x0_reads] at h
    obtain ⟨Ds1, Df1, V1, c1, e1, h⟩ := gp_nw_o h
    refine gp_new (ci := 7) hX hE hI e1 in_X7 tyX7_ok (by decide) rfl q514 q515 q157 (by decide) (by decide) (fun ad => [(0, .ref (ad (10, 0, 0))), (1, .int a1)]) (fun _ => []) (fun ad2 h2 => by have e0 := h2 (10, 0, 0) (Or.inl (gz_nn xs_main)); exact ⟨by simp only [e0], rfl⟩) dX0_reads_0 (fun hgr hj hjn => ?_)
    intro ad hI
    refine gz_dupa hX dX0_reads_3 ?_
    refine gz_aload_n (q := 0) hX dX0_reads_4 rfl rfl ?_
    refine gz_iload_n (q := 1) hX dX0_reads_5 rfl rfl ?_
    have hle := hI.2.2.2.1
    have hf1 := hI.1.free
    have hun : ((98, c, 0) : gz_N) ≠ (98, c1, 0) := fun e => by rw [e, hf1] at hj; cases hj
    obtain ⟨Ds2, Df2, V2, c2, ⟨rfl, rfl, rfl, rfl, hc2⟩, h⟩ := gp_nw_o h
    refine gn_callI (n := (98, c, 0)) (As := [.ref (ad (10, 0, 0)), .int a1]) (rest := [.ref (ad (98, c, 0))]) hX (c_x7_init (c := c1) ⟨gp_90 hjn, hj⟩ hf1) (lw_meth q518) q157 q516 q517 rfl rfl rfl nn_x7_init ⟨Nat.le_of_ble_eq_true rfl, Nat.le_of_ble_eq_true rfl⟩ ?_ rfl rfl (Nat.le_of_ble_eq_true rfl) dX0_reads_6 ?_
    · have hle : c ≤ c1 := hle
      show c1 - c + 1 ≤ gp_ct o - c ∧ 24 * (c1 - c) + 12 ≤ 24 * (gp_ct o - c)
      omega
    rintro sh2 V2 Rf2 ad2 rv ⟨rfl, rfl, rfl, ha2, rfl⟩
    have em : ad (10, 0, 0) = ad2 (10, 0, 0) := (ha2 _ (fun e => by cases e)).symm
    have eu : ad (98, c, 0) = ad2 (98, c, 0) := (ha2 _ hun).symm
    show gW X 3 _ _ ad2 _ _ _ _ [(0, .ref (ad (10, 0, 0))), (1, .int a1)] [.ref (ad (98, c, 0))]
    rw [em, eu]
    refine gz_widen (k := c1 + 1 - c) (n := 24 * (c1 + 1 - c)) (by have hle : c ≤ c1 := hle; show c1 - c + 1 ≤ _; omega) (by have hle : c ≤ c1 := hle; show 24 * (c1 - c) + 12 ≤ _; omega) ?_
    have hI2 := (hI.ur (f := 8) (x := some (10, 0, 0)) hjn rfl).new (t := (100, 12)) (by rw [hE.2.2.2.2.2.1]; exact hc2) ha2
    have hj : 90 ≤ ((98, c, 0) : gz_N).1 ∧ gz_us Ds1 (98, c1, 0) (100, 12) (98, c, 0) = some (7, 9) := ⟨by show 90 ≤ 98; decide, by rw [gz_us_ne hun]; exact hj⟩
    obtain ⟨Df3, e3, h⟩ := gz_let_o h
    obtain ⟨V3, e4, h⟩ := gz_let_o h
    have hI := (hI2.ur hjn e3).up hjn e4
    clear hI2
    rw [e3, e4]
    generalize gz_us Ds1 (98, c1, 0) (100, 12) = Ds2 at hI hj h ⊢
    clear em eu ha2 e3 e4 hun
    generalize ad2 = ad at hI ⊢
    generalize hu' : ((98, c, 0) : gz_N) = u at hj hjn h ⊢
    refine gz_astore_n (lv2 := [(2, .ref (ad u)), (0, .ref (ad (10, 0, 0))), (1, .int a1)]) hX dX0_reads_9 rfl (by decide) rfl ?_
    refine gz_iload_n (q := 2) hX dX0_reads_10 rfl rfl ?_
    have hFm : ∀ {Ds : gz_S} (ad ad2 : gz_A0), 90 ≤ u.1 ∧ Ds u = some (7, 9) → gz_ag (xw_s Ds) ad ad2 → [(2, Value.ref (ad2 u)), (0, .ref (ad2 (10, 0, 0))), (1, .int a1)] = [(2, Value.ref (ad u)), (0, .ref (ad (10, 0, 0))), (1, .int a1)] ∧ [Value.ref (ad2 (20, 0, 0))] = [Value.ref (ad (20, 0, 0))] := fun ad ad2 hu h2 => by
      have e0 := h2 (10, 0, 0) (Or.inl (gz_nn xs_main))
      have e1 := h2 (20, 0, 0) (Or.inl (gz_nn (xs_M (by decide))))
      have e2 := h2 u (Or.inl (gz_nn (xs_dyn hu)))
      exact ⟨by rw [e0, e2], by rw [e1]⟩
    by_cases k0 : a1 = 0
    · have h := gz_ifp k0 h
      refine gz_tableAt (v := 0) (tgt := 36) hX dX0_reads_11 k0 (by decide) (by decide) rfl (by decide) ?_
      refine gz_aload_n (q := 1) hX dX0_reads_36 rfl rfl ?_
      refine xg_X0_20 (n2 := (20, 0, 0)) hX xs_main rfl dX0_reads_37 ?_
      refine gz_aload_n (q := 0) hX dX0_reads_40 rfl rfl ?_
      refine gp_call (ci := 7) (n := u) (As := []) hX hE hI h (fun o1 e1 hc1 => c_x7_law hE.2.2.2.2.1 hI.1 hc1 hj hjn rfl e1) (lw_x7_law_ q549) nn_x7_law ⟨Nat.le_of_ble_eq_true rfl, Nat.le_of_ble_eq_true rfl⟩ (by decide) rfl (xs_dyn hj) rfl (fun ad => [(2, .ref (ad u)), (0, .ref (ad (10, 0, 0))), (1, .int a1)]) (fun ad => [.ref (ad (20, 0, 0))]) rfl (Nat.le_of_ble_eq_true rfl) (fun ad2 h2 => hFm ad ad2 hj h2) dX0_reads_41 (fun Ds4 Df4 V4 c4 r h hgr hP => ?_)
      have hj := gp_up hgr hj
      intro ad hI
      obtain ⟨Df5, e5, h⟩ := gz_let_o h
      have hrs : 90 ≤ r.1 ∧ Ds4 r = some (18, 3) := ⟨(by have := hP.1; omega), hP.2⟩
      refine xp_X0_80 (n2 := r) hX (xs_M (by decide)) (gz_ne0 19 rfl) (Or.inl (gz_nn (xs_dyn hrs))) dX0_reads_44 (Rf2 := xw_c Df5) (by rw [← e5, xr_urM (by decide)]) ?_
      refine gz_aload_n (q := 1) hX dX0_reads_47 rfl rfl ?_
      refine xg_X0_20 (n2 := (20, 0, 0)) hX xs_main rfl dX0_reads_48 ?_
      refine xg_X0_80 (n2 := r) hX (xs_M (by decide)) (by rw [xr_M (by decide), ← e5, gz_ur_eq]; rfl) dX0_reads_51 ?_
      refine gu_callV (ci := 18) (n := r) (As := []) hX (c_j2_size hrs rfl) (lw_j2_size_ q913) rfl rfl nn_j2_size ⟨Nat.le_of_ble_eq_true rfl, Nat.le_of_ble_eq_true rfl⟩ (gp_hf hX hE hI) (by decide) rfl (xs_dyn hrs) rfl rfl (Nat.le_of_ble_eq_true rfl) dX0_reads_54 rfl ?_
      exact x0_rret hX hE h4 hI h dX0_reads_57
    · have h := gz_ifn k0 h
      by_cases k1 : a1 = 1
      · have h := gz_ifp k1 h
        refine gz_tableAt (v := 1) (tgt := 58) hX dX0_reads_11 k1 (by decide) (by decide) rfl (by decide) ?_
        refine gz_aload_n (q := 1) hX dX0_reads_58 rfl rfl ?_
        refine xg_X0_20 (n2 := (20, 0, 0)) hX xs_main rfl dX0_reads_59 ?_
        refine gz_aload_n (q := 0) hX dX0_reads_62 rfl rfl ?_
        refine gp_call (ci := 7) (n := u) (As := []) hX hE hI h (fun o1 e1 hc1 => c_x7_fair hE.2.2.2.2.1 hI.1 hc1 hj hjn rfl e1) (lw_x7_fair_ q914) nn_x7_fair ⟨Nat.le_of_ble_eq_true rfl, Nat.le_of_ble_eq_true rfl⟩ (by decide) rfl (xs_dyn hj) rfl (fun ad => [(2, .ref (ad u)), (0, .ref (ad (10, 0, 0))), (1, .int a1)]) (fun ad => [.ref (ad (20, 0, 0))]) rfl (Nat.le_of_ble_eq_true rfl) (fun ad2 h2 => hFm ad ad2 hj h2) dX0_reads_63 (fun Ds4 Df4 V4 c4 r h hgr hP => ?_)
        have hj := gp_up hgr hj
        intro ad hI
        obtain ⟨Df5, e5, h⟩ := gz_let_o h
        have hrs : 90 ≤ r.1 ∧ Ds4 r = some (18, 3) := ⟨(by have := hP.1; omega), hP.2⟩
        refine xp_X0_92 (n2 := r) hX (xs_M (by decide)) (gz_ne0 19 rfl) (Or.inl (gz_nn (xs_dyn hrs))) dX0_reads_66 (Rf2 := xw_c Df5) (by rw [← e5, xr_urM (by decide)]) ?_
        refine gz_aload_n (q := 1) hX dX0_reads_69 rfl rfl ?_
        obtain ⟨V5, r5, e6, h⟩ := gz_b2_o h
        refine gu_callV (ci := 0) (n := (10, 0, 0)) (As := []) hX (c_x0_forgets e6) (lw_x0_forgets_ q949) rfl rfl nn_x0_forgets ⟨Nat.le_of_ble_eq_true rfl, Nat.le_of_ble_eq_true rfl⟩ (gp_hf hX hE hI) (by decide) rfl xs_main rfl rfl (Nat.le_of_ble_eq_true rfl) dX0_reads_70 rfl ?_
        refine gz_pop hX dX0_reads_73 rfl ?_
        refine gz_aload_n (q := 1) hX dX0_reads_74 rfl rfl ?_
        refine xg_X0_20 (n2 := (20, 0, 0)) hX xs_main rfl dX0_reads_75 ?_
        refine xg_X0_92 (n2 := r) hX (xs_M (by decide)) (by rw [xr_M (by decide), ← e5, gz_ur_eq]; rfl) dX0_reads_78 ?_
        refine gu_callV (ci := 18) (n := r) (As := []) hX (c_j2_size hrs rfl) (lw_j2_size_ q913) rfl rfl nn_j2_size ⟨Nat.le_of_ble_eq_true rfl, Nat.le_of_ble_eq_true rfl⟩ (gp_hf hX hE hI) (by decide) rfl (xs_dyn hrs) rfl rfl (Nat.le_of_ble_eq_true rfl) dX0_reads_81 rfl ?_
        exact x0_rret hX hE h4 hI h dX0_reads_84
      · have h := gz_ifn k1 h
        by_cases k2 : a1 = 2
        · have h := gz_ifp k2 h
          refine gz_tableAt (v := 2) (tgt := 85) hX dX0_reads_11 k2 (by decide) (by decide) rfl (by decide) ?_
          refine gz_aload_n (q := 1) hX dX0_reads_85 rfl rfl ?_
          refine xg_X0_20 (n2 := (20, 0, 0)) hX xs_main rfl dX0_reads_86 ?_
          refine gz_aload_n (q := 0) hX dX0_reads_89 rfl rfl ?_
          refine gp_call (ci := 7) (n := u) (As := []) hX hE hI h (fun o1 e1 hc1 => c_x7_habits hE.2.2.2.2.1 hI.1 hc1 hj hjn rfl e1) (lw_x7_habits_ q953) nn_x7_habits ⟨Nat.le_of_ble_eq_true rfl, Nat.le_of_ble_eq_true rfl⟩ (by decide) rfl (xs_dyn hj) rfl (fun ad => [(2, .ref (ad u)), (0, .ref (ad (10, 0, 0))), (1, .int a1)]) (fun ad => [.ref (ad (20, 0, 0))]) rfl (Nat.le_of_ble_eq_true rfl) (fun ad2 h2 => hFm ad ad2 hj h2) dX0_reads_90 (fun Ds4 Df4 V4 c4 r h hgr hP => ?_)
          have hj := gp_up hgr hj
          intro ad hI
          obtain ⟨Df5, e5, h⟩ := gz_let_o h
          have hrs : 90 ≤ r.1 ∧ Ds4 r = some (18, 3) := ⟨(by have := hP.1; omega), hP.2⟩
          refine xp_X0_101 (n2 := r) hX (xs_M (by decide)) (gz_ne0 19 rfl) (Or.inl (gz_nn (xs_dyn hrs))) dX0_reads_93 (Rf2 := xw_c Df5) (by rw [← e5, xr_urM (by decide)]) ?_
          refine gz_aload_n (q := 1) hX dX0_reads_96 rfl rfl ?_
          obtain ⟨V5, r5, e6, h⟩ := gz_b2_o h
          refine gu_callV (ci := 0) (n := (10, 0, 0)) (As := []) hX (c_x0_forgets e6) (lw_x0_forgets_ q949) rfl rfl nn_x0_forgets ⟨Nat.le_of_ble_eq_true rfl, Nat.le_of_ble_eq_true rfl⟩ (gp_hf hX hE hI) (by decide) rfl xs_main rfl rfl (Nat.le_of_ble_eq_true rfl) dX0_reads_97 rfl ?_
          refine gz_pop hX dX0_reads_100 rfl ?_
          refine gz_aload_n (q := 1) hX dX0_reads_101 rfl rfl ?_
          refine xg_X0_20 (n2 := (20, 0, 0)) hX xs_main rfl dX0_reads_102 ?_
          refine xg_X0_101 (n2 := r) hX (xs_M (by decide)) (by rw [xr_M (by decide), ← e5, gz_ur_eq]; rfl) dX0_reads_105 ?_
          refine gu_callV (ci := 18) (n := r) (As := []) hX (c_j2_size hrs rfl) (lw_j2_size_ q913) rfl rfl nn_j2_size ⟨Nat.le_of_ble_eq_true rfl, Nat.le_of_ble_eq_true rfl⟩ (gp_hf hX hE hI) (by decide) rfl (xs_dyn hrs) rfl rfl (Nat.le_of_ble_eq_true rfl) dX0_reads_108 rfl ?_
          exact x0_rret hX hE h4 hI h dX0_reads_111
        · have h := gz_ifn k2 h
          refine gz_tableOut (tgt := 112) hX dX0_reads_11 (by have := lv_neT k0 (a := 0) rfl; have := lv_neT k1 (a := 1) rfl; have := lv_neT k2 (a := 2) rfl; omega) (by decide) ?_
          refine gz_aload_n (q := 1) hX dX0_reads_112 rfl rfl ?_
          refine xg_X0_20 (n2 := (20, 0, 0)) hX xs_main rfl dX0_reads_113 ?_
          refine gz_aload_n (q := 0) hX dX0_reads_116 rfl rfl ?_
          refine gp_call (ci := 7) (n := u) (As := []) hX hE hI h (fun o1 e1 hc1 => c_x7_kin hE.2.2.2.2.1 hI.1 hc1 hj hjn rfl e1) (lw_x7_kin_ q1011) nn_x7_kin ⟨Nat.le_of_ble_eq_true rfl, Nat.le_of_ble_eq_true rfl⟩ (by decide) rfl (xs_dyn hj) rfl (fun ad => [(2, .ref (ad u)), (0, .ref (ad (10, 0, 0))), (1, .int a1)]) (fun ad => [.ref (ad (20, 0, 0))]) rfl (Nat.le_of_ble_eq_true rfl) (fun ad2 h2 => hFm ad ad2 hj h2) dX0_reads_117 (fun Ds4 Df4 V4 c4 r h hgr hP => ?_)
          have hj := gp_up hgr hj
          intro ad hI
          obtain ⟨Df5, e5, h⟩ := gz_let_o h
          have hrs : 90 ≤ r.1 ∧ Ds4 r = some (100, 12) := ⟨hP.1, hP.2⟩
          refine xp_X0_107 (n2 := r) hX (xs_M (by decide)) (gz_ne0 19 rfl) (Or.inl (gz_nn (xs_dyn hrs))) dX0_reads_120 (Rf2 := xw_c Df5) (by rw [← e5, xr_urM (by decide)]) ?_
          refine gz_aload_n (q := 1) hX dX0_reads_123 rfl rfl ?_
          refine xg_X0_20 (n2 := (20, 0, 0)) hX xs_main rfl dX0_reads_124 ?_
          refine gz_aload_n (q := 0) hX dX0_reads_127 rfl rfl ?_
          refine xg_X0_109 hX (xs_dyn hj) dX0_reads_128 ?_
          obtain ⟨V5, e6, h⟩ := gz_let_o h
          refine xp_X0_112 hX (xs_M (by decide)) (gz_ne0 19 rfl) dX0_reads_131 e6 ?_
          refine gz_aload_n (q := 0) hX dX0_reads_134 rfl rfl ?_
          refine xg_X0_109 hX (xs_dyn hj) dX0_reads_135 ?_
          exact x0_rret hX hE h4 hI h dX0_reads_138
  rw [Nat.sub_self] at goal
  exact goal
theorem lw_x0_reads_ {o : String} {i : Nat} (hl : Cond.methodLink o i yX0_reads ∈ lw_all) : GoodIn lw_all (wsV o i RX0 yX0_reads (ws_ yX0_reads cX0_reads 3 (some .int))) := lw_V hl q512 qs1 q144 q513
theorem nn_x0_reads : yX0_reads.cls = RX0 ∧ yX0_reads.cls ≠ "java/lang/invoke/MethodHandle" ∧ yX0_reads.cls ≠ "java/lang/invoke/VarHandle" ∧ (parseMethodDescriptor yX0_reads.desc).map (fun d => d.parameters.length) = some 1 := by decide +kernel
