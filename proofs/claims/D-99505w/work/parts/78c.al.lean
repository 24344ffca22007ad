/-! ArrayList.add. Printed by wip/D-99505w/gen/mkal.py -/
set_option maxRecDepth 100000
theorem gp_el.isO {Ds : gz_S} {e : gz_N} (h : gp_el Ds e) : gz_isO (xw_s Ds) e := by
  have h9 : 90 ≤ e.1 := by have := h.1; omega
  rcases h.2 with h2 | h2 | h2 | h2 | h2
  · exact ⟨13, 3, _, xs_dyn ⟨h9, h2⟩, by decide, rfl, q2226⟩
  · exact ⟨14, 5, _, xs_dyn ⟨h9, h2⟩, by decide, rfl, q2227⟩
  · exact ⟨15, 3, _, xs_dyn ⟨h9, h2⟩, by decide, rfl, q2228⟩
  · exact ⟨16, 4, _, xs_dyn ⟨h9, h2⟩, by decide, rfl, q2229⟩
  · exact ⟨17, 3, _, xs_dyn ⟨h9, h2⟩, by decide, rfl, q2230⟩
theorem gz_mod {X : gz_X} {cc : ByteArray} {own mn : String} {nL : Nat} {rm : Room} {ret : Option FieldType} (hX : gz_ok X cc own mn nL rm ret) {c i : Nat} {k : Class} {f : Field} (hi : (gx_s X).fieldFound? "java/util/AbstractList" "modCount" "I" = some (c, k, i, f)) : (gx_s X).fieldFound? "java/util/ArrayList" "modCount" "I" = some (c, k, i, f) := by
  have hs := hX.2.2.2.2.1 _ q274
  cases hq : (gx_s X).fieldFound? "java/util/ArrayList" "modCount" "I" with
  | none =>
    unfold Cond.before Cond.holds at hs
    simp [Cond.value, hq] at hs
  | some z =>
    obtain ⟨c1, k1, i1, f1⟩ := z
    have h2 := Cond.sameField_spec hq hs
    rw [hi] at h2
    exact h2.symm
section ALD
variable {X : gz_X} {cc : ByteArray} {own mn : String} {nL : Nat} {rm : Room} {ret : Option FieldType} {sh : gz_S} {Rf : gz_R} {ad : gz_A0} {V V2 : gz_V} {ce sl pc N0 : Nat} {lv : List (Nat × Value)} {st : List Value} {n : gz_N}
theorem xg_mod (hX : gz_ok X cc RJ2 mn nL rm ret) (hsh : sh n = some (18, N0)) (hdg : decode cc pc = .ok (.getfield 63, 3)) (k : gW X nL sh Rf ad V ce sl (pc + 3) lv (.int (V n 0) :: st)) : gW X nL sh Rf ad V ce sl pc lv (.ref (ad n) :: st) := by
  intro H locs ls hw hS hl
  obtain ⟨cell, q1, q2, q3, q4⟩ := gz_obj (ci := 18) hw hsh (by decide) rfl
  obtain ⟨hSl, hfc, kC, hkC, hkind⟩ := hX.2.2.2.2.2.1.1 18 _ rfl
  obtain ⟨cf, kf, fi, fd, hi, hsl⟩ := hSl 0 (by decide)
  refine W.getf hX.1 hX.2.1 hX.2.2.2.1 (hX.2.2.2.2.1 _ q273) (gz_mod hX hi) (u_facts hfc hkC (u_lays hX.2.2.2.2.1 in_J2 (by decide)) hi).1 q1 (by rw [q3]; exact fun h => by cases h) (v := .int (V n 0)) ?_ rfl rfl hdg (k H locs ls hw hS hl)
  rw [hsl, q4 0 (by decide)]
  rfl
theorem xp_mod (hX : gz_ok X cc RJ2 mn nL rm ret) (hsh : sh n = some (18, N0)) (hn0 : n.1 ≠ 0) {x : Int32} (hdg : decode cc pc = .ok (.putfield 63, 3)) (hV : gz_up V n 0 x = V2) (k : gW X nL sh Rf ad V2 ce sl (pc + 3) lv st) : gW X nL sh Rf ad V ce sl pc lv (.int x :: .ref (ad n) :: st) := by
  intro H locs ls hw hS hl
  subst hV
  obtain ⟨cell, q1, q2, q3, q4⟩ := gz_obj (ci := 18) hw hsh (by decide) rfl
  obtain ⟨hSl, hfc, kC, hkC, hkind⟩ := hX.2.2.2.2.2.1.1 18 _ rfl
  obtain ⟨cf, kf, fi, fd, hi, hsl⟩ := hSl 0 (by decide)
  have hlay := hX.2.2.2.2.1 _ (in_J2 _ (u_in_lay (show 0 < 3 by decide)))
  unfold u_lay at hlay
  rw [if_neg (show ¬ (TJ2 0).2.2.2 = true by decide)] at hlay
  have hst := (u_facts hfc hkC (u_lays hX.2.2.2.2.1 in_J2 (by decide)) hi).1
  have h6 := u_store hfc hkC hkind hlay hi (tyJ2_ok 0 (by decide)) (v := .int x) rfl rfl
  refine W.putK hX.1 hX.2.1 (f := fd) ⟨hX.2.2.2.1, hX.2.2.2.2.1 _ q273, ⟨_, _, _, gz_mod hX hi⟩, hst⟩ (by rw [q2]; exact h6) q1 q3 (by rw [hsl]; exact k2_hasslot (q4 0 (by decide))) rfl rfl hdg fun H' e1 e2 e3 => ?_
  rw [hsl] at e1 ⊢
  have hne : sh n ≠ none := by rw [hsh]; exact fun z => by cases z
  refine k H' _ ls (hw.put hne (fun a h => gz_up_ne h) (fun _ _ => rfl) e3 (fun g b hb h0 => hw.2.2.2.1 n g b hne hb h0) (fun t ht => ?_)) (hS.put e2 e3 (hw.2.2.1 n hne hn0)) hl
  cases hsh.symm.trans ht
  unfold gz_at
  rw [if_pos (show (18 : Nat) < 100 by decide)]
  exact ⟨_, rfl, t_OB.to ⟨_, e1, q2, q3, t_set q4 (gz_apart hX in_J2 tyJ2 tyJ2_ok nmJ2 rfl) (show 0 < 3 by decide) (.int x)⟩ (fun j _ => gz_fv_up rfl j)⟩
end ALD
def j2_len (Ds : gz_S) (a : gz_N) : Option Nat := if a = (0, 0, 0) then some 0 else gz_gd (90 ≤ a.1) (gz_q114 (Ds a))
theorem j2_len_o {Ds : gz_S} {a : gz_N} {L : Nat} (h : j2_len Ds a = some L) : (a = (0, 0, 0) ∧ L = 0) ∨ (90 ≤ a.1 ∧ Ds a = some (114, L)) := by
  unfold j2_len at h
  by_cases e : a = (0, 0, 0)
  · rw [if_pos e] at h
    cases h
    exact Or.inl ⟨e, rfl⟩
  · rw [if_neg e] at h
    obtain ⟨h1, h2⟩ := gz_gd_o h
    exact Or.inr ⟨h1, gz_q114_o h2⟩
theorem gz_alenB {X : gz_X} {cc : ByteArray} {own mn : String} {nL : Nat} {rm : Room} {ret : Option FieldType} {Ds : gz_S} {Rf : gz_R} {ad : gz_A0} {V : gz_V} {ce sl pc L : Nat} {lv : List (Nat × Value)} {st : List Value} {a : gz_N} (hX : gz_ok X cc own mn nL rm ret) (hL : (a = (0, 0, 0) ∧ L = 0) ∨ (90 ≤ a.1 ∧ Ds a = some (114, L))) (hdg : decode cc pc = .ok (.arraylength, 1)) (k : gW X nL (xw_s Ds) Rf ad V ce sl (pc + 1) lv (.int L.toInt32 :: st)) : gW X nL (xw_s Ds) Rf ad V ce sl pc lv (.ref (ad a) :: st) := by
  rcases hL with ⟨rfl, rfl⟩ | hL
  · exact gz_alenE hX hdg k
  · exact gz_alenq (t := 114) (t0 := 7) (ty := .object "java/lang/Object") hX (by decide) (by decide) (fun _ => rfl) (xs_dyn hL) rfl hdg k
section ALC
variable {α : Type} {X : gz_X} {cc : ByteArray} {own mn : String} {nL : Nat} {rm : Room} {ret : Option FieldType} {B : gp_B} {E : gp_E} {P : gz_S → α → Prop} {rvf : gz_A0 → α → Option Value} {o : gp_R α} {F L : Nat} {Ds : gz_S} {Df : gz_R} {V : gz_V} {c : Nat} {ad : gz_A0} {pc : Nat} {lv : List (Nat × Value)}
theorem gp_anewO (hX : gz_ok X cc own mn nL rm ret) (hE : gp_end X B E P rvf o F L) (hI : gp_in B E Ds Df V c ad) {index L2 : Nat} {n : Int32} {Ds2 : gz_S} {Df2 : gz_R} {V2 : gz_V} {c2 : Nat} (hN : Ds2 = gz_us Ds (98, c, 0) (114, L2) ∧ Df2 = gz_un Df (98, c, 0) ∧ V2 = gz_uz V (98, c, 0) ∧ c2 = c + 1 ∧ c2 ≤ gp_ct o) (hcl : Cond.classLink own index "java/lang/Object" ∈ lw_all) (hn : ¬ n < 0) (hnL : n.toNatClampNeg = L2)
    (hL2 : L2 ≤ 24) (lvF : gz_A0 → List (Nat × Value)) (stF : gz_A0 → List Value) (hF : ∀ ad2 : gz_A0, gz_ag (xw_s Ds) ad ad2 → lvF ad2 = lvF ad ∧ stF ad2 = stF ad) (hdg : decode cc pc = .ok (.anewarray index, 3))
    (k : gp_gr Ds Ds2 → Ds2 (98, c, 0) = some (114, L2) → gp_nn B (98, c, 0) → gP X nL B E Ds2 Df2 V2 c2 (pc + 3) lvF (fun ad => .ref (ad (98, c, 0)) :: stF ad)) : gW X nL (xw_s Ds) (xw_c Df) ad V (c - E.2.2.1) (24 * (c - E.2.2.1)) pc (lvF ad) (.int n :: stF ad) := by
  obtain ⟨rfl, rfl, rfl, rfl, hct⟩ := hN
  have hle := hI.2.2.2.1
  have hr : rm = gp_rm F L (gp_ct o - E.2.2.1) := by rw [← hX.2.2.2.2.2.2.2.2.1, hE.2.2.2.2.2.2]
  refine gz_anewO (nm := (98, c, 0)) hX hcl hn hnL (by omega) (by rw [hr]; show _ ≤ gp_ct o - E.2.2.1; omega) (by rw [hr]; show _ ≤ 24 * (gp_ct o - E.2.2.1); omega) (by rw [gp_xs (by show 90 ≤ 98; decide)]; exact hI.1.free) (by show (98 : Nat) ≠ 0; decide) (fun ad2 h => hF ad2 (gp_ag_of hI.1 h)) hdg (fun ad2 h => ?_)
  rw [cd_us (by decide), cd_un (by decide)]
  refine gz_widen (k := c + 1 - E.2.2.1) (n := 24 * (c + 1 - E.2.2.1)) (by omega) (by omega) ?_
  exact k (gp_gr.us hI.1.free) gz_us_eq (gp_nn.next hI.1) ad2 (hI.new (by rw [hE.2.2.2.2.2.1]; exact hct) h)
theorem gp_zret {P : gz_S → Int32 → Prop} {o : gp_R Int32} {r : Int32} (hX : gz_ok X cc own mn nL rm (some .boolean)) (hE : gp_end X B E P gp_rI o F L) (hI : gp_in B E Ds Df V c ad) (hn : narrow .boolean (.int r) = .int r) (hP : P Ds r) (h : (some (.inr (Ds, Df, V, c, r)) : gp_O Int32) = some o) (hdg : decode cc pc = .ok (.ireturn, 1)) : gW X nL (xw_s Ds) (xw_c Df) ad V (c - E.2.2.1) (24 * (c - E.2.2.1)) pc lv [.int r] := by
  have ho := (Option.some.inj h).symm
  have hct : gp_ct o = c := by rw [ho]; rfl
  have g := gy_zret (sh := xw_s Ds) (V := V) (Rf := xw_c Df) (ad := ad) (pc := pc) (lv := lv) (x := r) hX hE.1 hn (hE.2.1 _ _ _ _ _ ⟨Ds, Df, V, c, r, ho, rfl, rfl, rfl, hI.2.1, hI.1, hI.2.2.1, hP, rfl⟩) hdg
  rw [hE.2.2.1, hE.2.2.2.1, hct] at g
  exact g
end ALC
theorem j2_cap_o {L L2 : Nat} (h : j2_cap L = some L2) : (L = 10 ∧ L2 = 15) ∨ (L = 15 ∧ L2 = 22) := by
  unfold j2_cap at h
  split at h
  · rename_i e; cases h; exact Or.inl ⟨e, rfl⟩
  · split at h
    · rename_i e; cases h; exact Or.inr ⟨e, rfl⟩
    · cases h
theorem c_j2_grow_2 {l : Launch} {D : va_G} {aC : Nat → ClassId} {ad : gz_A0} {Ds : gz_S} {Df : gz_R} {V : gz_V} {c : Nat} {u a : gz_N} {L : Nat} {s : Int32} {B : gp_B} {o : gp_R gz_N} (htr : l.stackTraces = false) (hb : gp_ba B Ds Df V c ad) (hct : c ≤ gp_ct o) (hu : 90 ≤ u.1 ∧ Ds u = some (18, 3)) (hnu : gp_nn B u) (ha : Df u 1 = some a) (hL : (a = (0, 0, 0) ∧ L = 0) ∨ (90 ≤ a.1 ∧ Ds a = some (114, L))) (hs : V u 2 + 1 = s) (h : j2_grow Ds Df V c u a L = some o) : gp_Met l yJ2_grow_2 cJ2_grow_2 4 (some (.array (.object "java/lang/Object"))) 3 90 D aC ad Ds Df V c [.ref (ad u), .int s] B (j2_pA c) gp_rA o := by
  refine gp_of (own := RJ2) (mn := "grow") (lv := [(0, .ref (ad u)), (1, .int s)]) (by decide) rfl rfl (Nat.le_of_ble_eq_true rfl) rfl htr hb hct ?_
  intro X hX hE hI
  have hra : xw_c Df u 1 = some a := (xr_dyn hu.1).trans ha
  have hun : u ≠ (98, c, 0) := fun e => by rw [e, hb.free] at hu; cases hu.2
  rw [j2_grow] at h
  refine gz_aload_n (q := 0) hX dJ2_grow_2_0 rfl rfl ?_
  refine xg_J2_9 (n2 := a) hX (xs_dyn hu) hra dJ2_grow_2_1 ?_
  refine gz_alenB hX hL dJ2_grow_2_4 ?_
  refine gz_istore_n (lv2 := [(2, .int L.toInt32), (0, .ref (ad u)), (1, .int s)]) hX dJ2_grow_2_5 rfl (by decide) rfl ?_
  refine gz_iload_n (q := 0) hX dJ2_grow_2_6 rfl rfl ?_
  by_cases cL : L = 0
  · obtain ⟨hg, h2⟩ := gz_gd_o (gz_ifp cL h)
    clear h
    obtain ⟨ea, es⟩ := hg
    subst cL
    subst ea
    have h := h2
    clear h2
    refine gz_if_gt (tgt := 20) hX dJ2_grow_2_7 (by decide) (fun z => absurd z (by decide)) (fun _ => ?_)
    refine gz_aload_n (q := 1) hX dJ2_grow_2_10 rfl rfl ?_
    refine xg_J2_9 (n2 := (0, 0, 0)) hX (xs_dyn hu) hra dJ2_grow_2_11 ?_
    refine gn_dflt hX q268 dJ2_grow_2_14 ?_
    refine gz_acmp_eqT (tgt := 45) hX dJ2_grow_2_17 (by decide) ?_
    refine gz_aload_n (q := 1) hX dJ2_grow_2_45 rfl rfl ?_
    refine gz_bipush (v := 10) hX dJ2_grow_2_46 gl_b_10 ?_
    refine gz_iload_n (q := 2) hX dJ2_grow_2_48 rfl rfl ?_
    refine gz_mmax hX q911 q867 q156 q868 ⟨Nat.le_of_ble_eq_true rfl, Nat.le_of_ble_eq_true rfl, gp_hf hX hE hI⟩ (Nat.le_of_ble_eq_true rfl) dJ2_grow_2_49 ?_
    refine gz_nm (show gz_max 10 s = 10 by rw [← hs, es]; decide) ?_
    obtain ⟨Ds2, Df2, V2, c2, e, h⟩ := gp_nw_o h
    refine gp_anewO (L2 := 10) hX hE hI e q912 (by decide) (by decide) (by decide) (fun ad => [(2, .int (0 : Nat).toInt32), (0, .ref (ad u)), (1, .int s)]) (fun ad => [.ref (ad u)]) (fun ad2 h2 => by have e0 := h2 u (Or.inl (gz_nn (xs_dyn hu))); exact ⟨by simp only [e0], by simp only [e0]⟩) dJ2_grow_2_52 (fun hgr hj hjn => ?_)
    have hu := gp_up hgr hu
    intro ad hI
    obtain ⟨D3, e3, h⟩ := gz_let_o h
    refine gz_dup_x1 hX dJ2_grow_2_55 rfl rfl ?_
    refine xp_J2_9 hX (xs_dyn hu) (gp_n0 hnu) (Or.inl (gz_nn (xs_dyn ⟨gp_90 hjn, hj⟩))) dJ2_grow_2_56 (Rf2 := xw_c D3) (by rw [← e3, gp_xur (gp_90 hnu)]) ?_
    have hI := hI.ur hnu e3
    exact gp_aret hX hE hI rfl (Or.inr ⟨_, rfl⟩) rfl h dJ2_grow_2_59
  · have h := gz_ifn cL h
    obtain ⟨L2, e2, h⟩ := gz_bd_o h
    have hL9 : 90 ≤ a.1 ∧ Ds a = some (114, L) := by
      rcases hL with e | e
      · exact absurd e.2 cL
      · exact e
    obtain ⟨⟨⟨ha9, es⟩, hel⟩, h⟩ := @gz_gd_o _ _ (Classical.propDecidable _) _ _ h
    have hn : L.toInt32 + gz_max (s - L.toInt32) (L.toInt32 >>> ((1 : Int32) &&& 31)) = L2.toInt32 := by
      rcases j2_cap_o e2 with ⟨rfl, rfl⟩ | ⟨rfl, rfl⟩ <;> (rw [← hs, es]; decide)
    refine gz_if_gt (tgt := 20) hX dJ2_grow_2_7 (by decide) (fun _ => ?_) (fun z => absurd (show 0 < L.toInt32 by rcases j2_cap_o e2 with ⟨rfl, rfl⟩ | ⟨rfl, rfl⟩ <;> decide) z)
    refine gz_iload_n (q := 0) hX dJ2_grow_2_20 rfl rfl ?_
    refine gz_iload_n (q := 2) hX dJ2_grow_2_21 rfl rfl ?_
    refine gz_iload_n (q := 0) hX dJ2_grow_2_22 rfl rfl ?_
    refine gz_isub hX dJ2_grow_2_23 ?_
    refine gz_iload_n (q := 0) hX dJ2_grow_2_24 rfl rfl ?_
    refine gz_iconst (v := 1) hX dJ2_grow_2_25 gl_c_1 ?_
    refine gz_ishr hX dJ2_grow_2_26 ?_
    refine gu_callS (As := [.int L.toInt32, .int (s - L.toInt32), .int (L.toInt32 >>> ((1 : Int32) &&& 31))]) hX (c_j11_newLength hn (by rcases j2_cap_o e2 with ⟨rfl, rfl⟩ | ⟨rfl, rfl⟩ <;> decide) (by rcases j2_cap_o e2 with ⟨rfl, rfl⟩ | ⟨rfl, rfl⟩ <;> decide)) (lw_j11_newLength_ q863) rfl rfl nn_j11_newLength ⟨Nat.le_of_ble_eq_true rfl, Nat.le_of_ble_eq_true rfl⟩ (gp_hf hX hE hI) rfl rfl (Nat.le_of_ble_eq_true rfl) dJ2_grow_2_27 rfl ?_
    refine gz_istore_n (lv2 := [(3, .int L2.toInt32), (2, .int L.toInt32), (0, .ref (ad u)), (1, .int s)]) hX dJ2_grow_2_30 rfl (by decide) rfl ?_
    refine gz_aload_n (q := 2) hX dJ2_grow_2_31 rfl rfl ?_
    refine gz_aload_n (q := 2) hX dJ2_grow_2_32 rfl rfl ?_
    refine xg_J2_9 (n2 := a) hX (xs_dyn hu) hra dJ2_grow_2_33 ?_
    refine gz_iload_n (q := 0) hX dJ2_grow_2_36 rfl rfl ?_
    have hpg := gp_nw_o h
    obtain ⟨Ds2, Df2, V2, c2, ⟨rfl, rfl, rfl, rfl, hc2⟩, h⟩ := hpg
    have hle := hI.2.2.2.1
    have hL24 : L2 ≤ 24 := by rcases j2_cap_o e2 with ⟨rfl, rfl⟩ | ⟨rfl, rfl⟩ <;> decide
    refine gz_callS (As := [.ref (ad a), .int L2.toInt32]) (rest := [.ref (ad u)]) hX (c_j12_copyOf (c := c) (L2 := L2) hL9 hb.free (by rcases j2_cap_o e2 with ⟨rfl, rfl⟩ | ⟨rfl, rfl⟩ <;> decide) (by rcases j2_cap_o e2 with ⟨rfl, rfl⟩ | ⟨rfl, rfl⟩ <;> decide) (by rcases j2_cap_o e2 with ⟨rfl, rfl⟩ | ⟨rfl, rfl⟩ <;> decide) (by omega) (by rcases j2_cap_o e2 with ⟨rfl, rfl⟩ | ⟨rfl, rfl⟩ <;> exact ⟨_, rfl, by decide, by decide⟩) (fun i e hi he => (hel i e hi he).isO)) (lw_j12_copyOf_ q873) rfl rfl nn_j12_copyOf ⟨Nat.le_of_ble_eq_true rfl, Nat.le_of_ble_eq_true rfl⟩ ?_ rfl rfl (Nat.le_of_ble_eq_true rfl) dJ2_grow_2_37 ?_
    · show c - c + 1 ≤ gp_ct o - c ∧ 24 * (c - c) + L2 ≤ 24 * (gp_ct o - c)
      omega
    rintro sh2 V2 Rf2 ad2 rv ⟨rfl, rfl, rfl, h2, rfl⟩
    have eu : ad u = ad2 u := (h2 u hun).symm
    rw [eu]
    refine gz_widen (k := c + 1 - c) (n := 24 * (c + 1 - c)) (by show c - c + 1 ≤ _; omega) (by show 24 * (c - c) + L2 ≤ _; omega) ?_
    have hI2 := hI.new (t := (114, L2)) (by rw [hE.2.2.2.2.2.1]; exact hc2) h2
    have hjn : gp_nn B (98, c, 0) := gp_nn.next hb
    have hI2 := hI2.wR (Df2 := j2_cpy (gz_un Df (98, c, 0)) a L (98, c, 0)) hjn (fun x hx => j2_cpy_ne hx)
    have hu2 : 90 ≤ u.1 ∧ gz_us Ds (98, c, 0) (114, L2) u = some (18, 3) := gp_up (gp_gr.us hb.free) hu
    obtain ⟨D3, e3, h⟩ := gz_let_o h
    refine gz_dup_x1 hX dJ2_grow_2_40 rfl rfl ?_
    refine xp_J2_9 (n2 := (98, c, 0)) hX (xs_dyn hu2) (gp_n0 hnu) (Or.inl (gz_nn (xs_dyn ⟨gp_90 hjn, gz_us_eq⟩))) dJ2_grow_2_41 (Rf2 := xw_c D3) (by rw [← e3, gp_xur (gp_90 hnu)]) ?_
    have hI2 := hI2.ur hnu e3
    exact gp_aret hX hE hI2 rfl (Or.inr ⟨_, rfl⟩) rfl h dJ2_grow_2_44
theorem c_j2_grow {l : Launch} {D : va_G} {aC : Nat → ClassId} {ad : gz_A0} {Ds : gz_S} {Df : gz_R} {V : gz_V} {c : Nat} {u a : gz_N} {L : Nat} {B : gp_B} {o : gp_R gz_N} (htr : l.stackTraces = false) (hb : gp_ba B Ds Df V c ad) (hct : c ≤ gp_ct o) (hu : 90 ≤ u.1 ∧ Ds u = some (18, 3)) (hnu : gp_nn B u) (ha : Df u 1 = some a) (hL : (a = (0, 0, 0) ∧ L = 0) ∨ (90 ≤ a.1 ∧ Ds a = some (114, L))) (h : gp_bx c (j2_grow Ds Df V c u a L) (fun Ds2 Df2 V2 c2 r => some (.inr (Ds2, Df2, V2, c2, r))) = some o) : gp_Met l yJ2_grow cJ2_grow 1 (some (.array (.object "java/lang/Object"))) 4 120 D aC ad Ds Df V c [.ref (ad u)] B (j2_pA c) gp_rA o := by
  refine gp_of (own := RJ2) (mn := "grow") (lv := [(0, .ref (ad u))]) (by decide) rfl rfl (Nat.le_of_ble_eq_true rfl) rfl htr hb hct ?_
  intro X hX hE hI
  refine gz_aload_n (q := 0) hX dJ2_grow_0 rfl rfl ?_
  refine gz_aload_n (q := 0) hX dJ2_grow_1 rfl rfl ?_
  refine xg_J2_48 hX (xs_dyn hu) dJ2_grow_2 ?_
  refine gz_iconst (v := 1) hX dJ2_grow_5 gl_c_1 ?_
  refine gz_iadd hX dJ2_grow_6 ?_
  refine gp_call (ci := 18) (n := u) (As := [.int (V u 2 + 1)]) hX hE hI h (fun o1 e1 hc1 => c_j2_grow_2 hE.2.2.2.2.1 hI.1 hc1 hu hnu ha hL rfl e1) (lw_j2_grow_2_ q859) nn_j2_grow_2 ⟨Nat.le_of_ble_eq_true rfl, Nat.le_of_ble_eq_true rfl⟩ (by decide) rfl (xs_dyn hu) rfl (fun ad => [(0, .ref (ad u))]) (fun _ => []) rfl (Nat.le_of_ble_eq_true rfl) (fun ad2 h2 => by have e0 := h2 u (Or.inl (gz_nn (xs_dyn hu))); exact ⟨by simp only [e0], rfl⟩) dJ2_grow_7 (fun Ds2 Df2 V2 c2 r2 h hgr hP => ?_)
  intro ad hI
  exact gp_aret hX hE hI rfl (Or.inr ⟨_, rfl⟩) hP h dJ2_grow_10
/-- an element into the array b, the list counts one more -/
noncomputable def j2_put (Bc : Nat) (Ds : gz_S) (Df : gz_R) (V : gz_V) (c : Nat) (u e b : gz_N) (s : Int32) : gp_O Unit :=
  gz_bd (gz_q114 (Ds b)) (fun L => gz_gd (gz_inb s L = true ∧ b.1 = 98 ∧ Bc ≤ b.2.1) (gz_let (gz_ur Df b s.toNatClampNeg (some e)) (fun Df2 => gz_let (gz_up V u 2 (s + 1)) (fun V2 => some (.inr (Ds, Df2, V2, c, ()))))))
noncomputable def j2_add_2 (Bc : Nat) (Ds : gz_S) (Df : gz_R) (V : gz_V) (c : Nat) (u e a : gz_N) (L : Nat) (s : Int32) : gp_O Unit :=
  if s = L.toInt32 then gp_bx c (gp_bx c (j2_grow Ds Df V c u a L) (fun Ds2 Df2 V2 c2 r => some (.inr (Ds2, Df2, V2, c2, r)))) (fun Ds2 Df2 V2 c2 b => j2_put Bc Ds2 Df2 V2 c2 u e b s) else j2_put Bc Ds Df V c u e a s
noncomputable def j2_add (Bc : Nat) (Ds : gz_S) (Df : gz_R) (V : gz_V) (c : Nat) (u e : gz_N) : gp_O Int32 :=
  gz_let (gz_up V u 0 (V u 0 + 1)) (fun V2 => gz_bd (Df u 1) (fun a => gz_bd (j2_len Ds a) (fun L => gp_bx c (j2_add_2 Bc Ds Df V2 c u e a L (V2 u 2)) (fun Ds2 Df2 V3 c2 _ => some (.inr (Ds2, Df2, V3, c2, 1))))))
theorem w_j2_put {X : gz_X} {B : gp_B} {E : gp_E} {Bc q : Nat} {Ds : gz_S} {Df : gz_R} {V : gz_V} {c : Nat} {ad : gz_A0} {u e b : gz_N} {s : Int32} {o : gp_R Unit} (hX : gz_ok X cJ2_add_2 RJ2 "add" 4 (gp_rm 5 150 q) none) (hE : gp_end X B E gp_pU gp_rU o 5 150) (hI : gp_in B E Ds Df V c ad) (hu : 90 ≤ u.1 ∧ Ds u = some (18, 3)) (hnu : gp_nn B u) (he : gp_el Ds e) (hBc : B.2.2.2.2 = Bc) (h : j2_put Bc Ds Df V c u e b s = some o) : gW X 4 (xw_s Ds) (xw_c Df) ad V (c - E.2.2.1) (24 * (c - E.2.2.1)) 11 [(2, .ref (ad b)), (0, .ref (ad u)), (1, .ref (ad e)), (3, .int s)] [] := by
  rw [j2_put] at h
  obtain ⟨L, eL, h⟩ := gz_bd_o h
  obtain ⟨⟨hin, hb98, hbc⟩, h⟩ := gz_gd_o h
  have hbn : gp_nn B b := ⟨hb98, by rw [hBc]; exact hbc⟩
  have hsb := xs_dyn ⟨gp_90 hbn, gz_q114_o eL⟩
  obtain ⟨Df2, e2, h⟩ := gz_let_o h
  obtain ⟨V2, e3, h⟩ := gz_let_o h
  obtain ⟨ci, N0, qq, f1, f2, f3, f4⟩ := he.isO
  refine gz_aload_n (q := 0) hX dJ2_add_2_11 rfl rfl ?_
  refine gz_iload_n (q := 3) hX dJ2_add_2_12 rfl rfl ?_
  refine gz_aload_n (q := 2) hX dJ2_add_2_13 rfl rfl ?_
  refine gz_aast (t := 114) (t0 := 7) hX (by decide) (by decide) (fun _ => rfl) hsb (gp_n0 hbn) f2 f3 f1 (Or.inr f4) (gz_inb_o hin) dJ2_add_2_14 (Rf2 := xw_c Df2) (by rw [← e2, gp_xur (gp_90 hbn)]) ?_
  have hI := hI.ur hbn e2
  refine gz_aload_n (q := 1) hX dJ2_add_2_15 rfl rfl ?_
  refine gz_iload_n (q := 3) hX dJ2_add_2_16 rfl rfl ?_
  refine gz_iconst (v := 1) hX dJ2_add_2_17 gl_c_1 ?_
  refine gz_iadd hX dJ2_add_2_18 ?_
  refine xp_J2_48 hX (xs_dyn hu) (gp_n0 hnu) dJ2_add_2_19 e3 ?_
  have hI := hI.up hnu e3
  exact gp_vret hX hE hI trivial h dJ2_add_2_22
theorem c_j2_add_2 {l : Launch} {D : va_G} {aC : Nat → ClassId} {ad : gz_A0} {Bc : Nat} {Ds : gz_S} {Df : gz_R} {V : gz_V} {c : Nat} {u e a : gz_N} {L : Nat} {s : Int32} {B : gp_B} {o : gp_R Unit} (htr : l.stackTraces = false) (hb : gp_ba B Ds Df V c ad) (hct : c ≤ gp_ct o) (hu : 90 ≤ u.1 ∧ Ds u = some (18, 3)) (hnu : gp_nn B u) (he : gp_el Ds e) (hBc : B.2.2.2.2 = Bc) (ha : Df u 1 = some a) (hL : (a = (0, 0, 0) ∧ L = 0) ∨ (90 ≤ a.1 ∧ Ds a = some (114, L))) (h : j2_add_2 Bc Ds Df V c u e a L s = some o) : gp_Met l yJ2_add_2 cJ2_add_2 4 none 5 150 D aC ad Ds Df V c [.ref (ad u), .ref (ad e), .ref (ad a), .int s] B gp_pU gp_rU o := by
  refine gp_of (own := RJ2) (mn := "add") (lv := [(0, .ref (ad u)), (1, .ref (ad e)), (2, .ref (ad a)), (3, .int s)]) (by decide) rfl rfl (Nat.le_of_ble_eq_true rfl) rfl htr hb hct ?_
  intro X hX hE hI
  have hne : xw_s Ds e ≠ none := by
    obtain ⟨ci, N0, qq, f1, -⟩ := he.isO
    exact gz_nn f1
  rw [j2_add_2] at h
  refine gz_iload_n (q := 3) hX dJ2_add_2_0 rfl rfl ?_
  refine gz_aload_n (q := 2) hX dJ2_add_2_1 rfl rfl ?_
  refine gz_alenB hX hL dJ2_add_2_2 ?_
  refine gz_icmp_ne (tgt := 11) hX dJ2_add_2_3 (by decide) (fun c1 => ?_) (fun c1 => ?_)
  · have h := gz_ifn c1 h
    exact gz_lv [2, 0, 1, 3] rfl (w_j2_put hX hE hI hu hnu he hBc h)
  · have h := gz_ifp c1 h
    refine gz_aload_n (q := 0) hX dJ2_add_2_6 rfl rfl ?_
    refine gz_lv (lv2 := [(0, .ref (ad u)), (1, .ref (ad e)), (3, .int s)]) [0, 1, 3] rfl ?_
    refine gp_call (ci := 18) (n := u) (As := []) hX hE hI h (fun o1 e1 hc1 => c_j2_grow hE.2.2.2.2.1 hI.1 hc1 hu hnu ha hL e1) (lw_j2_grow_ q855) nn_j2_grow ⟨Nat.le_of_ble_eq_true rfl, Nat.le_of_ble_eq_true rfl⟩ (by decide) rfl (xs_dyn hu) rfl (fun ad => [(0, .ref (ad u)), (1, .ref (ad e)), (3, .int s)]) (fun _ => []) rfl (Nat.le_of_ble_eq_true rfl) (fun ad2 h2 => by have e0 := h2 u (Or.inl (gz_nn (xs_dyn hu))); have e1 := h2 e (Or.inl hne); exact ⟨by simp only [e0, e1], rfl⟩) dJ2_add_2_7 (fun Ds2 Df2 V2 c2 r2 h hgr hP => ?_)
    have hu := gp_up hgr hu
    have he : gp_el Ds2 e := ⟨he.1, he.2.imp (hgr e _) (fun h => h.imp (hgr e _) (fun h => h.imp (hgr e _) (fun h => h.imp (hgr e _) (hgr e _))))⟩
    intro ad hI
    refine gz_astore_n (lv2 := [(2, .ref (ad r2)), (0, .ref (ad u)), (1, .ref (ad e)), (3, .int s)]) hX dJ2_add_2_10 rfl (by decide) rfl ?_
    exact w_j2_put hX hE hI hu hnu he hBc h
theorem c_j2_add {l : Launch} {D : va_G} {aC : Nat → ClassId} {ad : gz_A0} {Bc : Nat} {Ds : gz_S} {Df : gz_R} {V : gz_V} {c : Nat} {u e : gz_N} {B : gp_B} {o : gp_R Int32} (htr : l.stackTraces = false) (hb : gp_ba B Ds Df V c ad) (hct : c ≤ gp_ct o) (hu0 : Ds u = some (18, 3)) (hnu : gp_nn B u) (he : gp_el Ds e) (hBc : B.2.2.2.2 = Bc) (h : j2_add Bc Ds Df V c u e = some o) : gp_Met l yJ2_add cJ2_add 2 (some .boolean) 6 180 D aC ad Ds Df V c [.ref (ad u), .ref (ad e)] B gp_pI gp_rI o := by
  have hu : 90 ≤ u.1 ∧ Ds u = some (18, 3) := ⟨gp_90 hnu, hu0⟩
  refine gp_of (own := RJ2) (mn := "add") (lv := [(0, .ref (ad u)), (1, .ref (ad e))]) (by decide) rfl rfl (Nat.le_of_ble_eq_true rfl) rfl htr hb hct ?_
  intro X hX hE hI
  have hne : xw_s Ds e ≠ none := by
    obtain ⟨ci, N0, qq, f1, -⟩ := he.isO
    exact gz_nn f1
  rw [j2_add] at h
  obtain ⟨V2, e2, h⟩ := gz_let_o h
  obtain ⟨a, ea, h⟩ := gz_bd_o h
  obtain ⟨L, eL, h⟩ := gz_bd_o h
  refine gz_aload_n (q := 0) hX dJ2_add_0 rfl rfl ?_
  refine gz_dupa hX dJ2_add_1 ?_
  refine xg_mod hX (xs_dyn hu) dJ2_add_2 ?_
  refine gz_iconst (v := 1) hX dJ2_add_5 gl_c_1 ?_
  refine gz_iadd hX dJ2_add_6 ?_
  refine xp_mod hX (xs_dyn hu) (gp_n0 hnu) dJ2_add_7 e2 ?_
  have hI := hI.up hnu e2
  refine gz_aload_n (q := 0) hX dJ2_add_10 rfl rfl ?_
  refine gz_aload_n (q := 1) hX dJ2_add_11 rfl rfl ?_
  refine gz_aload_n (q := 0) hX dJ2_add_12 rfl rfl ?_
  refine xg_J2_9 (n2 := a) hX (xs_dyn hu) ((xr_dyn hu.1).trans ea) dJ2_add_13 ?_
  refine gz_aload_n (q := 0) hX dJ2_add_16 rfl rfl ?_
  refine xg_J2_48 hX (xs_dyn hu) dJ2_add_17 ?_
  refine gp_call (ci := 18) (n := u) (As := [.ref (ad e), .ref (ad a), .int (V2 u 2)]) hX hE hI h (fun o1 e1 hc1 => c_j2_add_2 hE.2.2.2.2.1 hI.1 hc1 hu hnu he hBc ea (j2_len_o eL) e1) (lw_j2_add_2_ q851) nn_j2_add_2 ⟨Nat.le_of_ble_eq_true rfl, Nat.le_of_ble_eq_true rfl⟩ (by decide) rfl (xs_dyn hu) rfl (fun ad => [(0, .ref (ad u)), (1, .ref (ad e))]) (fun _ => []) rfl (Nat.le_of_ble_eq_true rfl) (fun ad2 h2 => by have e0 := h2 u (Or.inl (gz_nn (xs_dyn hu))); have e1 := h2 e (Or.inl hne); exact ⟨by simp only [e0, e1], rfl⟩) dJ2_add_20 (fun Ds2 Df2 V3 c2 _ h hgr hP => ?_)
  intro ad hI
  refine gz_iconst (v := 1) hX dJ2_add_23 gl_c_1 ?_
  exact gp_zret hX hE hI rfl trivial h dJ2_add_24
