/-! 'throw new Fault(k, start)' in Reader -/
set_option maxRecDepth 100000
section GYR
variable {p : Program} {l : Launch} {e : Env} {R : Room} {s : State} {m : MethodId} {args : Array Value} {below : List Frame} {meth : Method} {c : Code} {H : Heap} {locs : List Loc} {cells slots : Nat} {Q : State → Prop} {ls : Array Slot} {rest : List Value}
/-- (of the starting text kit/laws/EXCEPTIONS) -/
theorem gy_athrow {cc : ByteArray} {pc : Nat} (hexec : p.tables.exec = Jvm.exec) (hb : c.code = cc) {q : Addr} (hdg : decode cc pc = .ok (.athrow, 1)) (k : gy_W p l e R s m args below meth c H locs cells slots Q (F0 m pc ls rest) q) : W p l e R s m args below meth c H locs cells slots Q (F0 m pc ls (.ref q :: rest)) := by
  intro T hT X
  obtain ⟨t, st, hq⟩ := k T hT X
  refine ⟨t, ?_, hq⟩
  have hdg' : decode c.code pc = .ok (.athrow, 1) := by rw [hb]; exact hdg
  jvm_step X.here [X.here.top, hexec, hdg', athrow.wp_sem]
  exact st
end GYR
def gy_V8 (V : gz_V) (k p : Int32) : gz_V := gz_up (gz_up (gz_uz V (97, 0, 0)) (97, 0, 0) 0 k) (97, 0, 0) 1 p
theorem gy_blind8 {ad : gz_A0} {D : va_G} {aC : Nat → ClassId} {sz : Nat} {k p : Int32} : FrameBlind (va_Pc [.ref (ad (97, 0, 0)), .int k, .int p] (fun U => U.heap.size = sz ∧ gz_P D aC (gz_A gy_s8 ad sz) gy_s8 gy_z8 gy_n8 ad U ∧ gy_new8 (ad (97, 0, 0)) U)) := fun a U g mk q => by
  obtain ⟨q0, q1, ⟨q2, q3, q4, q5⟩, q6⟩ := q
  exact ⟨q0, q1, ⟨q2, va_K.moved (u := U) (U := U.calling g mk a) (Vm.Alike.refl U.vm) q3, gz_NW.same (u := U) (U := U.calling g mk a) rfl q4, gz_St.same (u := U) (U := U.calling g mk a) rfl q5⟩, q6⟩
theorem gy_throw {X : gz_X} {cc : ByteArray} {mn : String} {nL : Nat} {rm : Room} {ret : Option FieldType} {sh : gz_S} {Rf : gz_R} {ad : gz_A0} {V : gz_V} {ce sl pc q0 : Nat} {lv : List (Nat × Value)} {n : gz_N} {kk : Int} {k : Int32} (hX : gz_ok X cc RX7 mn nL rm ret) (htr : (gx_l X).stackTraces = false) (hsh : sh n = some (7, 9)) (h97 : sh (97, 0, 0) = none) (hq0 : lv[q0]? = some (0, .ref (ad n))) (hcc : ce + 1 ≤ rm.cells) (hss : sl + 8 ≤ rm.slots) (hR : 5 ≤ rm.frames ∧ 76 ≤ rm.locals)
    (d0 : decode cc pc = .ok (.new 124, 3)) (d3 : decode cc (pc + 3) = .ok (.dup, 1)) (d4 : decode cc (pc + 4) = .ok (.iconst kk, 1)) (hk : Int32.ofInt kk = k) (d5 : decode cc (pc + 5) = .ok (.aload_n 0, 1)) {ix : Nat} (hlk : Cond.fieldLink RX7 ix (TX7 3).1 (TX7 3).2.1 (TX7 3).2.2.1 ∈ lw_all) (d6 : decode cc (pc + 6) = .ok (.getfield ix, 3)) (d9 : decode cc (pc + 9) = .ok (.invokespecial 126, 3)) (d12 : decode cc (pc + 12) = .ok (.athrow, 1))
    (kx : ∀ ad2 : gz_A0, (∀ a, a ≠ (97, 0, 0) → ad2 a = ad a) → gyW X nL (gz_us sh (97, 0, 0) (8, 2)) (gz_un Rf (97, 0, 0)) ad2 (gy_V8 V k (V n 3)) (ce + 1) (sl + 8) (pc + 12) lv [] (ad2 (97, 0, 0))) : gW X nL sh Rf ad V ce sl pc lv [] := by
  intro H locs ls hw hS hl
  have hK := hX.2.2.2.2.2.1
  have hKc := hK.1 8 _ rfl
  have hts := hX.2.2.2.2.1
  refine W.newcK hX.1 hX.2.1 hX.2.2.2.1 (hts _ q675) (hts _ q676) (hts _ q163) rfl d0 (by rw [hX.2.2.2.2.2.2.2.2.1]; exact hcc) (by rw [hX.2.2.2.2.2.2.2.2.1]; exact hss) hKc.2.1 rfl fun H1 kC hkC e1 z1 o1 => ?_
  have hne : n ≠ (97, 0, 0) := fun e => by rw [e, h97] at hsh; cases hsh
  obtain ⟨ad2, hA2, hO2, hw1⟩ : ∃ ad2 : gz_A0, ad2 (97, 0, 0) = H.size ∧ (∀ a, a ≠ (97, 0, 0) → ad2 a = ad a) ∧ gz_wd (gx_D X) (gx_C X) (gx_A X) (gz_us sh (97, 0, 0) (8, 2)) (gz_uz V (97, 0, 0)) (gz_un Rf (97, 0, 0)) ad2 H1 := by
    refine ⟨gz_ua ad (97, 0, 0) H.size, gz_ua_eq, fun a h => gz_ua_ne h, ?_⟩
    refine hw.new h97 (by decide) (hX.2.2.2.2.2.2.1 _ hS.1) o1 ?_
    unfold gz_at
    rw [if_pos (by decide), gz_ua_eq]
    refine ⟨_, rfl, (u_born tyF8 hts in_F8 hKc hkC e1 tyF8_ok).to (fun f hf => ?_)⟩
    unfold gz_fv
    rw [gz_uz_eq]
    rfl
  have hS1 : va_S (gx_A X) (gx_s X).heap H1 locs := ⟨Nat.le_trans hS.1 (by omega), fun q h1 h2 => (o1 q (Nat.lt_of_lt_of_le h1 hS.1)).trans (hS.2.1 q h1 h2), hS.2.2⟩
  have hsn : gz_us sh (97, 0, 0) (8, 2) n = some (7, 9) := by rw [gz_us_ne hne]; exact hsh
  refine lv_dup hX.1 hX.2.1 d3 rfl ?_
  refine lv_iconst hX.1 hX.2.1 d4 hk ?_
  refine lv_aload_n hX.1 hX.2.1 d5 rfl (lv_at hl q0 hq0) ?_
  obtain ⟨cell, q1, q2, q3, q4⟩ := gz_obj (ci := 7) hw1 hsn (by decide) rfl
  rw [hO2 n hne] at q1
  obtain ⟨hSl, hfc, kC7, hkC7, hkind⟩ := hK.1 7 _ rfl
  obtain ⟨cf, kf, fi, fd, hi, hsl⟩ := hSl 3 (by decide)
  refine W.getf hX.1 hX.2.1 hX.2.2.2.1 (hts _ hlk) hi (u_facts hfc hkC7 (u_lays hts in_X7 (by decide)) hi).1 q1 (by rw [q3]; exact fun h => by cases h) (v := .int (V n 3)) (by
    rw [hsl, q4 3 (by decide)]
    unfold gz_fv
    rw [gz_uz_ne hne]
    rfl) rfl rfl d6 ?_
  have hA : ∀ q, gz_A gy_s8 ad2 H1.size q → (gx_A X) q := by
    intro q h
    rcases h with ⟨a, h1, h2, rfl⟩ | h
    · have ea : a = (97, 0, 0) := by
        unfold gy_s8 at h1
        by_cases e : a = (97, 0, 0)
        · exact e
        · rw [if_neg e] at h1
          exact absurd rfl h1
      rw [ea, hA2]
      exact hX.2.2.2.2.2.2.1 _ hS.1
    · exact hX.2.2.2.2.2.2.1 q (Nat.le_trans hS1.1 h)
  have hw8 : gz_wd (gx_D X) (gx_C X) (gx_A X) gy_s8 gy_z8 gy_n8 ad2 H1 := by
    have one : ∀ a, gy_s8 a ≠ none → a = (97, 0, 0) := fun a h1 => by
      unfold gy_s8 at h1
      by_cases e : a = (97, 0, 0)
      · exact e
      · rw [if_neg e] at h1
        exact absurd rfl h1
    refine hw1.less (fun a t h => ?_) (fun a h => ?_) (fun a h => ?_) (fun _ _ => rfl) (fun a f b h h2 _ => by cases h2)
    · have ea := one a (by rw [h]; exact fun z => by cases z)
      subst ea
      rw [gy_s8_eq] at h
      rw [gz_us_eq]
      exact h
    · rw [one a h, gz_uz_eq]
      rfl
    · rw [one a h, gz_un_eq]
      rfl
  have hcw := cwI (R := gx_R X) (own := RX7) (index := 126) (y := yX8_init) (bytes := cX8_init) (maxL := 3) (rm := rm_x8_init) (mc := 0) (ms := 0) 2 hts (lw_meth q714) rfl rfl rfl (hts _ q163) (hts _ q712) (hts _ q713) rfl (by decide +kernel) (by rw [hX.2.2.2.2.2.2.2.2.1]; exact hR)
  have hnew : ∀ U : State, U.heap = H1 → (gx_s X).WarmedH U.vm → gy_new8 (ad2 (97, 0, 0)) U := by
    intro U hU hW
    obtain ⟨k', hk', he⟩ := hW.alike.2.2 _ _ hkC
    refine ⟨(gx_D X).1 8, k', by rw [hW.alike.findClass]; exact hKc.2.1, hk', ?_⟩
    rw [hU, hA2, e1]
    unfold blank
    rw [he]
  have hrun := va_runI (As := [.int k, .int (V n 3)]) (rest := [.ref (ad2 (97, 0, 0))]) (b := ad2 (97, 0, 0)) (H := H1) (locs := locs) (cells := ce + 1) (slots := sl + 8) (l := gx_l X) (e := gx_e X) (below := gx_b X) (meth := gx_me X) (g := F0 (gx_m X) (pc + 9) ls [.int (V n 3), .int k, .ref (ad2 (97, 0, 0)), .ref (ad2 (97, 0, 0))]) ⟨hX.1, hX.2.1, hX.2.2.1, hX.2.2.2.1, hts⟩ (c_x8_init htr (D := gx_D X) (aC := gx_C X) (ad := ad2) (k := k) (p := V n 3) H1.size) hcw ⟨gy_blind8, fun U hU hW => ⟨rfl, by rw [hU], ⟨by rw [hU]; exact hw8.own, va_K.moved hW.alike hK, hX.2.2.2.2.2.2.2.2.2.2.2.1.warm hW, hX.2.2.2.2.2.2.2.2.2.2.2.2.call hW (by rw [hU]; exact hS1.2.1) hA⟩, hnew U hU hW⟩⟩ rfl rfl hl.1 rfl (Nat.le_of_ble_eq_true rfl) d9 (by rw [hX.2.2.2.2.2.2.2.2.1]; exact ⟨hcc, hss⟩)
  rw [← hA2]
  intro T hT XS
  obtain ⟨v, st₀, t, T', L, h0, X', hL, f1, f2, ⟨⟨sh3, V3, Rf3, ad3, rv, hv, hB, hF⟩, hz, hkp⟩, stp⟩ := hrun T hT XS
  cases hv
  obtain ⟨rfl, rfl, rfl, rfl, rfl⟩ := hF
  rw [h0] at hz hkp
  have hin : ad3 (97, 0, 0) < H1.size := by rw [hA2, z1]; omega
  have hwF : gz_wd (gx_D X) (gx_C X) (gx_A X) (gz_us sh (97, 0, 0) (8, 2)) (gy_V8 V k (V n 3)) (gz_un Rf (97, 0, 0)) ad3 T'.heap := by
    refine ⟨fun a u ha => ?_, hw1.2.1, hw1.2.2.1, hw1.2.2.2.1, hw1.2.2.2.2⟩
    by_cases e : a = (97, 0, 0)
    · subst e
      rw [gz_us_eq] at ha
      cases ha
      rw [f1]
      refine (hB.1.1 (97, 0, 0) (8, 2) gy_s8_eq).eqV ?_ gz_un_eq
      unfold gy_V8
      rw [gz_up_eq, gz_up_eq, gz_uz_eq, gz_up_eq, gz_up_eq]
      rfl
    · have g := hw1.1 a u ha
      have hne2 : ad3 a ≠ ad3 (97, 0, 0) := fun q => e (hw1.2.1 a (97, 0, 0) (by rw [ha]; exact fun z => by cases z) (by rw [gz_us_eq]; exact fun z => by cases z) q)
      refine (g.kept ?_).eqV ?_ rfl
      · rw [f1]
        refine hkp _ g.lt (fun z => ?_)
        rcases z with ⟨b, b1, b2, b3⟩ | z
        · unfold gy_s8 at b1
          by_cases eb : b = (97, 0, 0)
          · rw [eb] at b3
            exact hne2 b3.symm
          · rw [if_neg eb] at b1
            exact absurd rfl b1
        · have := g.lt
          omega
      · unfold gy_V8
        rw [gz_up_ne e, gz_up_ne e]
  obtain ⟨cell9, r1, r2, r3, -⟩ := gz_obj (ci := 8) hwF gz_us_eq (by decide) rfl
  obtain ⟨t2, a1, b1⟩ := gy_athrow hX.1 hX.2.1 d12 (kx ad3 hO2 T'.heap (locs ++ L) ls cell9 hwF ⟨Nat.le_trans hS1.1 (by rw [f1]; exact hz), fun q h1 h2 => by rw [f1, hkp q (Nat.lt_of_lt_of_le h1 hS1.1) (fun z => h2 (hA q z))]; exact hS1.2.1 q h1 h2, fun q hq => by
      rcases List.mem_append.mp hq with h | h
      · exact hS.2.2 q h
      · exact hA _ (hL q h)⟩ hl r1 r3 (by rw [r2]; exact hKc.2.1)) T' rfl X'
  exact ⟨t2, stp t2 a1, b1⟩
