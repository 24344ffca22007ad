/-! ArrayList.add: rows for arrays of objects, class objects, System.arraycopy in named worlds -/
set_option maxRecDepth 100000
section ALR
variable {X : gz_X} {cc : ByteArray} {own mn : String} {nL : Nat} {rm : Room} {ret : Option FieldType} {sh : gz_S} {Rf : gz_R} {ad : gz_A0} {V : gz_V} {ce sl pc : Nat} {lv : List (Nat × Value)} {st : List Value} {lvF : gz_A0 → List (Nat × Value)} {stF : gz_A0 → List Value}
theorem gz_acmp_eqT (hX : gz_ok X cc own mn nL rm ret) {x : Nat} {off : Int} {tgt : Nat} (hdg : decode cc pc = .ok (.if_acmp .eq off, 3)) (ht : (pc : Int) + off = (tgt : Int)) (k : gW X nL sh Rf ad V ce sl tgt lv st) : gW X nL sh Rf ad V ce sl pc lv (.ref x :: .ref x :: st) := fun H locs ls hw hS hl => lv_acmp_eq (rx := some x) (ry := some x) hX.1 hX.2.1 hdg ht (fun _ => k H locs ls hw hS hl) (fun z => absurd rfl z)
theorem gz_acmp_neF (hX : gz_ok X cc own mn nL rm ret) {x : Nat} {off : Int} {tgt : Nat} (hdg : decode cc pc = .ok (.if_acmp .ne off, 3)) (ht : (pc : Int) + off = (tgt : Int)) (k : gW X nL sh Rf ad V ce sl (pc + 3) lv st) : gW X nL sh Rf ad V ce sl pc lv (.ref x :: .ref x :: st) := fun H locs ls hw hS hl => lv_acmp_ne (rx := some x) (ry := some x) hX.1 hX.2.1 hdg ht (fun z => absurd rfl z) (fun _ => k H locs ls hw hS hl)
theorem gz_ldcM (hX : gz_ok X cc own mn nL rm ret) {index : Nat} (hlink : Cond.classLink own index "[Ljava/lang/Object;" ∈ lw_all) (hdg : decode cc pc = .ok (.ldc index, 2)) (k : gW X nL sh Rf ad V ce sl (pc + 2) lv (.ref (gx_C X 1004) :: st)) : gW X nL sh Rf ad V ce sl pc lv st := fun H locs ls hw hS hl => va_ldcM hX.1 hX.2.1 hX.2.2.2.1 (hX.2.2.2.2.1 _ hlink) hX.2.2.2.2.2.2.2.2.2.2.2.2.2.2.2.2.2.2.2.2.2.1 hdg (k H locs ls hw hS hl)
theorem gz_getC (hX : gz_ok X cc own mn nL rm ret) {index L : Nat} {a : gz_N} (hsh : sh a = some (114, L)) (hlink : Cond.methodLink own index ⟨"java/lang/Object", "getClass", "()Ljava/lang/Class;"⟩ ∈ lw_all) (hR : 1 ≤ rm.frames ∧ (st.map fun v => v.category).sum + 14 ≤ rm.locals) (hdg : decode cc pc = .ok (.invokevirtual index, 3)) (k : gW X nL sh Rf ad V ce sl (pc + 3) lv (.ref (gx_C X 1004) :: st)) : gW X nL sh Rf ad V ce sl pc lv (.ref (ad a) :: st) := by
  intro H locs ls hw hS hl
  have ha := gz_arq hw hsh (by decide) (by decide)
  have hcA := va_nmO (nm := "[Ljava/lang/Object;") (hX.2.2.2.2.2.1.2 7 _ rfl).2 rfl
  exact va_getC hX.1 hX.2.1 (hX.2.2.1.trans hl.1.symm) hX.2.2.2.1 (hX.2.2.2.2.1 _ hlink) (va_Nw.use rfl (hX.2.2.2.2.2.2.2.2.2.2.2.1.1 _ (gz_nw q2235 rfl))) (hX.2.2.2.2.1 _ q2234) (hX.2.2.2.2.1 _ q877) (hX.2.2.2.2.1 _ q898) hX.2.2.2.2.2.2.2.2.2.2.2.2.2.2.2.2.2.2.2.2.2.1 ⟨_, ha, rfl, hcA⟩ (by rw [hX.2.2.2.2.2.2.2.2.1]; exact hR.1) (by rw [hX.2.2.2.2.2.2.2.2.1]; exact hR.2) hdg (k H locs ls hw hS hl)
/-- a new array of Objects -/
theorem gz_anewO (hX : gz_ok X cc own mn nL rm ret) {L index : Nat} {n : Int32} {nm : gz_N} (hcl : Cond.classLink own index "java/lang/Object" ∈ lw_all)
    (hn : ¬ n < 0) (hN : n.toNatClampNeg = L) (hby : L * 4 ≤ 536870912) (hc : ce + 1 ≤ rm.cells) (hs : sl + L ≤ rm.slots) (hf : sh nm = none) (h0 : nm.1 ≠ 0) (hF : ∀ ad2 : gz_A0, (∀ a, a ≠ nm → ad2 a = ad a) → lvF ad2 = lvF ad ∧ stF ad2 = stF ad) (hdg : decode cc pc = .ok (.anewarray index, 3))
    (k : ∀ ad2 : gz_A0, (∀ a, a ≠ nm → ad2 a = ad a) → gW X nL (gz_us sh nm (114, L)) (gz_un Rf nm) ad2 (gz_uz V nm) (ce + 1) (sl + L) (pc + 3) (lvF ad2) (.ref (ad2 nm) :: stF ad2)) : gW X nL sh Rf ad V ce sl pc (lvF ad) (.int n :: stF ad) := by
  intro H locs ls hw hS hl
  subst hN
  refine W.anew hX.1 hX.2.1 hX.2.2.2.1 (hX.2.2.2.2.1 _ hcl) (hX.2.2.2.2.2.2.2.2.2.2.2.1.2.2 _ (show FieldType.object "java/lang/Object" ∈ gzOv by unfold gzOv; decide)) rfl hdg rfl hn hby (by rw [hX.2.2.2.2.2.2.2.2.1]; exact hc) (by rw [hX.2.2.2.2.2.2.2.2.1]; exact hs) (fun cA kA comp e1 e2 e3 e4 => ?_)
  obtain ⟨kA2, comp2, k1, k2, k3, k4⟩ := (hX.2.2.2.2.2.1.2 7 _ rfl).2
  have hcA : cA = (gx_C X) 114 := Option.some.inj (e1.symm.trans k4)
  generalize hH1 : H.push ({ cls := cA, slots := Array.replicate n.toNatClampNeg .null, vm := .none } : Cell) = H1
  have z1 : H1.size = H.size + 1 := by rw [← hH1, Array.size_push]
  have c1 : H1[H.size]? = some (arrV cA n.toNatClampNeg (fun _ => .null)) := by rw [← hH1, Array.getElem?_push_size, ← arrV_new]
  have o1 : ∀ q, q < H.size → H1[q]? = H[q]? := fun q hq => by rw [← hH1]; exact Array.getElem?_push_lt hq |>.trans (Array.getElem?_eq_getElem hq).symm
  have hk := k (gz_ua ad nm H.size) (fun a h => gz_ua_ne h)
  obtain ⟨g1, g2⟩ := hF (gz_ua ad nm H.size) (fun a h => gz_ua_ne h)
  rw [g1, g2, gz_ua_eq] at hk
  refine hk H1 locs ls (hw.new (t := (114, n.toNatClampNeg)) (H1 := H1) hf h0 (hX.2.2.2.2.2.2.1 _ hS.1) o1 ?_) ⟨Nat.le_trans hS.1 (by omega), fun q h1 h2 => (o1 q (Nat.lt_of_lt_of_le h1 hS.1)).trans (hS.2.1 q h1 h2), hS.2.2⟩ hl
  unfold gz_at
  rw [if_neg (show ¬ (114 : Nat) < 100 by decide), if_neg (show ¬ (114 : Nat) < 110 by decide), gz_ua_eq, gz_un_eq, c1, hcA]
  rfl
/-- a's elements over into b -/
def j2_cpy (Rf : gz_R) (a : gz_N) (L : Nat) (b : gz_N) : gz_R := fun x => if x = b then (fun j => if j < L then Rf a j else Rf b j) else Rf x
theorem j2_cpy_eq {a b : gz_N} {L : Nat} : j2_cpy Rf a L b b = fun j => if j < L then Rf a j else Rf b j := if_pos rfl
theorem j2_cpy_ne {a b x : gz_N} {L : Nat} (h : x ≠ b) : j2_cpy Rf a L b x = Rf x := if_neg h
/-- an object that can lie in an array of Objects -/
def gz_isO (sh : gz_S) (e : gz_N) : Prop := ∃ (ci N0 : Nat) (q : vw_C), sh e = some (ci, N0) ∧ ci < 100 ∧ gzCl[ci]? = some q ∧ Cond.castable q.1 "java/lang/Object" ∈ lw_tbl
theorem gz_acpy (hX : gz_ok X cc own mn nL rm ret) {L L2 index : Nat} {a b : gz_N} (hsa : sh a = some (114, L)) (hsb : sh b = some (114, L2)) (hb0 : b.1 ≠ 0) (hL : L ≤ L2) {n : Int32} (hn : n.toNatClampNeg = L) (hn0 : ¬ n < 0) (hel : ∀ i e, i < L → Rf a i = some e → gz_isO sh e) (hlink : Cond.methodLink own index arraycopyName ∈ lw_all) (hnat : Cond.native arraycopyName ∈ lw_all) (hsta : Cond.static arraycopyName ∈ lw_all) (hini : Cond.initialized "java/lang/System" ∈ lw_all) (hR : 1 ≤ rm.frames ∧ (st.map fun v => v.category).sum + (nativeFrameWords "java/lang/System" "arraycopy" 5 + 11) ≤ rm.locals) (hdg : decode cc pc = .ok (.invokestatic index, 3))
    (k : gW X nL sh (j2_cpy Rf a L b) ad V ce sl (pc + 3) lv st) : gW X nL sh Rf ad V ce sl pc lv (.int n :: .int 0 :: .ref (ad b) :: .int 0 :: .ref (ad a) :: st) := by
  intro H locs ls hw hS hl T hT XS
  have ha := gz_arq hw hsa (by decide) (by decide)
  have hb := gz_arq hw hsb (by decide) (by decide)
  have hnb : sh b ≠ none := by rw [hsb]; exact fun z => by cases z
  have hna : sh a ≠ none := by rw [hsa]; exact fun z => by cases z
  obtain ⟨hKr, kA, comp, r1, r2, r3, r4⟩ := hX.2.2.2.2.2.1.2 7 _ rfl
  have nn : n.toInt = (L : Int) := by
    have hz0 : (0 : Int) ≤ n.toInt := by
      have := Int32.not_lt.mp hn0
      simpa using Int32.le_iff_toInt_le.mp this
    have : n.toInt.toNat = L := hn
    omega
  have z0 : (0 : Int32).toInt = 0 := by decide
  have zc : (0 : Int32).toNatClampNeg = 0 := by decide
  obtain ⟨vm', X', step⟩ := XS.arraycopy hX.1 hX.2.2.2.1 (hX.2.2.2.2.1 _ hlink) (hX.2.2.2.2.1 _ hnat) (hX.2.2.2.2.1 _ hsta) (hX.2.2.2.2.1 _ hini) (src := ad a) (dst := ad b) (srcPos := 0) (destPos := 0) (n := n) (by rw [hT]; exact ha) (by rw [hT]; exact hb)
    (fun _ h => by cases h) (fun _ h => by cases h) (fun h => by cases h) (fun h => by cases h) r1 r1 r2 r2 rfl (by decide) (by decide) hn0
    (by rw [z0, nn, arrV_size]; omega) (by rw [z0, nn, arrV_size]; omega)
    (fun vm₁ hal i hi => by
      rw [hn] at hi
      have e : (arrV (gx_C X 114) L (fun j => va_rf ((Rf a j).map ad))).slots.getD ((0 : Int32).toNatClampNeg + i) .null = va_rf ((Rf a i).map ad) := by
        rw [zc, Nat.zero_add, Array.getD_eq_getD_getElem?, arrV_read _ _ hi]
        rfl
      rw [e]
      cases hy : Rf a i with
      | none => exact ⟨rfl, trivial⟩
      | some y =>
        obtain ⟨ci, N0, q, f1, f2, f3, f4⟩ := hel i y hi hy
        obtain ⟨cellV, g1, g2, g3, -⟩ := gz_obj hw f1 f2 f3
        obtain ⟨-, hfc, kC, hkC, -⟩ := hX.2.2.2.2.2.1.1 ci q f3
        obtain ⟨c0, t1, p1, p2, p3⟩ := Cond.castable_spec (va_Nw.use (A := #[]) rfl (hX.2.2.2.2.2.2.2.2.2.2.2.1.1 _ (gz_nw f4 rfl)))
        cases hfc.symm.trans p1
        cases r3.symm.trans p2
        obtain ⟨kE, hkE, -⟩ := Vm.findClass_spec r3
        obtain ⟨kC', hkC', -⟩ := hal.2.2 _ _ hkC
        obtain ⟨kE', hkE', -⟩ := hal.2.2 _ _ hkE
        refine ⟨rfl, cellV, (show T.heap[ad y]? = some cellV by rw [hT]; exact g1), (fun q h => by rw [g3] at h; cases h), ⟨kC', by rw [g2]; exact hkC'⟩, ⟨kE', hkE'⟩, ?_⟩
        show vm₁.assignable _ _ = true
        rw [hal.assignable, g2]
        exact p3)
    (g := F0 (gx_m X) pc ls (.int n :: .int 0 :: .ref (ad b) :: .int 0 :: .ref (ad a) :: st)) rfl (by rw [hX.2.2.1]; exact hl.1) (rest := st) rfl (by rw [hX.2.1]; exact hdg) (by rw [hX.2.2.2.2.2.2.2.2.1]; exact hR.1) (by rw [hX.2.2.2.2.2.2.2.2.1]; show 2 * 0 + _ + _ ≤ _; have := hR.2; omega)
  have e1 : copied (arrV (gx_C X 114) L (fun j => va_rf ((Rf a j).map ad))) (arrV (gx_C X 114) L2 (fun j => va_rf ((Rf b j).map ad))) 0 0 n = arrV (gx_C X 114) L2 (fun j => va_rf ((j2_cpy Rf a L b b j).map ad)) := by
    have := va_copied (fun z : Option gz_N => va_rf (z.map ad)) (gx_C X 114) (gx_C X 114) (n0 := L) (n1 := L2) (sp := 0) (dp := 0) (n := L) (Rf a) (Rf b) (by omega)
    unfold copied
    rw [zc, hn, this]
    congr 1
    funext j
    rw [j2_cpy_eq]
    unfold va_cpy
    simp only [Nat.zero_le, true_and, Nat.zero_add, Nat.sub_zero]
  rw [e1] at X' step
  have hlb : ad b < H.size := (Array.getElem?_eq_some_iff.mp hb).1
  have hheap : ((T.setVm vm').setCell (ad b) (arrV (gx_C X 114) L2 (fun j => va_rf ((j2_cpy Rf a L b b j).map ad)))).heap = H.setIfInBounds (ad b) (arrV (gx_C X 114) L2 (fun j => va_rf ((j2_cpy Rf a L b b j).map ad))) := by rw [← hT]; rfl
  have oq : ∀ q : Nat, q ≠ ad b → (H.setIfInBounds (ad b) (arrV (gx_C X 114) L2 (fun j => va_rf ((j2_cpy Rf a L b b j).map ad))))[q]? = H[q]? := fun q hq => by simp [Array.getElem?_setIfInBounds, Ne.symm hq]
  have hAb := hw.2.2.1 b hnb hb0
  have hw2 : gz_wd (gx_D X) (gx_C X) (gx_A X) sh V (j2_cpy Rf a L b) ad (H.setIfInBounds (ad b) (arrV (gx_C X 114) L2 (fun j => va_rf ((j2_cpy Rf a L b b j).map ad)))) := by
    refine hw.put hnb (fun _ _ => rfl) (fun x h => j2_cpy_ne h) oq (fun f y hy h0 => ?_) (fun t ht => ?_)
    · rw [j2_cpy_eq] at hy
      dsimp only at hy
      by_cases hj : f < L
      · rw [if_pos hj] at hy
        exact hw.2.2.2.1 a f y hna hy h0
      · rw [if_neg hj] at hy
        exact hw.2.2.2.1 b f y hnb hy h0
    · cases hsb.symm.trans ht
      unfold gz_at
      rw [if_neg (show ¬ (114 : Nat) < 100 by decide), if_neg (show ¬ (114 : Nat) < 110 by decide)]
      simp [Array.getElem?_setIfInBounds, hlb]
  obtain ⟨t, a1, b1⟩ := k _ _ ls hw2 ⟨by simp; exact hS.1, fun q g1 g2 => by
      rw [oq q (fun e => g2 (by rw [e]; exact hAb))]
      exact hS.2.1 q g1 g2, fun q hq => by
      rcases List.mem_append.mp hq with h | h
      · exact hS.2.2 q h
      · obtain ⟨z, -, hz⟩ := List.mem_map.mp h
        rw [← hz]
        exact hAb⟩ hl _ hheap X'
  exact ⟨t, step t a1, b1⟩
theorem gz_aretE (hX : gz_ok X cc own mn nL rm ret) (hE : gz_E X) {x : Nat} {rt : FieldType} (hr : ret = some rt) (hrt : (∃ n, rt = .object n) ∨ ∃ t, rt = .array t) (hF : gx_F X sh V Rf ad (some (.ref x))) (hdg : decode cc pc = .ok (.areturn, 1)) : gW X nL sh Rf ad V (gx_mc X) (gx_ms X) pc lv [.ref x] := by unfold gW; rw [hE]; exact fun H locs ls hw hS hl => W.aret hX.1 hX.2.1 (hX.2.2.2.2.2.2.2.2.2.1.trans hr) hrt (Or.inr ⟨x, rfl⟩) (gz_q hX hF hw hS) hS.2.2 hdg hX.2.2.2.2.2.2.2.1
theorem gy_zret {Fx : gy_Fx} (hX : gz_ok X cc own mn nL rm (some .boolean)) (hE : gy_E X Fx) {x : Int32} (hn : narrow .boolean (.int x) = .int x) (hF : gx_F X sh V Rf ad (some (.int x))) (hdg : decode cc pc = .ok (.ireturn, 1)) : gW X nL sh Rf ad V (gx_mc X) (gx_ms X) pc lv [.int x] := by unfold gW; rw [hE.1]; exact fun H locs ls hw hS hl => gy_ret (W.zret hX.1 hX.2.1 hX.2.2.2.2.2.2.2.2.2.1 hn (gz_q hX hF hw hS) hS.2.2 hdg hX.2.2.2.2.2.2.2.1)
theorem gz_alenE (hX : gz_ok X cc own mn nL rm ret) (hdg : decode cc pc = .ok (.arraylength, 1)) (k : gW X nL sh Rf ad V ce sl (pc + 1) lv (.int 0 :: st)) : gW X nL sh Rf ad V ce sl pc lv (.ref (ad (0, 0, 0)) :: st) := by
  intro H locs ls hw hS hl
  rw [hw.2.2.2.2 0]
  exact va_tlen hX.1 hX.2.1 hX.2.2.2.2.2.2.2.2.2.2.2.2.2.2.2.2.2.2.2.2.2.2 hS rfl hdg (k H locs ls hw hS hl)
end ALR
