/-! WHAT HOLDS AT THE LAW's ENTRY. Printed by wip/D-99505w/gen/mkst.py -/
set_option maxRecDepth 100000
theorem st_K {s : State} {b : Addr} (ht0 : ∀ w ∈ lw_tbl, w.before #[Value.ref b] s = true) : ∃ D : va_G, ∀ (k : Nat) (q : vw_C), gzCl[k]? = some q → u_Kn s q.1 q.2.1 q.2.2 (D.1 k) (D.2 k) := by
  obtain ⟨c0, i0, h0⟩ := u_known (C := RX0) (T := TX0) (N := 16) (n := 16) ht0 (fun w h => lw_all_tbl (in_X0 w h)) (ht0 _ (lw_all_tbl q180))
  obtain ⟨c1, i1, h1⟩ := u_known (C := RX1) (T := TX1) (N := 25) (n := 25) ht0 (fun w h => lw_all_tbl (in_X1 w h)) (ht0 _ (lw_all_tbl q188))
  obtain ⟨c2, i2, h2⟩ := u_known (C := RX2) (T := TX2) (N := 8) (n := 8) ht0 (fun w h => lw_all_tbl (in_X2 w h)) (ht0 _ (lw_all_tbl q198))
  obtain ⟨c3, i3, h3⟩ := u_known (C := RX3) (T := TX3) (N := 2) (n := 2) ht0 (fun w h => lw_all_tbl (in_X3 w h)) (ht0 _ (lw_all_tbl q241))
  obtain ⟨c4, i4, h4⟩ := u_known (C := RX4) (T := TX4) (N := 4) (n := 4) ht0 (fun w h => lw_all_tbl (in_X4 w h)) (ht0 _ (lw_all_tbl q282))
  obtain ⟨c5, i5, h5⟩ := u_known (C := RX5) (T := TX5) (N := 4) (n := 4) ht0 (fun w h => lw_all_tbl (in_X5 w h)) (ht0 _ (lw_all_tbl q311))
  obtain ⟨c6, i6, h6⟩ := u_known (C := RX6) (T := TX6) (N := 69) (n := 69) ht0 (fun w h => lw_all_tbl (in_X6 w h)) (ht0 _ (lw_all_tbl q1467))
  obtain ⟨c7, i7, h7⟩ := u_known (C := RX7) (T := TX7) (N := 9) (n := 9) ht0 (fun w h => lw_all_tbl (in_X7 w h)) (ht0 _ (lw_all_tbl q515))
  obtain ⟨c8, i8, h8⟩ := u_known (C := RX8) (T := TF8) (N := 2) (n := 8) ht0 (fun w h => lw_all_tbl (in_F8 w h)) (ht0 _ (lw_all_tbl q676))
  obtain ⟨c9, i9, h9⟩ := u_known (C := RX10) (T := TX10) (N := 1) (n := 1) ht0 (fun w h => lw_all_tbl (in_X10 w h)) (ht0 _ (lw_all_tbl q756))
  obtain ⟨c10, i10, h10⟩ := u_known (C := RX11) (T := TX11) (N := 1) (n := 1) ht0 (fun w h => lw_all_tbl (in_X11 w h)) (ht0 _ (lw_all_tbl q773))
  obtain ⟨c11, i11, h11⟩ := u_known (C := RX12) (T := TX12) (N := 3) (n := 3) ht0 (fun w h => lw_all_tbl (in_X12 w h)) (ht0 _ (lw_all_tbl q783))
  obtain ⟨c12, i12, h12⟩ := u_known (C := RX13) (T := TX13) (N := 1) (n := 1) ht0 (fun w h => lw_all_tbl (in_X13 w h)) (ht0 _ (lw_all_tbl q815))
  obtain ⟨c13, i13, h13⟩ := u_known (C := RX14) (T := TX14) (N := 3) (n := 3) ht0 (fun w h => lw_all_tbl (in_X14 w h)) (ht0 _ (lw_all_tbl q829))
  obtain ⟨c14, i14, h14⟩ := u_known (C := RX15) (T := TX15) (N := 5) (n := 5) ht0 (fun w h => lw_all_tbl (in_X15 w h)) (ht0 _ (lw_all_tbl q923))
  obtain ⟨c15, i15, h15⟩ := u_known (C := RX17) (T := TX17) (N := 3) (n := 3) ht0 (fun w h => lw_all_tbl (in_X17 w h)) (ht0 _ (lw_all_tbl q966))
  obtain ⟨c16, i16, h16⟩ := u_known (C := RX18) (T := TX18) (N := 4) (n := 4) ht0 (fun w h => lw_all_tbl (in_X18 w h)) (ht0 _ (lw_all_tbl q985))
  obtain ⟨c17, i17, h17⟩ := u_known (C := RX19) (T := TX19) (N := 3) (n := 3) ht0 (fun w h => lw_all_tbl (in_X19 w h)) (ht0 _ (lw_all_tbl q1000))
  obtain ⟨c18, i18, h18⟩ := u_known (C := RJ2) (T := TJ2) (N := 3) (n := 3) ht0 (fun w h => lw_all_tbl (in_J2 w h)) (ht0 _ (lw_all_tbl q257))
  refine ⟨(fun k => [c0, c1, c2, c3, c4, c5, c6, c7, c8, c9, c10, c11, c12, c13, c14, c15, c16, c17, c18].getD k 0, fun k => [i0, i1, i2, i3, i4, i5, i6, i7, i8, i9, i10, i11, i12, i13, i14, i15, i16, i17, i18].getD k (fun _ => 0)), ?_⟩
  intro k q hq
  match k, hq with
  | 0, hq => cases hq; exact h0
  | 1, hq => cases hq; exact h1
  | 2, hq => cases hq; exact h2
  | 3, hq => cases hq; exact h3
  | 4, hq => cases hq; exact h4
  | 5, hq => cases hq; exact h5
  | 6, hq => cases hq; exact h6
  | 7, hq => cases hq; exact h7
  | 8, hq => cases hq; exact h8
  | 9, hq => cases hq; exact h9
  | 10, hq => cases hq; exact h10
  | 11, hq => cases hq; exact h11
  | 12, hq => cases hq; exact h12
  | 13, hq => cases hq; exact h13
  | 14, hq => cases hq; exact h14
  | 15, hq => cases hq; exact h15
  | 16, hq => cases hq; exact h16
  | 17, hq => cases hq; exact h17
  | 18, hq => cases hq; exact h18
  | k + 19, hq => simp [gzCl] at hq
theorem st_A {s : State} {b : Addr} (ht0 : ∀ w ∈ lw_tbl, w.before #[Value.ref b] s = true) : ∃ a0 a1 a2 a3 a4 a5 a6 a7 : ClassId, ∀ (aC : Nat → ClassId), aC 100 = a0 → aC 101 = a1 → aC 102 = a2 → aC 110 = a3 → aC 111 = a4 → aC 112 = a5 → aC 113 = a6 → aC 114 = a7 → ∀ (k : Nat) (q : ClassId × FieldType), (gz_tys aC)[k]? = some q → ArrOfT s q.1 q.2 ∧ va_RA s q.1 q.2 := by
  obtain ⟨a0, k0, p0, f0, g0, h0⟩ := Cond.arrayClass_spec (ht0 _ (lw_all_tbl q237))
  obtain ⟨a1, k1, p1, f1, g1, h1⟩ := Cond.arrayClass_spec (ht0 _ (lw_all_tbl q236))
  obtain ⟨a2, k2, p2, f2, g2, h2⟩ := Cond.arrayClass_spec (ht0 _ (lw_all_tbl q1330))
  obtain ⟨p3, a3, k3, e3, -, g3, h3, f3⟩ := Cond.arrayOver_spec (ht0 _ q194)
  obtain ⟨p4, a4, k4, e4, -, g4, h4, f4⟩ := Cond.arrayOver_spec (ht0 _ q196)
  obtain ⟨p6, a6, k6, e6, -, g6, h6, f6⟩ := Cond.arrayOver_spec (ht0 _ q437)
  obtain ⟨p7, a7, k7, e7, -, g7, h7, f7⟩ := Cond.arrayOver_spec (ht0 _ q903)
  obtain ⟨p5, a5, k5, e5, -, g5, h5, f5⟩ := arrayOverA_spec (ht0 _ q239)
  refine ⟨a0, a1, a2, a3, a4, a5, a6, a7, fun aC c0 c1 c2 c3 c4 c5 c6 c7 k q hq => ?_⟩
  match k, hq with
  | 0, hq => cases hq; rw [c0]; exact ⟨fun n z => ⟨fun k h => (by cases h), k0, g0, p0, h0⟩, f0⟩
  | 1, hq => cases hq; rw [c1]; exact ⟨fun n z => ⟨fun k h => (by cases h), k1, g1, p1, h1⟩, f1⟩
  | 2, hq => cases hq; rw [c2]; exact ⟨fun n z => ⟨fun k h => (by cases h), k2, g2, p2, h2⟩, f2⟩
  | 3, hq => cases hq; rw [c3]; exact ⟨fun n z => ⟨fun k h => (by cases h), k3, g3, p3, h3⟩, ⟨k3, p3, g3, h3, e3, f3⟩⟩
  | 4, hq => cases hq; rw [c4]; exact ⟨fun n z => ⟨fun k h => (by cases h), k4, g4, p4, h4⟩, ⟨k4, p4, g4, h4, e4, f4⟩⟩
  | 5, hq => cases hq; rw [c5]; exact ⟨fun n z => ⟨fun k h => (by cases h), k5, g5, p5, h5⟩, f5⟩
  | 6, hq => cases hq; rw [c6]; exact ⟨fun n z => ⟨fun k h => (by cases h), k6, g6, p6, h6⟩, ⟨k6, p6, g6, h6, e6, f6⟩⟩
  | 7, hq => cases hq; rw [c7]; exact ⟨fun n z => ⟨fun k h => (by cases h), k7, g7, p7, h7⟩, ⟨k7, p7, g7, h7, e7, f7⟩⟩
  | k + 8, hq => simp [gz_tys] at hq
theorem st_ref : ∀ i : Nat, i < 27 → Cond.stringRef "ClaspedFair$Reader" (gzTx.getD i (0, "")).1 (gzTx.getD i (0, "")).2 ∈ lw_tbl := by
  intro i hi
  match i, hi with
  | 0, _ => exact q576
  | 1, _ => exact q629
  | 2, _ => exact q630
  | 3, _ => exact q631
  | 4, _ => exact q632
  | 5, _ => exact q633
  | 6, _ => exact q634
  | 7, _ => exact q639
  | 8, _ => exact q640
  | 9, _ => exact q641
  | 10, _ => exact q642
  | 11, _ => exact q643
  | 12, _ => exact q644
  | 13, _ => exact q645
  | 14, _ => exact q646
  | 15, _ => exact q647
  | 16, _ => exact q648
  | 17, _ => exact q649
  | 18, _ => exact q654
  | 19, _ => exact q655
  | 20, _ => exact q656
  | 21, _ => exact q657
  | 22, _ => exact q662
  | 23, _ => exact q663
  | 24, _ => exact q664
  | 25, _ => exact q665
  | 26, _ => exact q666
  | i + 27, hi => omega
theorem st_NW {s : State} {b : Addr} (ht0 : ∀ w ∈ lw_tbl, w.before #[Value.ref b] s = true) : gz_NW s := by
  refine ⟨fun w hw => va_Nw.of (gz_isN_on (List.mem_filter.mp hw).2) (ht0 w (List.mem_filter.mp hw).1), va_Fw.of (x := gz_yA) (y := gz_yF) (ht0 _ q1136) (ht0 _ q1135) (ht0 _ q1141) (ht0 _ q1139) (ht0 _ q1137), fun t ht => ?_⟩
  have hm : ∀ t ∈ gzOv, Cond.arrayOver t ∈ lw_tbl := by
    intro t ht
    unfold gzOv at ht
    simp only [List.mem_cons, List.not_mem_nil, or_false] at ht
    rcases ht with rfl | rfl | rfl | rfl | rfl
    · exact q194
    · exact q196
    · exact q239
    · exact q437
    · exact q903
  exact ht0 _ (hm t ht)
/-! strings -/
def st_tm (i : Nat) : Term := .string "ClaspedFair$Reader" (gzTx.getD i (0, "")).1
abbrev st_fv (t : Term) : Term := .field t "java/lang/String" "value" "[B"
abbrev st_G : Cond := Jvm.Cond.and given_1 narrow_1
theorem st_hex : ∀ i, i < 27 → Cond.exactly (st_tm i) "java/lang/String" ∈ flatC st_G := by decide +kernel
theorem st_hco : ∀ i, i < 27 → Cond.eq (.field (st_tm i) "java/lang/String" "coder" "B") (.int 0) ∈ flatC st_G := by decide +kernel
theorem st_har : ∀ i, i < 27 → Cond.arrayOf (st_fv (st_tm i)) .byte ∈ flatC st_G := by decide +kernel
theorem st_hle : ∀ i, i < 27 → Cond.eq (.length (st_fv (st_tm i))) (.int (Int32.ofNat (gzLn.getD i 0))) ∈ flatC st_G := by decide +kernel
theorem st_hel : ∀ i, i < 27 → ∀ j, j < gzLn.getD i 0 → Cond.eq (.elem (st_fv (st_tm i)) (.int (Int32.ofNat j))) (.int ((gzBy.getD i []).getD j 0)) ∈ flatC st_G := by decide +kernel
theorem st_dif : ∀ i, i < 27 → ∀ j, j < 27 → i = j ∨ Int32.ofNat (gzLn.getD i 0) ≠ Int32.ofNat (gzLn.getD j 0) ∨ (gzLn.getD i 0 = gzLn.getD j 0 ∧ ∃ k, k < gzLn.getD i 0 ∧ (gzBy.getD i []).getD k 0 ≠ (gzBy.getD j []).getD k 0) := by
  intro i hi j hj
  have h : ∀ i, i < 27 → ∀ j, j < 27 → (decide (i = j) || decide (Int32.ofNat (gzLn.getD i 0) ≠ Int32.ofNat (gzLn.getD j 0)) || (decide (gzLn.getD i 0 = gzLn.getD j 0) && (List.range (gzLn.getD i 0)).any (fun k => decide ((gzBy.getD i []).getD k 0 ≠ (gzBy.getD j []).getD k 0)))) = true := by decide +kernel
  have h := h i hi j hj
  simp only [Bool.or_eq_true, Bool.and_eq_true, decide_eq_true_eq, List.any_eq_true, List.mem_range] at h
  rcases h with (h | h) | ⟨h1, k, h2, h3⟩
  · exact Or.inl h
  · exact Or.inr (Or.inl h)
  · exact Or.inr (Or.inr ⟨h1, k, h2, h3⟩)
section STS
variable {s : State} {args : Array Value}
theorem st_eqi {t : Term} {x : Int32} (h : (Cond.eq t (.int x)).before args s = true) : t.eval args s none [] s = some (.int x) := by
  unfold Cond.before Cond.holds at h
  simp only [Cond.value, Term.eval] at h
  cases ht : t.eval args s none [] s with
  | none => simp [ht] at h
  | some v =>
    cases v <;> simp [ht] at h
    rw [h]
theorem st_ne (hg : st_G.before args s = true) : ∀ i j : Nat, i < 27 → j < 27 → i ≠ j → (Cond.not (Cond.eq (st_tm i) (st_tm j))).before args s = true := by
  have hs := flat_of_before _ hg
  intro i j hi hj hij
  obtain ⟨a1, c1, cell1, k1, e1, -⟩ := Cond.exactly_spec (hs _ (st_hex i hi))
  obtain ⟨a2, c2, cell2, k2, e2, -⟩ := Cond.exactly_spec (hs _ (st_hex j hj))
  have hne : a1 ≠ a2 := by
    intro e
    subst e
    have ev : (st_tm i).eval args s none [] s = (st_tm j).eval args s none [] s := e1.trans e2.symm
    rcases st_dif i hi j hj with h | h | ⟨h1, k, h2, h3⟩
    · exact hij h
    · have l1 := st_eqi (hs _ (st_hle i hi))
      have l2 := st_eqi (hs _ (st_hle j hj))
      have e3 : (Term.length (st_fv (st_tm i))).eval args s none [] s = (Term.length (st_fv (st_tm j))).eval args s none [] s := by simp only [st_fv, Term.eval, ev]
      rw [e3, l2] at l1
      exact h (Value.int.inj (Option.some.inj l1)).symm
    · have l1 := st_eqi (hs _ (st_hel i hi k h2))
      have l2 := st_eqi (hs _ (st_hel j hj k (by rw [← h1]; exact h2)))
      have e3 : (Term.elem (st_fv (st_tm i)) (.int (Int32.ofNat k))).eval args s none [] s = (Term.elem (st_fv (st_tm j)) (.int (Int32.ofNat k))).eval args s none [] s := by simp only [st_fv, Term.eval, ev]
      rw [e3, l2] at l1
      exact h3 (Value.int.inj (Option.some.inj l1)).symm
  unfold Cond.before Cond.holds
  simp [Cond.value, e1, e2, hne]
end STS
theorem st_L {C n d : String} {s : State} {args : Array Value} (h : (Cond.laysStatic C n d).before args s = true) : gy_L C n d (fun q => s.heap.size ≤ q) s s.heap := by
  obtain ⟨c, k, i, f, a, cell, h1, h2, h3, h4, h5, h6, h7, h8, h9⟩ := Cond.laysStatic_spec h
  exact ⟨c, k, i, f, a, cell, h1, h2, h3, h4, h5, h6, h7, h8, h9, by have := (Array.getElem?_eq_some_iff.mp h5).1; show ¬ s.heap.size ≤ a; omega⟩
/-- all of it -/
theorem st_all {s : State} {b : Addr} (ht0 : ∀ w ∈ lw_tbl, w.before #[Value.ref b] s = true) (hg : st_G.before #[Value.ref b] s = true) : ∃ (D : va_G) (aC : Nat → ClassId), va_K D gzCl (gz_tys aC) s ∧ gz_NW s ∧ gz_St aC (fun q => s.heap.size ≤ q) s s.heap ∧ aC 1000 < s.heap.size := by
  have hs := flat_of_before _ hg
  obtain ⟨D, hD⟩ := st_K ht0
  obtain ⟨a0, a1, a2, a3, a4, a5, a6, a7, hA⟩ := st_A ht0
  have hn : ∀ a : Nat, a < s.heap.size → ¬ (fun q => s.heap.size ≤ q) a := fun a h => by show ¬ s.heap.size ≤ a; omega
  obtain ⟨adK, adV, hS, hev⟩ := vk_Sof (A := fun q => s.heap.size ≤ q) (tm := st_tm) (len := gzLn) (byt := gzBy) (N := 27) (by decide) (fun i hi => hs _ (st_hex i hi)) (fun i hi => hs _ (st_hco i hi)) (fun i hi => hs _ (st_har i hi)) (fun i hi => hs _ (st_hle i hi)) (fun i hi j hj => hs _ (st_hel i hi j hj)) (fun i j hi hj hij => Or.inl (st_ne hg i j hi hj hij)) hn
  obtain ⟨t0, e0, hT⟩ := va_Tof (A := fun q => s.heap.size ≤ q) (tm := .static "java/util/ArrayList" "DEFAULTCAPACITY_EMPTY_ELEMENTDATA" "[Ljava/lang/Object;") (ty := .object "java/lang/Object") (N := 0) (f := fun _ => .null) (by decide) (hs _ (by decide +kernel)) (st_eqi (hs _ (by decide +kernel))) (fun j hj => absurd hj (by omega)) hn
  obtain ⟨mi, hM⟩ := va_Mi.of (C := "[Ljava/lang/Object;") (hs _ (by decide +kernel))
  refine ⟨D, fun n => if n = 100 then a0 else if n = 101 then a1 else if n = 102 then a2 else if n = 110 then a3 else if n = 111 then a4 else if n = 112 then a5 else if n = 113 then a6 else if n = 114 then a7 else if n = 1000 then t0 else if n = 1004 then mi else if n < 3000 then adK (n - 2000) else adV (n - 3000), ⟨hD, hA _ rfl rfl rfl rfl rfl rfl rfl rfl⟩, st_NW ht0, ⟨va_Zref (ht0 _ q269) (ht0 _ (lw_all_tbl q150)) e0 hn, va_Zof (ht0 _ q590) (ht0 _ (lw_all_tbl q158)) (st_eqi (hs _ (by decide +kernel))) hn, va_Zqof (ht0 _ q606) (ht0 _ (lw_all_tbl q155)) (hs _ (by decide +kernel)) hn, va_Zqof (ht0 _ q700) (ht0 _ (lw_all_tbl q161)) (hs _ (by decide +kernel)) hn, va_Zqof (ht0 _ q702) (ht0 _ (lw_all_tbl q161)) (hs _ (by decide +kernel)) hn, st_L (ht0 _ q700), st_L (ht0 _ q702), ?_, fun i hi => ?_, hM, hT⟩, ?_⟩
  · have e1 : (fun i : Nat => (fun n => if n = 100 then a0 else if n = 101 then a1 else if n = 102 then a2 else if n = 110 then a3 else if n = 111 then a4 else if n = 112 then a5 else if n = 113 then a6 else if n = 114 then a7 else if n = 1000 then t0 else if n = 1004 then mi else if n < 3000 then adK (n - 2000) else adV (n - 3000)) (2000 + i)) = fun i => if i < 1000 then adK i else adV (i - 1000) := by
      funext i
      dsimp only
      rw [if_neg (by omega), if_neg (by omega), if_neg (by omega), if_neg (by omega), if_neg (by omega), if_neg (by omega), if_neg (by omega), if_neg (by omega), if_neg (by omega), if_neg (by omega)]
      by_cases h : i < 1000
      · rw [if_pos (by omega), if_pos h, show 2000 + i - 2000 = i by omega]
      · rw [if_neg (by omega), if_neg h, show 2000 + i - 3000 = i - 1000 by omega]
    have e2 : (fun i : Nat => (fun n => if n = 100 then a0 else if n = 101 then a1 else if n = 102 then a2 else if n = 110 then a3 else if n = 111 then a4 else if n = 112 then a5 else if n = 113 then a6 else if n = 114 then a7 else if n = 1000 then t0 else if n = 1004 then mi else if n < 3000 then adK (n - 2000) else adV (n - 3000)) (3000 + i)) = adV := by
      funext i
      dsimp only
      rw [if_neg (by omega), if_neg (by omega), if_neg (by omega), if_neg (by omega), if_neg (by omega), if_neg (by omega), if_neg (by omega), if_neg (by omega), if_neg (by omega), if_neg (by omega), if_neg (by omega), show 3000 + i - 3000 = i by omega]
    show vk_S 27 gzLn gzBy (fun i : Nat => (fun n => if n = 100 then a0 else if n = 101 then a1 else if n = 102 then a2 else if n = 110 then a3 else if n = 111 then a4 else if n = 112 then a5 else if n = 113 then a6 else if n = 114 then a7 else if n = 1000 then t0 else if n = 1004 then mi else if n < 3000 then adK (n - 2000) else adV (n - 3000)) (2000 + i)) (fun i : Nat => (fun n => if n = 100 then a0 else if n = 101 then a1 else if n = 102 then a2 else if n = 110 then a3 else if n = 111 then a4 else if n = 112 then a5 else if n = 113 then a6 else if n = 114 then a7 else if n = 1000 then t0 else if n = 1004 then mi else if n < 3000 then adK (n - 2000) else adV (n - 3000)) (3000 + i)) (fun q => s.heap.size ≤ q) s s.heap
    rw [e1, e2]
    refine ⟨fun i hi => ?_, fun i j hi hj h => ?_⟩
    · dsimp only
      rw [if_pos (by omega)]
      exact hS.1 i hi
    · dsimp only at h
      rw [if_pos (by omega), if_pos (by omega)] at h
      exact hS.2 i j hi hj h
  · have e1 : (fun n => if n = 100 then a0 else if n = 101 then a1 else if n = 102 then a2 else if n = 110 then a3 else if n = 111 then a4 else if n = 112 then a5 else if n = 113 then a6 else if n = 114 then a7 else if n = 1000 then t0 else if n = 1004 then mi else if n < 3000 then adK (n - 2000) else adV (n - 3000)) (2000 + i) = adK i := by
      dsimp only
      rw [if_neg (by omega), if_neg (by omega), if_neg (by omega), if_neg (by omega), if_neg (by omega), if_neg (by omega), if_neg (by omega), if_neg (by omega), if_neg (by omega), if_neg (by omega), if_pos (by omega), show 2000 + i - 2000 = i by omega]
    rw [e1]
    refine vk_R.of (A := #[Value.ref b]) (ht0 _ ?_) (hev i hi)
    exact st_ref i hi
  · obtain ⟨cell, h1, -⟩ := hT
    exact (Array.getElem?_eq_some_iff.mp h1).1

