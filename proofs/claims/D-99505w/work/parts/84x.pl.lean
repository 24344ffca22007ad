/-! person, whole -/
set_option maxRecDepth 100000
theorem xr_tr {V V' : gz_V} {P : Nat} {a2 : Int32} (h : ∀ m i, V' m i = if m = (41, 0, P) ∧ 0 ≤ i ∧ i < 5 then a2 else V m i) (hP : P < 12) (i : Nat) : xr V' 0 i = if 5 + 5 * P ≤ i ∧ i < 5 + 5 * P + 5 then a2 else xr V 0 i := by
  simp only [xr, h, Prod.mk.injEq]
  grind (splits := 40)
theorem J_person {N : Nat} (hN : 1000 ≤ N) : lo_person JJ N := by
  intro Ds Df V c M a1 a2 h
  have h0 := h.m0
  obtain ⟨P, H, b, mr, -⟩ := h.m0
  obtain ⟨hS, hr, hg, hb, hk, htd⟩ := mr
  have hP := hS.2.1
  have hH := hS.2.2.1
  have p13 : V (20, 0, 0) 13 = Int32.ofNat P := hS.2.2.2.1
  have p6 := hS.2.2.2.2.1
  unfold x0_person m_person x4_begins x0_forgets
  simp only [gs_let, gs_b2]
  rw [isIn_eq, isIn_eq]
  generalize gz_up M (1, 0, 0) 0 0 = M1 at *
  rcases isIn_c (a := a1) (b := 0) (c := 9999) with w | ⟨w, w1, w2⟩
  · rw [if_pos w, if_pos w]
    exact ⟨V, M1, -1, rfl, rfl, h0⟩
  rw [w, if_neg n10, if_neg n10]
  rcases isIn_c (a := a2) (b := 0) (c := 999) with x | ⟨x, x1, x2⟩
  · rw [if_pos x, if_pos x]
    exact ⟨V, M1, -1, rfl, rfl, h0⟩
  rw [x, if_neg n10, if_neg n10, p13, p6]
  have x1 : 0 ≤ a2.toInt := x1
  have x2 : a2.toInt ≤ 999 := x2
  by_cases h12 : P = 12
  · subst h12
    rw [if_pos (show Int32.ofNat 12 = 12 from rfl), if_pos (show Int32.ofNat 12 = 12 from rfl)]
    exact ⟨V, M1, -1, rfl, rfl, h0⟩
  have hne : ¬ Int32.ofNat P = 12 := by rw [show (12 : Int32) = Int32.ofNat 12 from rfl, o_eq (by omega) (by omega)]; exact h12
  have hlt : P < 12 := by omega
  have e1' : Int32.ofNat P + 1 = Int32.ofNat (P + 1) := o_addr 1 P
  obtain ⟨V1, a, av⟩ := x_traits (N := N) (P := P) (a1 := a1) (a2 := a2) 5 0 (n := N) (V := V) (by decide) (by omega)
  obtain ⟨M2, c1, cv⟩ := m_traits (N := N) (P := P) (a1 := a1) (a2 := a2) hlt ⟨x1, x2⟩ 5 0 (n := N) (M := M1) (by decide) (by omega) p6
  rw [if_neg hne, if_neg hne, at_ok hlt, gs_bd, show x4_begins_L2 N 0 P a1 a2 N V 0 = some V1 from a, gs_bd, gs_bd, show m_person_L42 N a1 a2 N M1 0 = some M2 from c1, gs_bd]
  have w1' : ∀ (W : gz_V) (f j : Nat) (x : Int32), gz_up W (2, f, 0) j x (1, 0, 0) = W (1, 0, 0) := fun W f j x => up_ne (by simp)
  have w2' : ∀ (W : gz_V) (j : Nat) (x : Int32), gz_up W (40, 0, P) j x (20, 0, 0) = W (20, 0, 0) := fun W j x => up_ne (by simp)
  have v13 : V1 (20, 0, 0) 13 = Int32.ofNat P := by rw [av, if_neg (by simp)]; exact p13
  have m6 : M2 (1, 0, 0) 6 = Int32.ofNat P := by rw [cv, if_neg (by simp)]; exact p6
  simp only [w1', w2', v13, m6, o_addl, gs_gd (o_inb (show 65 + P < 121 by omega) (show 65 + P < 2147483648 by omega)), gs_gd (o_inb (show 77 + P < 121 by omega) (show 77 + P < 2147483648 by omega)), gs_gd (o_inb (show 89 + P < 121 by omega) (show 89 + P < 2147483648 by omega)), o_nat (show 65 + P < 2147483648 by omega), o_nat (show 77 + P < 2147483648 by omega), o_nat (show 89 + P < 2147483648 by omega), e1']
  generalize hV8 : gz_up (gz_up (gz_up (gz_up V1 (40, 0, P) 1 a1) (40, 0, P) 2 0) (40, 0, P) 3 0) (20, 0, 0) 13 (Int32.ofNat (P + 1)) = V8
  generalize hM8 : gz_up (gz_up (gz_up (gz_up M2 (2, 1, 0) (65 + P) a1) (2, 1, 0) (77 + P) 0) (2, 1, 0) (89 + P) 0) (1, 0, 0) 6 (Int32.ofNat (P + 1)) = M8
  have e13 : V8 (20, 0, 0) 13 = Int32.ofNat (P + 1) := by rw [← hV8, up_at, if_pos ⟨rfl, rfl⟩]
  have e6 : M8 (1, 0, 0) 6 = Int32.ofNat (P + 1) := by rw [← hM8, up_at, if_pos ⟨rfl, rfl⟩]
  have vno : ∀ n i, n ≠ (40, 0, P) → n ≠ (41, 0, P) → ¬ (n = (20, 0, 0) ∧ i = 13) → V8 n i = V n i := fun n i q1 q2 q3 => by rw [← hV8, up_at, if_neg q3, up_ne q1, up_ne q1, up_ne q1, av, if_neg (fun z => q2 z.1)]
  have mno : ∀ n i, ¬ (n = (1, 0, 0) ∧ i = 6) → n ≠ (2, 1, 0) → M8 n i = M1 n i := fun n i q1 q2 => by rw [← hM8, up_at, if_neg q1, up_ne q2, up_ne q2, up_ne q2, cv, if_neg (fun z => q2 z.1)]
  have rowM : ∀ i, M8 (2, 1, 0) i = if i = 89 + P then 0 else if i = 77 + P then 0 else if i = 65 + P then a1 else if 5 + 5 * P ≤ i ∧ i < 5 + 5 * P + 5 then a2 else M1 (2, 1, 0) i := fun i => by
    rw [← hM8, up_ne (by decide), up_at, up_at, up_at, cv]
    simp only [true_and, Nat.add_zero]
  have rowV : ∀ i, xr V8 0 i = if i = 89 + P then 0 else if i = 77 + P then 0 else if i = 65 + P then a1 else if 5 + 5 * P ≤ i ∧ i < 5 + 5 * P + 5 then a2 else xr V 0 i := fun i => by
    rw [← hV8, xr_no (by simp [xsl]), xu_shook hlt, xu_hand hlt, xu_purse hlt]
    simp only [upd_at]
    rw [xr_tr av hlt i]
  have r2 : rR 0 V8 M8 := fun i hi => by
    rw [rowV, rowM, hr i hi]
  have mr8 : mR 0 (P + 1) H b Ds Df V8 M8 := by
    refine ⟨hS.more (by omega) (by omega) (Nat.le_refl _) hH e13 e6 ?_ ?_ (fun j hj => ?_) (fun n hn => funext (fun i => vno n i (by rintro rfl; exact absurd hn (by show ¬ 90 ≤ 40; decide)) (by rintro rfl; exact absurd hn (by show ¬ 90 ≤ 41; decide)) (by rintro ⟨rfl, -⟩; exact absurd hn (by decide)))) (fun f hf => funext (fun i => mno _ i (by simp) (by simp; omega))) (mno _ _ (by decide) (by decide)) (mno _ _ (by decide) (by decide)), r2, ⟨fun i h1 h2 => ?_, fun j hj => ?_, ?_⟩, ⟨?_, hb.2.1, fun i hi j hj => ?_⟩, ?_, td5.kp htd (fun n i hn => vno n i ?_ ?_ ?_) (fun f h1 h2 => mno _ _ (by simp; omega) (by simp)) (fun a h1 h2 => funext (fun i => mno _ i (by simp) (by simp; omega)))⟩
    · rw [vno _ _ (by simp) (by simp) (by simp)]; exact hS.2.2.2.2.2.1
    · rw [mno _ _ (by decide) (by decide)]; exact hS.2.2.2.2.2.2.1
    · rw [vno _ _ (by simp) (by simp) (by simp), vno _ _ (by simp) (by simp) (by simp), mno _ _ (by simp) (by simp), mno _ _ (by simp) (by simp)]
      exact hS.2.2.2.2.2.2.2.1 j hj
    · rw [rowM, if_neg (by omega), if_neg (by omega), if_neg (by omega)]
      split
      · exact ⟨x1, x2⟩
      · exact hg.1 i h1 h2
    · rw [rowM, if_neg (by omega), if_neg (by omega), if_neg (by omega), if_neg (by omega)]
      have := hg.2.1 j hj
      omega
    · rw [rowM, if_neg (by omega), if_neg (by omega), if_neg (by omega), if_neg (by omega)]; exact hg.2.2
    · rw [rowM, if_neg (by omega), if_neg (by omega), if_neg (by omega), if_neg (by omega)]; exact hb.1
    · rw [vno _ _ (by simp) (by simp) (by simp), mno _ _ (by simp) (by simp)]; exact hb.2.2 i hi j hj
    · rw [vno _ _ (by simp) (by simp) (by simp), mno _ _ (by decide) (by decide)]; exact hk
    · rintro rfl
      rcases hn with q | q
      · exact absurd q (by show ¬ 40 = 27; decide)
      · exact absurd q (by show ¬ (30 ≤ 40 ∧ 40 < 35); decide)
    · rintro rfl
      rcases hn with q | q
      · exact absurd q (by show ¬ 41 = 27; decide)
      · exact absurd q (by show ¬ (30 ≤ 41 ∧ 41 < 35); decide)
    · rintro ⟨rfl, -⟩
      rcases hn with q | q
      · exact absurd q (by show ¬ 20 = 27; decide)
      · exact absurd q (by show ¬ (30 ≤ 20 ∧ 20 < 35); decide)
  have v13' : gz_up V8 (10, 0, 0) 8 0 (20, 0, 0) 13 = Int32.ofNat (P + 1) := by rw [up_ne (by decide)]; exact e13
  have m6' : gz_up M8 (1, 0, 0) 3 0 (1, 0, 0) 6 = Int32.ofNat (P + 1) := by rw [up_at, if_neg (by decide)]; exact e6
  rw [v13', m6']
  refine ⟨_, _, _, rfl, rfl, h0.fg mr8.fz (by rw [up_at, if_pos ⟨rfl, rfl⟩]) (by rw [up_at, if_pos ⟨rfl, rfl⟩]) (fun n i hn hn2 => ?_) (fun n i hn => ?_)⟩
  · rw [up_at, if_neg hn2]
    refine vno n i ?_ ?_ ?_
    · rintro rfl
      rcases hn with q | q | q | q
      · exact absurd q (by show ¬ 40 < 20; decide)
      · exact absurd q (by show ¬ 90 ≤ 40; decide)
      · exact q rfl
      · exact absurd q.1 (by simp)
    · rintro rfl
      rcases hn with q | q | q | q
      · exact absurd q (by show ¬ 41 < 20; decide)
      · exact absurd q (by show ¬ 90 ≤ 41; decide)
      · exact q rfl
      · exact absurd q.1 (by simp)
    · rintro ⟨rfl, rfl⟩
      rcases hn with q | q | q | q
      · exact absurd q (by decide)
      · exact absurd q (by decide)
      · exact q rfl
      · exact absurd q.2 (by decide)
  · rw [up_at, if_neg]
    · refine mno n i ?_ ?_
      · rintro ⟨rfl, rfl⟩
        rcases hn with q | q | q | q <;> first | exact absurd q (by decide) | exact absurd q.2 (by decide)
      · rintro rfl
        rcases hn with q | q | q | q <;> first | exact absurd q (by decide) | exact absurd q.1 (by decide)
    · rintro ⟨rfl, rfl⟩
      rcases hn with q | q | q | q <;> first | exact absurd q (by decide) | exact absurd q.2 (by decide)
