/-! undo, end -/
set_option maxRecDepth 100000
theorem JJ.bk {Ds : gz_S} {Df : gz_R} {V M V2 M2 : gz_V} {c P' H' b' : Nat} (h : JJ Ds Df V c M) (hr : mR 0 P' H' b' Ds Df V2 M2) (hbr : bR P' H' b' Df V2 M2) (hx : ∀ n i, n.1 < 20 ∨ 90 ≤ n.1 ∨ n.2.1 ≠ 0 ∨ (n = (20, 0, 0) ∧ i = 21) → ¬ (n = (10, 0, 0) ∧ i = 8) → V2 n i = V n i) (hm : ∀ n i, n = (2, 68, 0) ∨ n = (2, 11, 0) ∨ n = (2, 17, 0) ∨ (n = (1, 0, 0) ∧ (i = 5 ∨ i = 12 ∨ i = 32 ∨ i = 33 ∨ i = 66)) → M2 n i = M n i) : JJ Ds Df V2 c M2 := by
  obtain ⟨P, H, b, h1, -, h3', h4, h5⟩ := h
  have m1 : ∀ i, (i = 5 ∨ i = 12 ∨ i = 32 ∨ i = 33 ∨ i = 66) → M2 (1, 0, 0) i = M (1, 0, 0) i := fun i hi => hm _ _ (Or.inr (Or.inr (Or.inr ⟨rfl, hi⟩)))
  have x10 : ∀ n i, n.1 < 20 → i ≠ 8 → V2 n i = V n i := fun n i hn hi => hx n i (Or.inl hn) (fun z => hi z.2)
  refine ⟨P', H', b', hr, hbr, ⟨by rw [x10 _ _ (by decide) (by decide), m1 66 (by decide)]; exact h3'.1, ?_⟩, ?_, h5⟩
  · rw [x10 (10, 0, 0) 9 (by decide) (by decide)]
    rcases h3'.2 with q | ⟨q, P1, H1, b1, z⟩
    · exact Or.inl q
    · refine Or.inr ⟨q, P1, H1, b1, z.eq (fun n i hn => hx n i ?_ ?_) (fun n i _ => hm _ _ (Or.inl rfl))⟩
      · rcases hn with w | w
        · exact Or.inr (Or.inl w)
        · exact Or.inr (Or.inr (Or.inl (by rw [w.1]; decide)))
      · rintro ⟨rfl, -⟩
        rcases hn with w | w
        · exact absurd w (by decide)
        · exact absurd w.1 (by decide)
  · obtain ⟨g1, g2, g3, ⟨t, g4, g5, g6⟩, g7, g8, g9, g10, g11, g12⟩ := h4
    have x11 : ∀ f i, V2 (11, f, 0) i = V (11, f, 0) i := fun f i => hx _ _ (Or.inl (show 11 < 20 by decide)) (by simp)
    refine ⟨by rw [hx (20, 0, 0) 21 (Or.inr (Or.inr (Or.inr ⟨rfl, rfl⟩))) (by simp)]; exact g1, by rw [hx (20, 2, 0) 21 (Or.inr (Or.inr (Or.inl (by decide)))) (by simp)]; exact g2, by rw [m1 5 (by decide)]; exact g3, ⟨t, g4, by rw [x10 _ _ (by decide) (by decide)]; exact g5, by rw [m1 12 (by decide)]; exact g6⟩, fun i hi => ?_, by rw [x10 _ _ (by decide) (by decide), m1 32 (by decide)]; exact g8, by rw [x10 _ _ (by decide) (by decide), m1 33 (by decide)]; exact g9, fun p hp => by rw [x11]; exact g10 p hp, by rw [x11]; exact g11, fun i hi => by rw [hm _ _ (Or.inr (Or.inr (Or.inl rfl)))]; exact g12 i hi⟩
    rw [x11, hm (2, 11, 0) i (Or.inr (Or.inl rfl))]
    exact g7 i hi
theorem mR.f10 {Ds : gz_S} {Df : gz_R} {V M : gz_V} {P H b : Nat} {x y : Int32} (h : mR 0 P H b Ds Df V M) : mR 0 P H b Ds Df (gz_up V (10, 0, 0) 8 x) (gz_up M (1, 0, 0) 3 y) := h.eq (fun n i hn => by
  rw [up_ne]
  rintro rfl
  rcases hn with w | w
  · exact absurd w (by decide)
  · rcases w.2 with z | z | z | z | z | z | z
    · exact absurd z.1 (by decide)
    · exact absurd z (by decide)
    · exact absurd z (by decide)
    · exact absurd z.1 (by decide)
    · exact absurd z (by decide)
    · exact absurd z (by decide)
    · exact absurd z (by decide)) (fun n i hn => by
  rw [up_at, if_neg]
  rintro ⟨rfl, rfl⟩
  cases hn)
theorem J_undo {N : Nat} (hN : 1000 ≤ N) : lo_undo JJ N := by
  intro Ds Df V c M h
  have h0 := h.m0
  obtain ⟨P, H, b, mr, ⟨u, κ, q1, q2, q3, q4, q5, q6⟩, hI, hM, hS⟩ := h.m0
  unfold x0_undo m_undo
  simp only [gs_let]
  generalize gz_up M (1, 0, 0) 0 0 = M1 at *
  rw [q2, q3]
  by_cases hu : u = 0
  · subst hu
    rw [if_pos (show Int32.ofNat 0 = 0 from rfl), if_pos (show Int32.ofNat 0 = 0 from rfl)]
    exact ⟨V, M1, 0, rfl, rfl, h0⟩
  obtain ⟨v, rfl⟩ : ∃ v, u = v + 1 := ⟨u - 1, by omega⟩
  have hne : ¬ Int32.ofNat (v + 1) = 0 := by
    rw [show (0 : Int32) = Int32.ofNat 0 from rfl, o_eq (by omega) (by omega)]
    omega
  have em : Int32.ofNat (v + 1) - 1 = Int32.ofNat v := by
    have e : Int32.ofNat (v + 1) = Int32.ofNat v + 1 := (o_addr 1 v).symm
    rw [e, Int32.add_sub_cancel]
  rw [if_neg hne, if_neg hne, em]
  have v6 : v < 6 := by omega
  obtain ⟨k1, k2, k3⟩ := q4 v v6
  obtain ⟨bw1, bw2, bw3, bw4⟩ := q6 v (by omega)
  have mr2 := mr.f10 (x := Int32.ofNat v) (y := Int32.ofNat v)
  have e8 : gz_up V (10, 0, 0) 8 (Int32.ofNat v) (10, 0, 0) 8 = Int32.ofNat v := by rw [up_at, if_pos ⟨rfl, rfl⟩]
  have e3 : gz_up M1 (1, 0, 0) 3 (Int32.ofNat v) (1, 0, 0) 3 = Int32.ofNat v := by rw [up_at, if_pos ⟨rfl, rfl⟩]
  have vn : ∀ n i, n.1 ≠ 10 → gz_up V (10, 0, 0) 8 (Int32.ofNat v) n i = V n i := fun n i hn => by rw [up_ne (fun e => hn (by rw [e]))]
  have v21 : gz_up V (10, 0, 0) 8 (Int32.ofNat v) (20, 0, 0) 21 = 0 := by rw [vn _ _ (by decide)]; exact hM.1
  have m5 : gz_up M1 (1, 0, 0) 3 (Int32.ofNat v) (1, 0, 0) 5 = 0 := by rw [up_at, if_neg (by simp)]; exact hM.2.2.1
  have mn : ∀ n i, ¬ (n = (1, 0, 0) ∧ i = 3) → gz_up M1 (1, 0, 0) 3 (Int32.ofNat v) n i = M1 n i := fun n i hn => by rw [up_at, if_neg hn]
  have vn8 : ∀ n i, ¬ (n = (10, 0, 0) ∧ i = 8) → gz_up V (10, 0, 0) 8 (Int32.ofNat v) n i = V n i := fun n i hn => by rw [up_at, if_neg hn]
  generalize gz_up V (10, 0, 0) 8 (Int32.ofNat v) = V2 at *
  generalize gz_up M1 (1, 0, 0) 3 (Int32.ofNat v) = M4 at *
  obtain ⟨V7, a1, a2⟩ := x_moves (N := N) (V0 := V2) (k1 := 0) (k2 := κ v) (by omega) (by omega)
  obtain ⟨M6, b1, b2⟩ := m_undoL (N := N) (M0 := M4) v6 e3 121 0 (n := N) (M := M4) (by decide) (by omega) ⟨fun i hi => absurd hi (by omega), fun n i _ => rfl⟩
  rw [e8, gs_gd (o_inb v6 (by omega)), o_nat (by omega), k3, gz_mk_ok k2, gs_bd, a1, gs_bd, show m_undo_L26 N N M4 0 = some M6 from b1, gs_bd]
  have row : ∀ i, i < 121 → M6 (2, 1, 0) i = M1 (2, 2, 0) (121 * v + i) := fun i hi => by
    have := b2.1 i hi
    rw [Nat.zero_add] at this
    rw [this, mn _ _ (by simp)]
  have no6 : ∀ n i, n ≠ (2, 1, 0) → M6 n i = M4 n i := fun n i hn => b2.2 n i (Or.inl hn)
  have hH := mr.1.2.2.1
  have v7 : ∀ n i, ¬ (n.2.1 = 0 ∧ 20 ≤ n.1 ∧ n.1 < 90) → V7 n i = V2 n i := fun n i hn => (a2 n i).2 (fun z => hn (by
    obtain ⟨z1, z2⟩ := z
    refine ⟨z1, ?_⟩
    rcases z2 with z2 | z2 | z2
    · rcases z2.2 with z3 | z3 <;> omega
    · omega
    · omega))
  have hfx : fr (fx 0) V2 V7 := fun n i hn => by
    by_cases z : mvS 0 n i
    · obtain ⟨x, y, w⟩ := n
      obtain ⟨z1, z2⟩ := z
      have z1 : y = 0 := z1
      subst z1
      unfold fx at hn
      simp only [beq_self_eq_true, Bool.true_and, Bool.or_eq_false_iff, Bool.and_eq_false_iff, beq_eq_false_iff_ne, decide_eq_false_iff_not, ne_eq] at hn
      have h42 : x = 42 ∧ (i = 1 ∨ i = 2) ∧ w < 10 := by
        rcases z2 with ⟨-, z3 | z3⟩ | ⟨z3, z4, z5⟩ | z3
        · exact absurd z3.1 hn.1.1.2
        · exact absurd z3.1 hn.1.1.1.2
        · refine ⟨z4, ?_, z3⟩
          rcases hn.1.2 with q | q
          · exact absurd z4 q
          · omega
        · have : x = 20 := z3.1
          have h2 : 15 ≤ i := z3.2.2.1
          have h3 : i ≤ 19 := z3.2.2.2
          rcases hn.2 with q | q
          · exact absurd this q
          · omega
      obtain ⟨rfl, hi, hw⟩ := h42
      rw [(a2 _ _).1 ⟨rfl, z2⟩]
      show V2 (42, κ v, w) i = V2 (42, 0, w) i
      rw [vn _ _ (show (42 : Nat) ≠ 10 by decide), vn _ _ (show (42 : Nat) ≠ 10 by decide)]
      rcases hi with rfl | rfl
      · exact (bw4 w hw).1
      · exact (bw4 w hw).2
    · exact (a2 n i).2 z
  have hfm : fr fm M4 M6 := fun n i hn => no6 n i (fun e => by rw [e] at hn; cases hn)
  have c2 : cU 0 P H 0 b Ds Df V2 M4 := ⟨mr2.1, mr2.2.1, mr2.2.2.1, v21, m5, fun _ => ⟨b, Nat.le_refl _, mr2.2.2.2.1⟩⟩
  have c7 : cU 0 P H 0 b Ds Df V7 M6 := c2.mv hfx hfm (fun i hi => by
      rw [row i hi, xr_cp a2 i hi]
      have e := bw1 i hi
      rw [MB_row] at e
      rw [← e]
      exact congrFun (xr_eq (fun n j hn => vn n j (fun z => by
        obtain ⟨x, y, w⟩ := n
        unfold xsl at hn
        simp only [Bool.and_eq_true, Bool.or_eq_true, beq_iff_eq, decide_eq_true_eq] at hn
        have z : x = 10 := z
        omega))) i) (rg_row hH bw2 (fun i hi => by rw [MB_row]; exact row i hi)) (fun _ => by
      obtain ⟨k1', k2', k3'⟩ := mr2.2.2.2.1
      refine ⟨b, Nat.le_refl _, by rw [row 2 (by decide)]; exact bw3, k2', fun i hi j hj => ?_⟩
      rw [no6 _ _ (by decide), (a2 (26, 0, i) j).2 (fun z => by
        rcases z.2 with w | w | w
        · rcases w.2 with w | w <;> exact absurd w.1 (by show ¬ 26 = _; decide)
        · exact absurd w.2.1 (by show ¬ 26 = _; decide)
        · exact absurd w.1 (by show ¬ 26 = _; decide))]
      exact k3' i hi j hj)
  obtain ⟨b', hb, mr7⟩ := mr2.core c7 hfx hfm
  refine ⟨V7, M6, 1, rfl, rfl, h0.bk mr7 ⟨v, κ, by omega, by rw [v7 _ _ (by simp)]; exact e8, by rw [no6 _ _ (by decide)]; exact e3, q4, q5, fun j hj => ?_⟩ (fun n i hn hn2 => ?_) (fun n i hn => ?_)⟩
  · have k3j := (q4 j (by omega)).1
    obtain ⟨w1, w2, w3, w4⟩ := q6 j (by omega)
    have m22 : ∀ i, M6 (2, 2, 0) i = M1 (2, 2, 0) i := fun i => (no6 _ i (by decide)).trans (mn _ i (by simp))
    refine ⟨fun i hi => ?_, rg_row hH w2 (fun i _ => by rw [MB_row, MB_row]; exact m22 _), by rw [m22]; omega, fun h hh => ?_⟩
    · have e := w1 i hi
      rw [MB_row] at e ⊢
      rw [m22, ← e]
      refine congrFun (xr_eq (fun n j' hn => ?_)) i
      obtain ⟨x, y, w⟩ := n
      unfold xsl at hn
      simp only [Bool.and_eq_true, Bool.or_eq_true, beq_iff_eq, decide_eq_true_eq] at hn
      have hy : y = κ j := hn.1
      rw [v7 _ _ (by show ¬ (y = 0 ∧ _); omega), vn _ _ (by show x ≠ 10; omega)]
    · have x1 : ∀ f, V7 (42, κ j, h) f = V (42, κ j, h) f := fun f => by rw [v7 _ _ (by show ¬ (κ j = 0 ∧ _); omega), vn _ _ (show (42 : Nat) ≠ 10 by decide)]
      have x0 : ∀ f, f = 1 ∨ f = 2 → V7 (42, 0, h) f = V (42, 0, h) f := fun f hf => by
        rw [hfx (42, 0, h) f (by rcases hf with rfl | rfl <;> simp [fx]), vn _ _ (show (42 : Nat) ≠ 10 by decide)]
      rw [x1, x1, x0 1 (Or.inl rfl), x0 2 (Or.inr rfl)]
      exact w4 h hh
  · rcases hn with w | w | w | ⟨rfl, rfl⟩
    · rw [v7 n i (by omega), vn8 n i hn2]
    · rw [v7 n i (by omega), vn8 n i hn2]
    · rw [v7 n i (by omega), vn8 n i hn2]
    · rw [hfx _ _ (by simp [fx]), vn8 _ _ hn2]
  · rw [no6 n i (by rintro rfl; rcases hn with w | w | w | w <;> first | exact absurd w (by decide) | exact absurd w.1 (by decide)), mn n i (by
      rintro ⟨rfl, rfl⟩
      rcases hn with w | w | w | w <;> first | exact absurd w (by decide) | exact absurd w.2 (by decide))]
