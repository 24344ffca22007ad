/-! rows that are told -/
set_option maxRecDepth 100000
section TOLD
variable {k P H b : Nat} {Ds : gz_S} {Df : gz_R} {V M V2 M2 : gz_V} {c : Nat}
theorem cS.eq2 (h : cS k P H Ds Df V M) (hx : ∀ n i, 90 ≤ n.1 ∨ (n.2.1 = k ∧ (n.1 = 20 ∨ n.1 = 42)) → V2 n i = V n i) (hm : ∀ n i, (n = (1, 0, 0) ∧ i < 40) ∨ (n.1 = 2 ∧ n.2.1 < 40) → M2 n i = M n i) : cS k P H Ds Df V2 M2 := by
  obtain ⟨h1, h2, h3, h4, h5, h6, h7, h8, ⟨n, h9, hl⟩, ⟨n2, L2, el2, a1, a2, a3, a4⟩, ⟨n3, L3, el3, b1, b2, b3, b4⟩, ⟨n4, K, c1, c2, c3, c4, c5⟩⟩ := h
  have hv : ∀ n : gz_N, 90 ≤ n.1 → V2 n = V n := fun n hn => funext (fun i => hx n i (Or.inl hn))
  have ha := a2.2.2.2.1
  have hb := b2.2.2.2.1
  refine ⟨h1, h2, h3, by rw [hx _ _ (Or.inr ⟨rfl, Or.inl rfl⟩)]; exact h4, by rw [hm _ _ (Or.inl ⟨rfl, by decide⟩)]; exact h5, by rw [hx _ _ (Or.inr ⟨rfl, Or.inl rfl⟩)]; exact h6, by rw [hm _ _ (Or.inl ⟨rfl, by decide⟩)]; exact h7, fun h hh => ?_, ⟨n, h9, ?_⟩, ⟨n2, L2, el2, a1, a2.eqV hv, by rw [hm _ _ (Or.inl ⟨rfl, by decide⟩)]; exact a3, fun i hi => ?_⟩, ⟨n3, L3, el3, b1, b2.eqV hv, by rw [hm _ _ (Or.inl ⟨rfl, by decide⟩)]; exact b3, fun i hi => ?_⟩, ⟨n4, K, c1, c2, c3, fun p hp => ?_, c5⟩⟩
  · have := h8 h hh
    rw [hx (42, k, h) 1 (Or.inr ⟨rfl, Or.inr rfl⟩), hx (42, k, h) 2 (Or.inr ⟨rfl, Or.inr rfl⟩), hm (2, 8, 0) h (Or.inr ⟨rfl, by show _ < 40; decide⟩), hm (2, 9, 0) h (Or.inr ⟨rfl, by show _ < 40; decide⟩)]
    exact this
  · have e := (hl.eqV hv).cg (lw2 := M2 (2, 19, 0)) (lf2 := M2 (2, 20, 0)) (lh2 := M2 (2, 21, 0)) (lt2 := M2 (2, 22, 0)) (op2 := M2 (2, 23, 0)) (ar2 := M2 (2, 24, 0)) (fun i hi => ⟨hm _ _ (Or.inr ⟨rfl, by show _ < 40; decide⟩), hm _ _ (Or.inr ⟨rfl, by show _ < 40; decide⟩), hm _ _ (Or.inr ⟨rfl, by show _ < 40; decide⟩), hm _ _ (Or.inr ⟨rfl, by show _ < 40; decide⟩)⟩) (fun i hi => ⟨hm _ _ (Or.inr ⟨rfl, by show _ < 40; decide⟩), hm _ _ (Or.inr ⟨rfl, by show _ < 40; decide⟩)⟩)
    rw [hm (2, 18, 0) 0 (Or.inr ⟨rfl, show 18 < 40 by decide⟩)]
    exact e
  · have q := a4 i hi
    have w : ∀ j, j < 5 → M2 (2, 35, 0) (5 * i + j) = M (2, 35, 0) (5 * i + j) := fun j hj => hm _ _ (Or.inr ⟨rfl, by show _ < 40; decide⟩)
    obtain ⟨q1, q2, q3, q4⟩ := q
    dsimp only at q3 q4
    refine ⟨q1, q2, fun j hj => ?_, ?_⟩
    · rw [hv _ q1]
      dsimp only
      rw [w j hj]
      exact q3 j hj
    · dsimp only
      rw [w 1 (by decide), w 2 (by decide), w 3 (by decide), w 4 (by decide)]
      exact q4
  · have q := b4 i hi
    have w : ∀ j, j < 5 → M2 (2, 37, 0) (5 * i + j) = M (2, 37, 0) (5 * i + j) := fun j hj => hm _ _ (Or.inr ⟨rfl, by show _ < 40; decide⟩)
    unfold deR at q ⊢
    dsimp only at q ⊢
    rw [hv _ q.1, w 0 (by decide), w 1 (by decide), w 2 (by decide), w 3 (by decide), w 4 (by decide)]
    exact q
  · rw [hv _ c2, hm (2, 39, 0) p (Or.inr ⟨rfl, by show _ < 40; decide⟩)]
    exact c4 p hp
/-- rows changed: all else stays -/
theorem JJ.rows (h : JJ Ds Df V c M) (hx : ∀ n i, ¬ (n.1 = 27 ∧ n.2.1 = 0) → ¬ (30 ≤ n.1 ∧ n.1 < 35 ∧ n.2.1 = 0) → V2 n i = V n i) (hm : ∀ n i, (n = (1, 0, 0) ∧ (i < 40 ∨ i = 66)) ∨ (n.1 = 2 ∧ (n.2.1 < 40 ∨ n.2.1 = 68)) → M2 n i = M n i)
    (ht : tdR 0 0 48 49 0 11 16 V2 M2 ∧ tdC 0 V2 M2 ∧ tdR 0 1 51 52 0 8 9 V2 M2 ∧ tdR 0 2 57 58 1 200 5 V2 M2 ∧ tdR 0 3 59 60 1 30 7 V2 M2 ∧ tdR 0 4 62 63 1 20 6 V2 M2) : JJ Ds Df V2 c M2 := by
  obtain ⟨P, H, b, h1, h2, h3, h4, h5⟩ := h
  obtain ⟨a1, a2, a3, a4, a5, -⟩ := h1
  have x1 : ∀ n i, n.1 ≠ 27 → ¬ (30 ≤ n.1 ∧ n.1 < 35) → V2 n i = V n i := fun n i q1 q2 => hx n i (fun z => q1 z.1) (fun z => q2 ⟨z.1, z.2.1⟩)
  have x2 : ∀ n i, n.2.1 ≠ 0 → V2 n i = V n i := fun n i q => hx n i (fun z => q z.2) (fun z => q z.2.2)
  have m1 : ∀ i, (i < 40 ∨ i = 66) → M2 (1, 0, 0) i = M (1, 0, 0) i := fun i hi => hm _ _ (Or.inl ⟨rfl, hi⟩)
  have m2 : ∀ f i, (f < 40 ∨ f = 68) → M2 (2, f, 0) i = M (2, f, 0) i := fun f i hf => hm _ _ (Or.inr ⟨rfl, hf⟩)
  have row : ∀ i, M2 (2, 1, 0) i = M (2, 1, 0) i := fun i => m2 1 i (Or.inl (by decide))
  have xr0 : xr V2 0 = xr V 0 := xr_eq (fun n i hn => by
    obtain ⟨x, y, z⟩ := n
    unfold xsl at hn
    simp only [Bool.and_eq_true, Bool.or_eq_true, beq_iff_eq, decide_eq_true_eq] at hn
    exact x1 _ _ (by show x ≠ 27; omega) (by show ¬ (30 ≤ x ∧ x < 35); omega))
  refine ⟨P, H, b, ⟨a1.eq2 (fun n i hn => x1 n i (by omega) (by omega)) (fun n i hn => hm n i (by rcases hn with q | q; exact Or.inl ⟨q.1, Or.inl q.2⟩; exact Or.inr ⟨q.1, Or.inl q.2⟩)), fun i hi => by rw [xr0, row]; exact a2 i hi, rg_row a1.2.2.1 a3 (fun i _ => row i), ⟨by rw [row]; exact a4.1, a4.2.1, fun i hi j hj => by rw [x1 (26, 0, i) j (show (26 : Nat) ≠ 27 by decide) (show ¬ (30 ≤ 26 ∧ 26 < 35) by decide), m2 10 _ (Or.inl (by decide))]; exact a4.2.2 i hi j hj⟩, by rw [x1 _ _ (by decide) (by decide), m1 38 (Or.inl (by decide))]; exact a5, ht⟩, ?_, ⟨by rw [x1 _ _ (by decide) (by decide), m1 66 (Or.inr rfl)]; exact h3.1, ?_⟩, ?_, h5⟩
  · obtain ⟨u, κ, q1, q2, q3, q4, q5, q6⟩ := h2
    refine ⟨u, κ, q1, by rw [x1 _ _ (by decide) (by decide)]; exact q2, by rw [m1 3 (Or.inl (by decide))]; exact q3, q4, q5, fun j hj => ?_⟩
    have k3 := (q4 j (by omega)).1
    obtain ⟨b1, b2, b3, b4⟩ := q6 j hj
    have m22 : ∀ i, M2 (2, 2, 0) i = M (2, 2, 0) i := fun i => m2 2 i (Or.inl (by decide))
    refine ⟨fun i hi => ?_, rg_row a1.2.2.1 b2 (fun i _ => by rw [MB_row, MB_row]; exact m22 _), by rw [m22]; exact b3, fun h hh => ?_⟩
    · have e := b1 i hi
      rw [MB_row] at e ⊢
      rw [m22, ← e]
      refine congrFun (xr_eq (fun n i hn => x2 n i ?_)) i
      unfold xsl at hn
      simp only [Bool.and_eq_true, beq_iff_eq] at hn
      rw [hn.1]
      omega
    · rw [x1 (42, κ j, h) 1 (show (42 : Nat) ≠ 27 by decide) (show ¬ (30 ≤ 42 ∧ 42 < 35) by decide), x1 (42, κ j, h) 2 (show (42 : Nat) ≠ 27 by decide) (show ¬ (30 ≤ 42 ∧ 42 < 35) by decide), x1 (42, 0, h) 1 (show (42 : Nat) ≠ 27 by decide) (show ¬ (30 ≤ 42 ∧ 42 < 35) by decide), x1 (42, 0, h) 2 (show (42 : Nat) ≠ 27 by decide) (show ¬ (30 ≤ 42 ∧ 42 < 35) by decide)]
      exact b4 h hh
  · rw [x1 (10, 0, 0) 9 (by decide) (by decide)]
    rcases h3.2 with q | ⟨q, P1, H1, b1, z⟩
    · exact Or.inl q
    · refine Or.inr ⟨q, P1, H1, b1, z.eq (fun n i hn => ?_) (fun n i _ => m2 68 _ (Or.inr rfl))⟩
      rcases hn with w | w
      · exact x1 n i (by omega) (by omega)
      · exact x2 n i (by rw [w.1]; decide)
  · obtain ⟨g1, g2, g3, ⟨t, g4, g5, g6⟩, g7, g8, g9, g10, g11, g12⟩ := h4
    have x11 : ∀ f i, V2 (11, f, 0) i = V (11, f, 0) i := fun f i => x1 _ _ (show (11 : Nat) ≠ 27 by decide) (show ¬ (30 ≤ 11 ∧ 11 < 35) by decide)
    refine ⟨by rw [x1 _ _ (by decide) (by decide)]; exact g1, by rw [x1 _ _ (by decide) (by decide)]; exact g2, by rw [m1 5 (Or.inl (by decide))]; exact g3, ⟨t, g4, by rw [x1 _ _ (by decide) (by decide)]; exact g5, by rw [m1 12 (Or.inl (by decide))]; exact g6⟩, fun i hi => ?_, by rw [x1 _ _ (by decide) (by decide), m1 32 (Or.inl (by decide))]; exact g8, by rw [x1 _ _ (by decide) (by decide), m1 33 (Or.inl (by decide))]; exact g9, fun p hp => by rw [x11]; exact g10 p hp, by rw [x11]; exact g11, fun i hi => by rw [m2 17 i (Or.inl (by decide))]; exact g12 i hi⟩
    rw [x11, m2 11 i (Or.inl (by decide))]
    exact g7 i hi
end TOLD
