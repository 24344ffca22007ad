/-! asks, undo, state, end -/
set_option maxRecDepth 100000
theorem J_asks {N : Nat} (hN : 1000 ≤ N) : lo_asks JJ N := by
  intro Ds Df V c M a1 a2 a3 h
  have h0 := h.m0
  obtain ⟨P, H, b, u, mr, br, cl⟩ := h0.deeds
  have hP := u.1.2.1
  have hH := u.1.2.2.1
  unfold x0_asks m_asks x0_canTell m_areTwo
  simp only [gs_let]
  obtain ⟨e1, q1⟩ := u.1.isP a1
  obtain ⟨e2, q2⟩ := u.1.isH a2
  rw [e1, e2, show x0_isGrip a3 = m_isIn a3 1 9 from rfl, show x0_isIn 0 0 9999 = 1 from by decide, if_neg n10]
  generalize gz_up M (1, 0, 0) 0 0 = M1 at *
  rcases q2 with q2 | ⟨q2, hh, hhH, rfl⟩
  · rw [q2, if_pos (show (0 : Int32) = 0 from rfl), if_pos (show (0 : Int32) = 0 from rfl)]
    refine ⟨V, M1, -1, ?_, rfl, h0⟩
    rw [if_pos]
    split <;> rfl
  obtain ⟨p, hp, o1, o2⟩ := u.ow hhH
  have b101 : gz_inb (Int32.ofNat (101 + hh)) 121 = true := o_inb (by omega) (by omega)
  have n101 : (Int32.ofNat (101 + hh)).toNatClampNeg = 101 + hh := o_nat (by omega)
  have hb : gz_inb (Int32.ofNat hh) 10 = true := o_inb (by omega) (by omega)
  have hn : (Int32.ofNat hh).toNatClampNeg = hh := o_nat (by omega)
  simp only [o_addl]
  rw [q2, if_neg n10, if_neg n10, gs_gd b101, n101, o1, m_isP u.pp.2.1 hP hp, if_neg n10]
  rcases q1 with q1 | ⟨q1, q, hq, rfl⟩
  · rw [q1, if_pos (show (0 : Int32) = 0 from rfl), if_pos (show (0 : Int32) = 0 from rfl), if_pos (show (0 : Int32) = 0 from rfl), if_pos (show (0 : Int32) = 0 from rfl)]
    exact ⟨V, M1, -1, rfl, rfl, h0⟩
  rw [q1, if_neg n10, if_neg n10]
  rcases isIn_c (a := a3) (b := 1) (c := 9) with w | ⟨w, w1, w2⟩
  · rw [w, if_pos (show (0 : Int32) = 0 from rfl), if_pos (show (0 : Int32) = 0 from rfl)]
    refine ⟨V, M1, -1, rfl, ?_, h0⟩
    rw [if_pos]
    split <;> rfl
  rw [w, if_neg n10, if_neg n10, gs_gd hb, gs_gd hb, gs_gd hb, hn, o2]
  by_cases hpq : Int32.ofNat p = Int32.ofNat q
  · rw [if_pos hpq, if_pos hpq, if_pos rfl]
    exact ⟨V, M1, -1, rfl, rfl, h0⟩
  rw [if_neg hpq, if_neg hpq, if_neg n10]
  unfold x2_begins m_isBy
  simp only [gs_let, gs_bd]
  have w42 : ∀ (W : gz_V) (j : Nat) (x : Int32), gz_up W (23, 0, 0) j x (42, 0, hh) = W (42, 0, hh) := fun W j x => up_ne (by simp)
  simp only [w42]
  generalize hV1 : gz_up (gz_up (gz_up (gz_up (gz_up (gz_up V (23, 0, 0) 2 (Int32.ofNat p)) (23, 0, 0) 3 (Int32.ofNat q)) (23, 0, 0) 4 a3) (23, 0, 0) 5 0) (23, 0, 0) 6 (V (42, 0, hh) 1)) (23, 0, 0) 7 (V (42, 0, hh) 2) = V1
  generalize hM1 : gz_up (gz_up (gz_up M1 (1, 0, 0) 42 a3) (1, 0, 0) 43 0) (1, 0, 0) 44 (Int32.ofNat hh) = M2
  have fx1 : fr (fx 0) V V1 := by rw [← hV1]; exact (((((fr.rf.up (by simp [fx])).up (by simp [fx])).up (by simp [fx])).up (by simp [fx])).up (by simp [fx])).up (by simp [fx])
  have fm1 : fr fm M1 M2 := by rw [← hM1]; exact ((fr.rf.up (by simp [fm])).up (by simp [fm])).up (by simp [fm])
  have u1 : cU 0 P H 0 b Ds Df V1 M2 := u.sc fx1 fm1 (by rw [← hV1, xr_no (by simp [xsl]), xr_no (by simp [xsl]), xr_no (by simp [xsl]), xr_no (by simp [xsl]), xr_no (by simp [xsl]), xr_no (by simp [xsl])]) (by rw [← hM1, up_ne (by decide), up_ne (by decide), up_ne (by decide)]) (fun i => by rw [← hV1, up_ne (by simp), up_ne (by simp), up_ne (by simp), up_ne (by simp), up_ne (by simp), up_ne (by simp)]) (by rw [← hM1, up_ne (by decide), up_ne (by decide), up_ne (by decide)])
  have ws := u.1.2.2.2.2.2.2.2.1 hh (by omega)
  have g1 : grR 0 V1 M2 := by
    refine ⟨by rw [← hV1, ← hM1]; simp [up_at], by rw [← hV1, ← hM1]; simp [up_at], Or.inr ⟨hh, by omega, by rw [← hM1]; simp [up_at], ?_, ?_⟩⟩
    · rw [fm1 (2, 8, 0) hh rfl, ← ws.1, ← hV1]; simp [up_at]
    · rw [fm1 (2, 9, 0) hh rfl, ← ws.2, ← hV1]; simp [up_at]
  obtain ⟨V2, M3, r, a, bb, cc, d, e, f, g⟩ := z_asks (N := N) u1 g1 (by omega) (show p < 12 by omega) (show q < 12 by omega)
  rw [gs_gd b101, show M2 (2, 1, 0) (101 + hh) = Int32.ofNat p by rw [← hM1, up_ne (by decide), up_ne (by decide), up_ne (by decide)]; exact o1, a, gs_b2, bb, gs_b2]
  exact ⟨V2, M3, r, rfl, rfl, cl _ _ e (fx1.trans (f.wk fxa_fx)) (fm1.trans (g.wk fma_fm))⟩
/-- what can be undone is forgotten -/
theorem JJ.fg {Ds : gz_S} {Df : gz_R} {V M V2 M2 : gz_V} {c P' H' b' : Nat} (h : JJ Ds Df V c M) (hr : mR 0 P' H' b' Ds Df V2 M2) (h8 : V2 (10, 0, 0) 8 = 0) (h3 : M2 (1, 0, 0) 3 = 0) (hx : ∀ n i, n.1 < 20 ∨ 90 ≤ n.1 ∨ n.2.1 ≠ 0 ∨ (n = (20, 0, 0) ∧ i = 21) → ¬ (n = (10, 0, 0) ∧ i = 8) → V2 n i = V n i) (hm : ∀ n i, n = (2, 68, 0) ∨ n = (2, 11, 0) ∨ n = (2, 17, 0) ∨ (n = (1, 0, 0) ∧ (i = 5 ∨ i = 12 ∨ i = 32 ∨ i = 33 ∨ i = 66)) → M2 n i = M n i) : JJ Ds Df V2 c M2 := by
  obtain ⟨P, H, b, h1, ⟨u, κ, q1, q2, q3, q4, q5, q6⟩, h3', h4, h5⟩ := h
  have m1 : ∀ i, (i = 5 ∨ i = 12 ∨ i = 32 ∨ i = 33 ∨ i = 66) → M2 (1, 0, 0) i = M (1, 0, 0) i := fun i hi => hm _ _ (Or.inr (Or.inr (Or.inr ⟨rfl, hi⟩)))
  have x10 : ∀ n i, n.1 < 20 → i ≠ 8 → V2 n i = V n i := fun n i hn hi => hx n i (Or.inl hn) (fun z => hi z.2)
  refine ⟨P', H', b', hr, ⟨0, κ, by omega, h8, h3, q4, q5, fun j hj => absurd hj (by omega)⟩, ⟨by rw [x10 _ _ (by decide) (by decide), m1 66 (by decide)]; exact h3'.1, ?_⟩, ?_, h5⟩
  · rw [x10 (10, 0, 0) 9 (by decide) (by decide)]
    rcases h3'.2 with q | ⟨q, P1, H1, b1, z⟩
    · exact Or.inl q
    · refine Or.inr ⟨q, P1, H1, b1, z.eq (fun n i hn => hx n i ?_ ?_) (fun n i _ => hm _ _ (Or.inl rfl))⟩
      · rcases hn with w | w
        · exact Or.inr (Or.inl w)
        · exact Or.inr (Or.inr (Or.inl (by rw [w.1]; decide)))
      · rintro ⟨rfl, -⟩
        rcases hn with w | w
        · exact absurd w (by decide)
        · exact absurd w.1 (by decide)
  · obtain ⟨g1, g2, g3, ⟨t, g4, g5, g6⟩, g7, g8, g9, g10, g11, g12⟩ := h4
    have x11 : ∀ f i, V2 (11, f, 0) i = V (11, f, 0) i := fun f i => hx _ _ (Or.inl (show 11 < 20 by decide)) (by simp)
    refine ⟨by rw [hx (20, 0, 0) 21 (Or.inr (Or.inr (Or.inr ⟨rfl, rfl⟩))) (by simp)]; exact g1, by rw [hx (20, 2, 0) 21 (Or.inr (Or.inr (Or.inl (by decide)))) (by simp)]; exact g2, by rw [m1 5 (by decide)]; exact g3, ⟨t, g4, by rw [x10 _ _ (by decide) (by decide)]; exact g5, by rw [m1 12 (by decide)]; exact g6⟩, fun i hi => ?_, by rw [x10 _ _ (by decide) (by decide), m1 32 (by decide)]; exact g8, by rw [x10 _ _ (by decide) (by decide), m1 33 (by decide)]; exact g9, fun p hp => by rw [x11]; exact g10 p hp, by rw [x11]; exact g11, fun i hi => by rw [hm _ _ (Or.inr (Or.inr (Or.inl rfl)))]; exact g12 i hi⟩
    rw [x11, hm (2, 11, 0) i (Or.inr (Or.inl rfl))]
    exact g7 i hi
theorem mR.fz {Ds : gz_S} {Df : gz_R} {V M : gz_V} {P H b : Nat} (h : mR 0 P H b Ds Df V M) : mR 0 P H b Ds Df (gz_up V (10, 0, 0) 8 0) (gz_up M (1, 0, 0) 3 0) := h.eq (fun n i hn => by
  rw [up_ne]
  rintro rfl
  rcases hn with w | w
  · exact absurd w (by decide)
  · rcases w.2 with z | z | z | z | z | z | z
    · exact absurd z.1 (by decide)
    · exact absurd z (by decide)
    · exact absurd z (by decide)
    · exact absurd z.1 (by decide)
    · exact absurd z (by decide)
    · exact absurd z (by decide)
    · exact absurd z (by decide)) (fun n i hn => by
  rw [up_at, if_neg]
  rintro ⟨rfl, rfl⟩
  cases hn)
theorem J_state {N : Nat} : lo_state JJ N := by
  intro Ds Df V c M a h
  have h0 := h.m0
  obtain ⟨P, H, b, u, mr, br, cl⟩ := h0.deeds
  unfold x0_state m_state x0_forgets
  simp only [gs_let, gs_b2]
  rw [show (1 : Int32).toNatClampNeg = 1 from rfl]
  generalize gz_up M (1, 0, 0) 0 0 = M1 at *
  have e := u.slot (n := (20, 0, 0)) (j := 18) (i := 1) (v := a) (by decide) (by decide) xu_state (by simp [fx]) (show (20 : Nat) ≠ 26 by decide)
  obtain ⟨b', hb, mr2⟩ := mr.core e (fr.rf.up (by simp [fx])) (fr.rf.up (by simp [fm]))
  refine ⟨_, _, _, rfl, by rw [← u.2.1.state], ?_⟩
  refine h0.fg mr2.fz (by simp [up_at]) (by simp [up_at]) (fun n i hn hn2 => ?_) (fun n i hn => ?_)
  · rw [up_at, if_neg hn2, up_at, if_neg]
    rintro ⟨rfl, rfl⟩
    rcases hn with w | w | w | w
    · exact absurd w (by decide)
    · exact absurd w (by decide)
    · exact w rfl
    · exact absurd w.2 (by decide)
  · rw [up_at, if_neg, up_ne]
    · rintro rfl
      rcases hn with w | w | w | w
      · exact absurd w (by decide)
      · exact absurd w (by decide)
      · exact absurd w (by decide)
      · exact absurd w.1 (by decide)
    · rintro ⟨rfl, rfl⟩
      rcases hn with w | w | w | w
      · exact absurd w (by decide)
      · exact absurd w (by decide)
      · exact absurd w (by decide)
      · exact absurd w.2 (by decide)
