/-! clasp, passes, holds, asks, state, undo -/
set_option maxRecDepth 100000
section CLS
variable {Ds : gz_S} {Df : gz_R} {V M : gz_V} {c P H b N p q : Nat} {F : Int32}
/-- a grip without a horse -/
theorem z_grip (u : cU 0 P H F b Ds Df V M) (a3 : Int32) (p q : Int32) : ∃ V' M', x2_begins_0 V 0 p q a3 0 = some V' ∧ m_isBy M a3 0 (-1) = some M' ∧ cU 0 P H F b Ds Df V' M' ∧ fr (fx 0) V V' ∧ fr fm M M' ∧ grR 0 V' M' ∧ V' (23, 0, 0) 2 = p ∧ V' (23, 0, 0) 3 = q ∧ V' (20, 0, 0) = V (20, 0, 0) ∧ M' (2, 1, 0) = M (2, 1, 0) := by
  unfold x2_begins_0 m_isBy
  simp only [gs_let]
  generalize hV1 : gz_up (gz_up (gz_up (gz_up (gz_up (gz_up V (23, 0, 0) 2 p) (23, 0, 0) 3 q) (23, 0, 0) 4 a3) (23, 0, 0) 5 0) (23, 0, 0) 6 0) (23, 0, 0) 7 0 = V1
  generalize hM1 : gz_up (gz_up (gz_up M (1, 0, 0) 42 a3) (1, 0, 0) 43 0) (1, 0, 0) 44 (-1) = M1
  have fx1 : fr (fx 0) V V1 := by rw [← hV1]; exact (((((fr.rf.up (by simp [fx])).up (by simp [fx])).up (by simp [fx])).up (by simp [fx])).up (by simp [fx])).up (by simp [fx])
  have fm1 : fr fm M M1 := by rw [← hM1]; exact ((fr.rf.up (by simp [fm])).up (by simp [fm])).up (by simp [fm])
  have u1 : cU 0 P H F b Ds Df V1 M1 := u.sc fx1 fm1 (by rw [← hV1, xr_no (by simp [xsl]), xr_no (by simp [xsl]), xr_no (by simp [xsl]), xr_no (by simp [xsl]), xr_no (by simp [xsl]), xr_no (by simp [xsl])]) (by rw [← hM1, up_ne (by decide), up_ne (by decide), up_ne (by decide)]) (fun i => by rw [← hV1, up_ne (by simp), up_ne (by simp), up_ne (by simp), up_ne (by simp), up_ne (by simp), up_ne (by simp)]) (by rw [← hM1, up_ne (by decide), up_ne (by decide), up_ne (by decide)])
  refine ⟨V1, M1, rfl, rfl, u1, fx1, fm1, ⟨?_, ?_, Or.inl ⟨?_, ?_, ?_⟩⟩, ?_, ?_, ?_, ?_⟩
  · rw [← hV1, ← hM1]; simp [up_at]
  · rw [← hV1, ← hM1]; simp [up_at]
  · rw [← hM1]; simp [up_at]
  · rw [← hV1]; simp [up_at]
  · rw [← hV1]; simp [up_at]
  · rw [← hV1]; simp [up_at]
  · rw [← hV1]; simp [up_at]
  · rw [← hV1, up_ne (by simp), up_ne (by simp), up_ne (by simp), up_ne (by simp), up_ne (by simp), up_ne (by simp)]
  · rw [← hM1, up_ne (by decide), up_ne (by decide), up_ne (by decide)]
theorem two_c (u : cU 0 P H F b Ds Df V M) (a1 a2 a3 : Int32) : x0_areTwo V a1 a2 a3 = m_areTwo M a1 a2 a3 ∧ (m_areTwo M a1 a2 a3 = 0 ∨ (m_areTwo M a1 a2 a3 = 1 ∧ ∃ p q, p < P ∧ q < P ∧ a1 = Int32.ofNat p ∧ a2 = Int32.ofNat q ∧ p ≠ q)) := by
  have hP := u.1.2.1
  obtain ⟨e1, q1⟩ := u.1.isP a1
  obtain ⟨e2, q2⟩ := u.1.isP a2
  unfold x0_areTwo m_areTwo
  rw [e1, e2, show x0_isGrip a3 = m_isIn a3 1 9 from rfl]
  refine ⟨rfl, ?_⟩
  rcases q1 with q1 | ⟨q1, p, hp, rfl⟩
  · rw [if_pos q1]; exact Or.inl rfl
  rw [q1, if_neg n10]
  rcases q2 with q2 | ⟨q2, q, hq, rfl⟩
  · rw [if_pos q2]; exact Or.inl rfl
  rw [q2, if_neg n10]
  by_cases hpq : Int32.ofNat p = Int32.ofNat q
  · rw [if_pos hpq]; exact Or.inl rfl
  rw [if_neg hpq]
  rcases isIn_c (a := a3) (b := 1) (c := 9) with w | ⟨w, -⟩
  · rw [if_pos w]; exact Or.inl rfl
  rw [w, if_neg n10]
  exact Or.inr ⟨rfl, p, q, hp, hq, rfl, rfl, fun e => hpq (by rw [e])⟩
end CLS
theorem J_passes {N : Nat} (hN : 1000 ≤ N) : lo_passes JJ N := by
  intro Ds Df V c M a1 a2 a3 a4 h
  have h0 := h.m0
  obtain ⟨P, H, b, u, mr, br, cl⟩ := h0.deeds
  have hP := u.1.2.1
  unfold x0_passes m_passes
  rw [gs_let]
  obtain ⟨e, t⟩ := two_c u a1 a2 a3
  rw [e, isIn_eq]
  generalize gz_up M (1, 0, 0) 0 0 = M1 at *
  rcases t with t | ⟨t, p, q, hp, hq, rfl, rfl, hpq⟩
  · rw [if_pos t, if_pos t]
    exact ⟨V, M1, -1, rfl, rfl, h0⟩
  rw [t, if_neg n10, if_neg n10]
  rcases isIn_c (a := a4) (b := 0) (c := 4) with w | ⟨w, w1, w2⟩
  · rw [if_pos w, if_pos w]
    exact ⟨V, M1, -1, rfl, rfl, h0⟩
  rw [w, if_neg n10, if_neg n10]
  have z0 : (0 : Int32).toInt = 0 := rfl
  have z4 : (4 : Int32).toInt = 4 := rfl
  obtain ⟨s, hs, rfl⟩ := o_ex (a := a4) (n := 5) (by omega) (by omega)
  obtain ⟨V1, M2, b1, b2, b3, b4, b5, b6, -⟩ := z_grip u a3 (Int32.ofNat p) (Int32.ofNat q)
  obtain ⟨V2, M3, r, d1, d2, d3, d4, d5, d6, d7⟩ := z_passes (N := N) b3 b6 (by omega) (show p < 12 by omega) (show q < 12 by omega) hs
  rw [b1, gs_bd, b2, gs_bd, d1, gs_b2, d2, gs_b2]
  exact ⟨V2, M3, r, rfl, rfl, cl _ _ d5 (b4.trans (d6.wk fxa_fx)) (b5.trans (d7.wk fma_fm))⟩
theorem J_holds {N : Nat} (hN : 1000 ≤ N) : lo_holds JJ N := by
  intro Ds Df V c M a1 a2 a3 h
  have h0 := h.m0
  obtain ⟨P, H, b, u, mr, br, cl⟩ := h0.deeds
  have hP := u.1.2.1
  unfold x0_holds m_holds
  rw [gs_let]
  obtain ⟨e, t⟩ := two_c u a1 a2 a3
  rw [e]
  generalize gz_up M (1, 0, 0) 0 0 = M1 at *
  rcases t with t | ⟨t, p, q, hp, hq, rfl, rfl, hpq⟩
  · rw [if_pos t, if_pos t]
    exact ⟨V, M1, -1, rfl, rfl, h0⟩
  rw [t, if_neg n10, if_neg n10]
  obtain ⟨V1, M2, b1, b2, b3, b4, b5, b6, -⟩ := z_grip u a3 (Int32.ofNat p) (Int32.ofNat q)
  obtain ⟨V2, M3, r, d1, d2, d3, d4, d5, d6, d7⟩ := z_holds (N := N) b3 b6 (by omega) (show q < 12 by omega) (show p < 12 by omega)
  rw [b1, gs_bd, b2, gs_bd, d1, gs_b2, d2, gs_b2]
  exact ⟨V2, M3, r, rfl, rfl, cl _ _ d5 (b4.trans (d6.wk fxa_fx)) (b5.trans (d7.wk fma_fm))⟩
theorem J_clasp {N : Nat} (hN : 1000 ≤ N) : lo_clasp JJ N := by
  intro Ds Df V c M a1 a2 a3 h
  have h0 := h.m0
  obtain ⟨P, H, b, u, mr, br, cl⟩ := h0.deeds
  have hP := u.1.2.1
  unfold x0_clasp m_clasp m_canShake x1_canClasp x1_isSlung
  rw [gs_let]
  obtain ⟨e1, q1⟩ := u.1.isP a1
  obtain ⟨e2, q2⟩ := u.1.isP a2
  rw [e1, e2, show x0_isGrip a3 = m_isIn a3 1 9 from rfl]
  generalize gz_up M (1, 0, 0) 0 0 = M1 at *
  rcases isIn_c (a := a3) (b := 1) (c := 9) with w | ⟨w, -⟩
  · rw [if_pos w, if_pos w]
    refine ⟨V, Df, M1, -1, ?_, rfl, h0⟩
    split
    · rfl
    · split <;> rfl
  rw [w, if_neg n10, if_neg n10]
  rcases q1 with q1 | ⟨q1, p, hp, rfl⟩
  · rw [if_pos q1, if_pos q1, gs_bd, if_pos rfl]
    exact ⟨V, Df, M1, -1, rfl, rfl, h0⟩
  rw [q1, if_neg n10, if_neg n10]
  rcases q2 with q2 | ⟨q2, q, hq, rfl⟩
  · rw [if_pos q2, if_pos q2, gs_bd, if_pos rfl]
    exact ⟨V, Df, M1, -1, rfl, rfl, h0⟩
  rw [q2, if_neg n10, if_neg n10]
  have p12 : p < 12 := by omega
  have q12 : q < 12 := by omega
  have pb : gz_inb (Int32.ofNat p) 12 = true := o_inb p12 (by omega)
  have qb : gz_inb (Int32.ofNat q) 12 = true := o_inb q12 (by omega)
  have b77p : gz_inb (Int32.ofNat (77 + p)) 121 = true := o_inb (by omega) (by omega)
  have b77q : gz_inb (Int32.ofNat (77 + q)) 121 = true := o_inb (by omega) (by omega)
  have n77p : (Int32.ofNat (77 + p)).toNatClampNeg = 77 + p := o_nat (by omega)
  have n77q : (Int32.ofNat (77 + q)).toNatClampNeg = 77 + q := o_nat (by omega)
  have pn : (Int32.ofNat p).toNatClampNeg = p := o_nat (by omega)
  have qn : (Int32.ofNat q).toNatClampNeg = q := o_nat (by omega)
  by_cases hpq : Int32.ofNat p = Int32.ofNat q
  · rw [if_pos hpq, if_pos hpq, gs_b2, if_pos rfl, gs_bd, if_pos rfl]
    exact ⟨V, Df, M1, -1, rfl, rfl, h0⟩
  have hpq' : p ≠ q := fun e => hpq (by rw [e])
  simp only [o_addl]
  rw [if_neg hpq, if_neg hpq, gs_gd pb, gs_gd qb, pn, qn, gs_gd b77p, gs_gd b77q, n77p, n77q, ← u.2.1.hand p12, ← u.2.1.hand q12]
  by_cases hp2 : V (40, 0, p) 2 = 2
  · rw [if_pos hp2, if_pos hp2, gs_bd, if_neg n10, gs_b2, if_pos rfl, gs_bd, if_pos rfl]
    exact ⟨V, Df, M1, -1, rfl, rfl, h0⟩
  rw [if_neg hp2, if_neg hp2]
  by_cases hq2 : V (40, 0, q) 2 = 2
  · rw [if_pos hq2, if_pos hq2, gs_bd, if_neg n10, gs_b2, if_pos rfl, gs_bd, if_pos rfl]
    exact ⟨V, Df, M1, -1, rfl, rfl, h0⟩
  rw [if_neg hq2, if_neg hq2, gs_bd, if_pos rfl, gs_bd, if_neg n10]
  -- the grip is made ahead in x, behind in m
  obtain ⟨V1, M1', b1, b2, b3, b4, b5, b6, b7, b8, b9, b10⟩ := z_grip u a3 (Int32.ofNat p) (Int32.ofNat q)
  have J1 : JJ Ds Df V1 c M1 := by
    have u1 : cU 0 P H 0 b Ds Df V1 M1 := u.sc b4 fr.rf (by
      unfold x2_begins_0 at b1
      simp only [gs_let] at b1
      cases b1
      rw [xr_no (by simp [xsl]), xr_no (by simp [xsl]), xr_no (by simp [xsl]), xr_no (by simp [xsl]), xr_no (by simp [xsl]), xr_no (by simp [xsl])]) rfl (fun i => by
      unfold x2_begins_0 at b1
      simp only [gs_let] at b1
      cases b1
      rw [up_ne (by simp), up_ne (by simp), up_ne (by simp), up_ne (by simp), up_ne (by simp), up_ne (by simp)]) rfl
    exact cl V1 M1 u1 b4 fr.rf
  rw [b1, gs_bd, gs_b2, if_neg n10]
  obtain ⟨V3, D3, M3, c1, c2, J3, c4, c5, c6⟩ := J1.rem hN
  obtain ⟨P', H', b', u3, mr3, br3, cl3⟩ := J3.deeds
  have v3 : V3 (23, 0, 0) = V1 (23, 0, 0) := funext (fun i => c4 _ i (fun z => absurd z.2.2 (by decide)) (by simp))
  rw [c1, gs_b2, c2, gs_bd]
  -- by, behind
  unfold m_isBy
  simp only [gs_let]
  rw [gs_bd]
  generalize hM5 : gz_up (gz_up (gz_up M3 (1, 0, 0) 42 a3) (1, 0, 0) 43 0) (1, 0, 0) 44 (-1) = M5
  have fm5 : fr fm M3 M5 := by rw [← hM5]; exact ((fr.rf.up (by simp [fm])).up (by simp [fm])).up (by simp [fm])
  have u5 : cU 0 P' H' 0 b' Ds D3 V3 M5 := u3.sc fr.rf fm5 rfl (by rw [← hM5, up_ne (by decide), up_ne (by decide), up_ne (by decide)]) (fun i => rfl) (by rw [← hM5, up_ne (by decide), up_ne (by decide), up_ne (by decide)])
  have g4 : V1 (23, 0, 0) 4 = a3 ∧ V1 (23, 0, 0) 5 = 0 ∧ V1 (23, 0, 0) 6 = 0 ∧ V1 (23, 0, 0) 7 = 0 := by
    unfold x2_begins_0 at b1
    simp only [gs_let] at b1
    cases b1
    simp [up_at]
  have g5 : grR 0 V3 M5 := by
    unfold grR
    rw [v3, g4.1, g4.2.1, g4.2.2.1, g4.2.2.2, ← hM5]
    refine ⟨by simp [up_at], by simp [up_at], Or.inl ⟨by simp [up_at], rfl, rfl⟩⟩
  obtain ⟨V6, M6, r, d1, d2, d3, d4, d5⟩ := z_them (N := N) u5 g5 (by omega) p12 q12 hpq' (by rw [v3]; exact b7) (by rw [v3]; exact b8)
  rw [d1, gs_b2]
  obtain ⟨Ms, s1, s2⟩ := gz_bd_o d2
  obtain ⟨Mn, n1, n2⟩ := gz_bd_o s2
  rw [s1, gs_bd, n1, gs_bd, n2, gs_b2]
  exact ⟨V6, D3, M6, r, rfl, rfl, cl3 V6 M6 d3 d4 (fm5.trans d5)⟩
