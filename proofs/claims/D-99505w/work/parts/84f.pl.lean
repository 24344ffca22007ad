/-! WHAT IS ONLY LOOKED AT -/
set_option maxRecDepth 100000
theorem isIn_eq {a b c : Int32} : x0_isIn a b c = m_isIn a b c := rfl
theorem isIn_c {a b c : Int32} : m_isIn a b c = 0 ∨ (m_isIn a b c = 1 ∧ b.toInt ≤ a.toInt ∧ a.toInt ≤ c.toInt) := by
  unfold m_isIn
  by_cases h1 : a < b
  · rw [if_pos h1]; exact Or.inl rfl
  rw [if_neg h1]
  by_cases h2 : c < a
  · rw [if_pos h2]; exact Or.inl rfl
  rw [if_neg h2]
  rw [i_lt] at h1 h2
  exact Or.inr ⟨rfl, by omega, by omega⟩
theorem isP_g {a x y : Int32} {P : Nat} (hP : P < 2147483648) (hx : x = Int32.ofNat P) (hy : y = Int32.ofNat P) : x0_isIn a 0 (x - 1) = (if a < 0 then 0 else (if y ≤ a then 0 else 1)) ∧ (x0_isIn a 0 (x - 1) = 0 ∨ (x0_isIn a 0 (x - 1) = 1 ∧ ∃ p, p < P ∧ a = Int32.ofNat p)) := by
  subst hx; subst hy
  have k1 : (1 : Int32).toInt = 1 := rfl
  have e1 : (Int32.ofNat P - 1).toInt = (P : Int) - 1 := by rw [i_sub, i_of hP, k1] <;> (try rw [i_of hP, k1]) <;> omega
  have z0 : (0 : Int32).toInt = 0 := rfl
  unfold x0_isIn
  by_cases h1 : a < 0
  · rw [if_pos h1, if_pos h1]; exact ⟨rfl, Or.inl rfl⟩
  rw [if_neg h1, if_neg h1]
  by_cases h2 : Int32.ofNat P ≤ a
  · have h3 : Int32.ofNat P - 1 < a := by rw [i_lt, e1]; rw [i_le, i_of hP] at h2; omega
    rw [if_pos h2, if_pos h3]; exact ⟨rfl, Or.inl rfl⟩
  · have h3 : ¬ Int32.ofNat P - 1 < a := by rw [i_lt, e1]; rw [i_le, i_of hP] at h2; omega
    rw [if_neg h2, if_neg h3]
    refine ⟨rfl, Or.inr ⟨rfl, ?_⟩⟩
    rw [i_lt, z0] at h1
    rw [i_le, i_of hP] at h2
    exact o_ex (by omega) (by omega)
section LOOKS
variable {Ds : gz_S} {Df : gz_R} {V M : gz_V} {c P H b : Nat}
theorem cS.isP (h : cS 0 P H Ds Df V M) (a : Int32) : x0_isPerson V a = m_isPerson M a ∧ (m_isPerson M a = 0 ∨ (m_isPerson M a = 1 ∧ ∃ p, p < P ∧ a = Int32.ofNat p)) := by
  have hP := h.2.1
  obtain ⟨q1, q2⟩ := isP_g (a := a) (P := P) (by omega) h.2.2.2.1 h.2.2.2.2.1
  have e : x0_isPerson V a = m_isPerson M a := q1
  refine ⟨e, ?_⟩
  rw [← e]
  exact q2
theorem cS.isH (h : cS 0 P H Ds Df V M) (a : Int32) : x0_isHorse V a = m_isHorse M a ∧ (m_isHorse M a = 0 ∨ (m_isHorse M a = 1 ∧ ∃ p, p < H ∧ a = Int32.ofNat p)) := by
  have hP := h.2.2.1
  obtain ⟨q1, q2⟩ := isP_g (a := a) (P := H) (by omega) h.2.2.2.2.2.1 h.2.2.2.2.2.2.1
  have e : x0_isHorse V a = m_isHorse M a := q1
  refine ⟨e, ?_⟩
  rw [← e]
  exact q2
theorem n10 : ¬ (1 : Int32) = 0 := by decide
end LOOKS
theorem J_fault {N : Nat} : lo_fault JJ N := by
  intro Ds Df V c M a h
  obtain ⟨P, H, b, h1, h2, h3, h4, h5⟩ := h.m0
  refine ⟨gz_up M (1, 0, 0) 0 0, x0_fault V a, rfl, ?_, h.m0⟩
  unfold m_fault x0_fault
  rw [gs_let, h4.2.2.2.2.2.1, h4.2.2.2.2.2.2.1]
  repeat' split
  all_goals rfl
theorem J_look {N : Nat} : lo_look JJ N := by
  intro Ds Df V c M a h
  have h0 := h.m0
  obtain ⟨P, H, b, h1, ⟨u, κ, -, u1, u2, -⟩, h3, h4, h5⟩ := h0
  obtain ⟨g1, g2, g3, g4, g5, g6, g7, g8, ⟨n, g9, L, el, g10, g11, -⟩, ⟨n2, L2, el2, a1, a2, a3, -⟩, ⟨n3, L3, el3, b1, b2, b3, -⟩, -⟩ := h1.1
  have hr := h1.2.1
  have hk := h1.2.2.2.2.1
  have h0 := h.m0
  unfold x0_look m_look
  simp only [gs_let]
  generalize gz_up M (1, 0, 0) 0 0 = M1 at *
  rw [show (0 : Int32).toNatClampNeg = 0 from rfl, show (1 : Int32).toNatClampNeg = 1 from rfl, show (2 : Int32).toNatClampNeg = 2 from rfl, show (3 : Int32).toNatClampNeg = 3 from rfl, show (4 : Int32).toNatClampNeg = 4 from rfl]
  rw [g4, g5, g6, g7, hr.passed, hr.held, hr.day, hr.lines, hr.state, g9, a1, b1, gs_bd, gs_bd, gs_bd, gs_gd ⟨g10.1, g10.2.1⟩, gs_gd ⟨a2.1, a2.2.1⟩, gs_gd ⟨b2.1, b2.2.1⟩, show j2_size V n = M1 (2, 18, 0) 0 from g10.2.2.1.trans g11.symm, show j2_size V n2 = M1 (1, 0, 0) 34 from a2.2.2.1.trans a3.symm, show j2_size V n3 = M1 (1, 0, 0) 36 from b2.2.2.1.trans b3.symm, hk, u1, u2]
  refine ⟨M1, ?_⟩
  by_cases q0 : a = 0
  · rw [if_pos q0, if_pos q0]
    exact ⟨_, rfl, rfl, h0⟩
  rw [if_neg q0, if_neg q0]
  by_cases q1 : a = 1
  · rw [if_pos q1, if_pos q1]
    exact ⟨_, rfl, rfl, h0⟩
  rw [if_neg q1, if_neg q1]
  by_cases q2 : a = 2
  · rw [if_pos q2, if_pos q2]
    exact ⟨_, rfl, rfl, h0⟩
  rw [if_neg q2, if_neg q2]
  by_cases q3 : a = 3
  · rw [if_pos q3, if_pos q3]
    exact ⟨_, rfl, rfl, h0⟩
  rw [if_neg q3, if_neg q3]
  by_cases q4 : a = 4
  · rw [if_pos q4, if_pos q4]
    exact ⟨_, rfl, rfl, h0⟩
  rw [if_neg q4, if_neg q4]
  by_cases q5 : a = 5
  · rw [if_pos q5, if_pos q5]
    exact ⟨_, rfl, rfl, h0⟩
  rw [if_neg q5, if_neg q5]
  by_cases q6 : a = 6
  · rw [if_pos q6, if_pos q6]
    exact ⟨_, rfl, rfl, h0⟩
  rw [if_neg q6, if_neg q6]
  by_cases q7 : a = 7
  · rw [if_pos q7, if_pos q7]
    exact ⟨_, rfl, rfl, h0⟩
  rw [if_neg q7, if_neg q7]
  by_cases q8 : a = 8
  · rw [if_pos q8, if_pos q8]
    exact ⟨_, rfl, rfl, h0⟩
  rw [if_neg q8, if_neg q8]
  by_cases q9 : a = 9
  · rw [if_pos q9, if_pos q9]
    exact ⟨_, rfl, rfl, h0⟩
  rw [if_neg q9, if_neg q9]
  by_cases q10 : a = 10
  · rw [if_pos q10, if_pos q10]
    exact ⟨_, rfl, rfl, h0⟩
  rw [if_neg q10, if_neg q10]
  by_cases q11 : a = 11
  · rw [if_pos q11, if_pos q11]
    exact ⟨_, rfl, rfl, h0⟩
  rw [if_neg q11, if_neg q11]
  exact ⟨_, rfl, rfl, h0⟩
theorem J_of {N : Nat} : lo_of JJ N := by
  intro Ds Df V c M a1 a2 h
  have h0 := h.m0
  obtain ⟨P, H, b, h1, -⟩ := h.m0
  obtain ⟨n4, K, c1, c2, c3, c4, c5⟩ := h1.1.2.2.2.2.2.2.2.2.2.2.2
  have hr := h1.2.1
  have hP := h1.1.2.1
  obtain ⟨e, q⟩ := h1.1.isP a1
  unfold x0_of m_of
  simp only [gs_let]
  generalize gz_up M (1, 0, 0) 0 0 = M1 at *
  rw [e]
  rcases q with q | ⟨q, p, hp, rfl⟩
  · rw [q, if_pos rfl, if_pos rfl]
    exact ⟨M1, _, rfl, rfl, h0⟩
  rw [q, if_neg n10, if_neg n10]
  have p12 : p < 12 := by omega
  have pn : (Int32.ofNat p).toNatClampNeg = p := o_nat (by omega)
  unfold x0_at
  rw [gs_gd (o_inb p12 (by omega)), gs_bd, pn]
  simp only [o_addl]
  rw [gs_gd (o_inb (show 65 + p < 121 by omega) (by omega)), gs_gd (o_inb (show 77 + p < 121 by omega) (by omega)), gs_gd (o_inb (show 89 + p < 121 by omega) (by omega)), gs_gd (o_inb (show p < 24 by omega) (by omega)), o_nat (show 65 + p < 2147483648 by omega), o_nat (show 77 + p < 2147483648 by omega), o_nat (show 89 + p < 2147483648 by omega), c1, gs_bd, gs_gd ⟨c2, c3⟩, gs_gd (o_inb p12 (by omega)), hr.purse p12, hr.hand p12, hr.shook p12, (c4 p p12).1, (c4 p p12).2.1, isIn_eq]
  refine ⟨M1, ?_⟩
  rcases isIn_c (a := a2) (b := 0) (c := 4) with w | ⟨w, w1, w2⟩
  · rw [w, if_pos rfl, if_pos rfl]
    repeat' split
    all_goals exact ⟨_, rfl, rfl, h0⟩
  · have z0 : (0 : Int32).toInt = 0 := rfl
    have z4 : (4 : Int32).toInt = 4 := rfl
    obtain ⟨t, ht, rfl⟩ := o_ex (a := a2) (n := 5) (by omega) (by omega)
    rw [w, if_neg n10, if_neg n10, gs_gd (o_inb ht (by omega)), o_nat (show t < 2147483648 by omega), m_trait_ok p12 ht, gs_bd, hr.trait p12 ht]
    have nn : ∀ t, t < 5 → ¬ Int32.ofNat t = 5 ∧ ¬ Int32.ofNat t = 6 ∧ ¬ Int32.ofNat t = 7 ∧ ¬ Int32.ofNat t = 8 := by decide
    obtain ⟨n5, n6, n7, n8⟩ := nn t ht
    rw [if_neg n5, if_neg n6, if_neg n7, if_neg n8]
    exact ⟨_, rfl, rfl, h0⟩
theorem J_horseOf {N : Nat} : lo_horseOf JJ N := by
  intro Ds Df V c M a1 a2 h
  have h0 := h.m0
  obtain ⟨P, H, b, h1, -⟩ := h.m0
  have hr := h1.2.1
  have hH := h1.1.2.2.1
  have ws := h1.1.2.2.2.2.2.2.2.1
  obtain ⟨e, q⟩ := h1.1.isH a1
  unfold x0_horseOf m_horseOf
  simp only [gs_let]
  generalize gz_up M (1, 0, 0) 0 0 = M1 at *
  rw [e]
  rcases q with q | ⟨q, p, hp, rfl⟩
  · rw [q, if_pos rfl, if_pos rfl]
    exact ⟨M1, _, rfl, rfl, h0⟩
  rw [q, if_neg n10, if_neg n10]
  have p10 : p < 10 := by omega
  have pn : (Int32.ofNat p).toNatClampNeg = p := o_nat (by omega)
  simp only [o_addl, pn]
  rw [gs_gd (o_inb p10 (by omega)), gs_gd (o_inb p10 (by omega)), gs_gd (o_inb p10 (by omega)), gs_gd (o_inb (show 101 + p < 121 by omega) (by omega)), gs_gd (o_inb (show 111 + p < 121 by omega) (by omega)), o_nat (show 101 + p < 2147483648 by omega), o_nat (show 111 + p < 2147483648 by omega), hr.owner p10, hr.sold p10, (ws p p10).1, (ws p p10).2]
  refine ⟨M1, ?_⟩
  repeat' split
  all_goals exact ⟨_, rfl, rfl, h0⟩
theorem J_book {N : Nat} : lo_book JJ N := by
  intro Ds Df V c M a1 a2 h
  have h0 := h.m0
  obtain ⟨P, H, b, h1, -⟩ := h.m0
  have hr := h1.2.1
  have hg := h1.2.2.1.2.2
  obtain ⟨bk1, bk2, bk3⟩ := h1.2.2.2.1
  unfold x0_book m_book
  simp only [gs_let]
  generalize gz_up M (1, 0, 0) 0 0 = M1 at *
  rw [show (2 : Int32).toNatClampNeg = 2 from rfl, hr.lines]
  obtain ⟨l, hl, el⟩ := o_ex (n := 151) hg.1 (by omega)
  have ll : (M1 (2, 1, 0) 2).toInt = l := by rw [el, i_of (by omega)]
  obtain ⟨q1, q2⟩ := isP_g (a := a1) (P := l) (x := M1 (2, 1, 0) 2) (y := Int32.ofNat l) (by omega) el rfl
  rw [isIn_eq, isIn_eq] at *
  refine ⟨M1, ?_⟩
  rcases q2 with q2 | ⟨q2, i, hi, rfl⟩
  · rw [q2, if_pos rfl, if_pos rfl]
    exact ⟨_, rfl, rfl, h0⟩
  rw [q2, if_neg n10, if_neg n10]
  rcases isIn_c (a := a2) (b := 0) (c := 3) with w | ⟨w, w1, w2⟩
  · rw [w, if_pos rfl, if_pos rfl]
    exact ⟨_, rfl, rfl, h0⟩
  have z0 : (0 : Int32).toInt = 0 := rfl
  have z4 : (3 : Int32).toInt = 3 := rfl
  obtain ⟨t, ht, rfl⟩ := o_ex (a := a2) (n := 4) (by omega) (by omega)
  rw [w, if_neg n10, if_neg n10, o_mull, o_add, gs_gd (o_inb (show i < 150 by omega) (by omega)), gs_gd (o_inb ht (by omega)), gs_gd (o_inb (show 4 * i + t < 600 by omega) (by omega)), o_nat (show i < 2147483648 by omega), o_nat (show t < 2147483648 by omega), o_nat (show 4 * i + t < 2147483648 by omega), bk3 i (by omega) t ht]
  exact ⟨_, rfl, rfl, h0⟩
