/-! DEEDS: buys, clasp, hand, days -/
set_option maxRecDepth 100000
section OPS
variable {Ds : gz_S} {Df : gz_R} {V M : gz_V} {c P H b N : Nat} {F : Int32}
theorem cU.same {P' H' b' : Nat} {V2 M2 : gz_V} {D2 : gz_R} (u : cU 0 P H F b Ds Df V M) (u2 : cU 0 P' H' 0 b' Ds D2 V2 M2) (h13 : V2 (20, 0, 0) 13 = V (20, 0, 0) 13) (h14 : V2 (20, 0, 0) 14 = V (20, 0, 0) 14) : P' = P ∧ H' = H := by
  have a := u.pp
  have a2 := u2.pp
  have p1 := u.1.2.1
  have p2 := u2.1.2.1
  have q1 := u.1.2.2.1
  have q2 := u2.1.2.2.1
  refine ⟨?_, ?_⟩
  · have e := (a2.1.symm.trans h13).trans a.1
    rwa [o_eq (by omega) (by omega)] at e
  · have e := (a2.2.2.1.symm.trans h14).trans a.2.2.1
    rwa [o_eq (by omega) (by omega)] at e
theorem m_canBuy_no {a1 a2 a3 a4 : Int32} (u : cU 0 P H F b Ds Df V M) (h : m_isPerson M a1 = 0 ∨ m_isHorse M a2 = 0 ∨ m_isIn a3 0 9999 = 0 ∨ m_isIn a4 1 9 = 0) : m_canBuy N M a1 a2 a3 a4 = some (M, 0) := by
  have hP := u.1.2.1
  have hH := u.1.2.2.1
  unfold m_canBuy
  rcases (u.1.isH a2).2 with q | ⟨q, hh, hhH, rfl⟩
  · rw [if_pos q]
  rw [q, if_neg n10]
  rcases isIn_c (a := a3) (b := 0) (c := 9999) with w | ⟨w, -⟩
  · rw [if_pos w]
  rw [w, if_neg n10]
  rcases isIn_c (a := a4) (b := 1) (c := 9) with w2 | ⟨w2, -⟩
  · rw [if_pos w2]
  rw [w2, if_neg n10]
  have hp : m_isPerson M a1 = 0 := by
    rcases h with h | h | h | h
    · exact h
    · rw [q] at h; exact absurd h n10
    · rw [w] at h; exact absurd h n10
    · rw [w2] at h; exact absurd h n10
  obtain ⟨p, hp1, o1, o2⟩ := u.ow hhH
  rw [o_addl, gs_gd (o_inb (by omega) (by omega)), o_nat (by omega), gs_let, o1]
  unfold m_canShake
  rw [m_isP u.pp.2.1 hP hp1, if_neg n10, if_pos hp, gs_bd, if_pos rfl]
theorem byR.mv {p q h : Nat} {a3 a4 : Int32} {V2 M2 : gz_V} (hb : byR 0 p q h a3 a4 V M) (h1 : V2 (23, 0, 0) = V (23, 0, 0)) (h2 : M2 (2, 8, 0) = M (2, 8, 0)) (h3 : M2 (2, 9, 0) = M (2, 9, 0)) (h4 : M2 (2, 1, 0) = M (2, 1, 0)) : byR 0 p q h a3 a4 V2 M2 := by
  unfold byR at *
  rw [h1, h2, h3, h4]
  exact hb
end OPS
theorem J_buys {N : Nat} (hN : 1000 ≤ N) : lo_buys JJ N := by
  intro Ds Df V c M a1 a2 a3 a4 h
  have h0 := h.m0
  obtain ⟨P, H, b, u, mr, br, cl⟩ := h0.deeds
  unfold x0_buys m_buys x0_canTell
  rw [gs_let]
  generalize gz_up M (1, 0, 0) 0 0 = M1 at *
  have no : (m_isPerson M1 a1 = 0 ∨ m_isHorse M1 a2 = 0 ∨ m_isIn a3 0 9999 = 0 ∨ m_isIn a4 1 9 = 0) → gz_b2 (m_canBuy N M1 a1 a2 a3 a4) (fun V5 r3 => (if r3 = 0 then some (V5, (-1)) else gz_bd (m_keepsAhead N V5) (fun V8 => gz_b2 (m_bargains N V8 a1 a2 a3 a4) (fun V11 r9 => some (V11, r9))))) = some (M1, -1) := fun z => by
    rw [m_canBuy_no u z, gs_b2, if_pos rfl]
  obtain ⟨e1, q1⟩ := u.1.isP a1
  obtain ⟨e2, q2⟩ := u.1.isH a2
  rw [e1, e2, isIn_eq, show x0_isGrip a4 = m_isIn a4 1 9 from rfl]
  rcases q1 with q1 | ⟨q1, q, hq, rfl⟩
  · rw [if_pos q1, if_pos rfl, no (Or.inl q1)]
    exact ⟨V, Df, M1, -1, rfl, rfl, h0⟩
  rw [q1, if_neg n10]
  rcases q2 with q2 | ⟨q2, hh, hhH, rfl⟩
  · rw [if_pos q2, if_pos rfl, no (Or.inr (Or.inl q2))]
    exact ⟨V, Df, M1, -1, rfl, rfl, h0⟩
  rw [q2, if_neg n10]
  rcases isIn_c (a := a3) (b := 0) (c := 9999) with w | ⟨w, w1, w2⟩
  · rw [if_pos w, if_pos rfl, no (Or.inr (Or.inr (Or.inl w)))]
    exact ⟨V, Df, M1, -1, rfl, rfl, h0⟩
  rw [w, if_neg n10]
  rcases isIn_c (a := a4) (b := 1) (c := 9) with x | ⟨x, x1, x2⟩
  · rw [if_pos x, if_pos rfl, no (Or.inr (Or.inr (Or.inr x)))]
    exact ⟨V, Df, M1, -1, rfl, rfl, h0⟩
  rw [x, if_neg n10, if_neg n10]
  obtain ⟨V2, M2, r, b1, b2, b3, b4, b5, b6⟩ := z_canBuy u (N := N) (by omega) hq hhH w1 w2 x1 x2
  rw [b1, gs_b2, b2, gs_b2]
  have J2 := cl V2 M2 b3 b4 b5
  rcases b6 with rfl | ⟨rfl, p, hp, hby⟩
  · rw [if_pos rfl, if_pos rfl]
    exact ⟨V2, Df, M2, -1, rfl, rfl, J2⟩
  rw [if_neg n10, if_neg n10]
  obtain ⟨V3, D3, M3, c1, c2, J3, c4, c5, c6⟩ := J2.rem hN
  obtain ⟨P', H', b', u3, mr3, br3, cl3⟩ := J3.deeds
  have x20 : ∀ i, V3 (20, 0, 0) i = V2 (20, 0, 0) i := fun i => c4 _ i (fun z => absurd z.2.2 (by decide)) (by simp)
  obtain ⟨rfl, rfl⟩ := b3.same u3 (x20 13) (x20 14)
  have by3 := hby.mv (V2 := V3) (M2 := M3) (funext (fun i => c4 _ i (fun z => absurd z.2.2 (by decide)) (by simp))) (funext (fun i => c6 _ i (by decide) (by simp))) (funext (fun i => c6 _ i (by decide) (by simp))) (funext (fun i => c6 _ i (by decide) (by simp)))
  obtain ⟨V4, M4, r4, d1, d2, d3, d4, d5⟩ := z_buys u3 (N := N) (by omega) hp hq hhH by3
  rw [c1, gs_b2, c2, gs_bd, d1, gs_b2, d2, gs_b2]
  exact ⟨V4, D3, M4, r4, rfl, rfl, cl3 V4 M4 d3 d4 d5⟩
theorem z_days {N : Nat} (hN : 1000 ≤ N) {K : Nat} (hK : K ≤ 60) {Ds : gz_S} {c : Nat} : ∀ (d i : Nat) {n m : Nat} {Df : gz_R} {V M : gz_V} {s : Int32}, i + d = K → d < n → d < m → JJ Ds Df V c M → ∃ V' D' M' r, x0_days_L31 N Ds (Int32.ofNat K) n V Df s (Int32.ofNat i) = some (V', D', r) ∧ m_days_L36 N (Int32.ofNat K) m M s (Int32.ofNat i) = some (M', r) ∧ JJ Ds D' V' c M' := by
  intro d
  induction d with
  | zero =>
    intro i n m Df V M s hi hn hm h
    obtain ⟨n, rfl⟩ : ∃ z, n = z + 1 := ⟨n - 1, by omega⟩
    obtain ⟨m, rfl⟩ : ∃ z, m = z + 1 := ⟨m - 1, by omega⟩
    have hc : Int32.ofNat K ≤ Int32.ofNat i := by rw [o_le (by omega) (by omega)]; omega
    refine ⟨V, Df, M, s, ?_, ?_, h⟩
    · rw [x0_days_L31, if_pos hc]
    · rw [m_days_L36, if_pos hc]
  | succ d ih =>
    intro i n m Df V M s hi hn hm h
    obtain ⟨n, rfl⟩ : ∃ z, n = z + 1 := ⟨n - 1, by omega⟩
    obtain ⟨m, rfl⟩ : ∃ z, m = z + 1 := ⟨m - 1, by omega⟩
    have hc : ¬ Int32.ofNat K ≤ Int32.ofNat i := by rw [o_le (by omega) (by omega)]; omega
    have e1 : Int32.ofNat i + 1 = Int32.ofNat (i + 1) := o_addr 1 i
    obtain ⟨V3, D3, M3, c1, c2, J3, c4, c5, c6⟩ := h.rem hN
    obtain ⟨P', H', b', u3, mr3, br3, cl3⟩ := J3.deeds
    obtain ⟨V4, M4, r4, d1, d2, d3, d4, d5⟩ := z_day (N := N) (by omega) u3
    obtain ⟨V', D', M', r, f1, f2, f3⟩ := ih (i + 1) (n := n) (m := m) (s := s + r4) (by omega) (by omega) (by omega) (cl3 V4 M4 d3 d4 d5)
    refine ⟨V', D', M', r, ?_, ?_, f3⟩
    · rw [x0_days_L31, if_neg hc, c1, gs_b2, d1, gs_b2, gs_let, e1]
      exact f1
    · rw [m_days_L36, if_neg hc, c2, gs_bd, d2, gs_b2, gs_let, e1]
      exact f2
theorem J_days {N : Nat} (hN : 1000 ≤ N) : lo_days JJ N := by
  intro Ds Df V c M a1 h
  have h0 := h.m0
  obtain ⟨P, H, b, u, mr, br, cl⟩ := h0.deeds
  unfold x0_days m_days
  rw [gs_let, isIn_eq]
  generalize gz_up M (1, 0, 0) 0 0 = M1 at *
  rcases isIn_c (a := a1) (b := 1) (c := 60) with w | ⟨w, w1, w2⟩
  · rw [if_pos w, if_pos w]
    exact ⟨V, Df, M1, -1, rfl, rfl, h0⟩
  rw [w, if_neg n10, if_neg n10, u.2.1.day, show (0 : Int32).toNatClampNeg = 0 from rfl]
  by_cases hd : M1 (2, 1, 0) 0 + a1 ≤ 9999
  · rw [if_pos hd, if_pos hd]
    have z1 : (1 : Int32).toInt = 1 := rfl
    have z60 : (60 : Int32).toInt = 60 := rfl
    obtain ⟨K, hK, rfl⟩ := o_ex (a := a1) (n := 61) (by omega) (by omega)
    obtain ⟨V', D', M', r, f1, f2, f3⟩ := z_days hN (show K ≤ 60 by omega) K 0 (n := N) (m := N) (s := 0) (by omega) (by omega) (by omega) h0
    rw [show x0_days_L31 N Ds (Int32.ofNat K) N V Df 0 0 = some (V', D', r) from f1, gs_b3, show m_days_L36 N (Int32.ofNat K) N M1 0 0 = some (M', r) from f2, gs_b2]
    exact ⟨V', D', M', r, rfl, rfl, f3⟩
  · rw [if_neg hd, if_neg hd]
    exact ⟨V, Df, M1, -1, rfl, rfl, h0⟩
theorem J_hand {N : Nat} (hN : 1000 ≤ N) : lo_hand JJ N := by
  intro Ds Df V c M a1 a2 h
  have h0 := h.m0
  obtain ⟨P, H, b, u, mr, br, cl⟩ := h0.deeds
  have hP := u.1.2.1
  unfold x0_hand m_hand
  simp only [gs_let]
  obtain ⟨e1, q1⟩ := u.1.isP a1
  rw [e1, isIn_eq]
  generalize gz_up M (1, 0, 0) 0 0 = M1 at *
  rcases q1 with q1 | ⟨q1, q, hq, rfl⟩
  · rw [if_pos q1, if_pos q1]
    exact ⟨V, Df, M1, 0, rfl, rfl, h0⟩
  rw [q1, if_neg n10, if_neg n10]
  rcases isIn_c (a := a2) (b := 0) (c := 2) with w | ⟨w, w1, w2⟩
  · rw [if_pos w, if_pos w]
    exact ⟨V, Df, M1, 0, rfl, rfl, h0⟩
  rw [w, if_neg n10, if_neg n10]
  have q12 : q < 12 := by omega
  have at1 : x0_at (Int32.ofNat q) = some q := by
    unfold x0_at
    rw [gs_gd (o_inb q12 (by omega)), o_nat (by omega)]
  rw [at1, gs_bd, o_addl, gs_gd (o_inb (show 77 + q < 121 by omega) (by omega)), o_nat (show 77 + q < 2147483648 by omega), ← u.2.1.hand q12]
  by_cases hv : V (40, 0, q) 2 = a2
  · rw [if_pos hv, if_pos hv]
    exact ⟨V, Df, M1, 0, rfl, rfl, h0⟩
  rw [if_neg hv, if_neg hv]
  obtain ⟨V3, D3, M3, c1, c2, J3, c4, c5, c6⟩ := h0.rem hN
  obtain ⟨P', H', b', u3, mr3, br3, cl3⟩ := J3.deeds
  rw [c1, gs_b2, c2, gs_bd, gs_bd, gs_gd (o_inb (show 77 + q < 121 by omega) (by omega))]
  have c := u3.slot (n := (40, 0, q)) (j := 2) (i := 77 + q) (v := a2) (by omega) (by omega) (xu_hand q12) (by simp [fx]) (show (40 : Nat) ≠ 26 by decide)
  exact ⟨_, _, _, 1, rfl, rfl, cl3 _ _ c (fr.rf.up (by simp [fx])) (fr.rf.up (by simp [fm]))⟩
