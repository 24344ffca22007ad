/-! alike -/
set_option maxRecDepth 100000
section ALK
variable {k P H b N : Nat} {F : Int32} {Ds : gz_S} {Df : gz_R} {V M : gz_V}
theorem at_ok {p : Nat} (hp : p < 12) : x0_at (Int32.ofNat p) = some p := by
  unfold x0_at
  rw [gs_gd (o_inb hp (by omega)), o_nat (by omega)]
theorem b_apart {a b : Int32} (ha : 0 ≤ a.toInt ∧ a.toInt ≤ 999) (hb : 0 ≤ b.toInt ∧ b.toInt ≤ 999) : gz_abs (a - b) = m_apart a b := by
  have e1 : (a - b).toInt = a.toInt - b.toInt := by rw [i_sub] <;> omega
  have e2 : (b - a).toInt = b.toInt - a.toInt := by rw [i_sub] <;> omega
  have z : (0 : Int32).toInt = 0 := rfl
  have e3 : (0 - (a - b)).toInt = b.toInt - a.toInt := by rw [i_sub, e1, z] <;> (try rw [e1, z]) <;> omega
  unfold gz_abs m_apart
  rw [i_eq]
  repeat' split
  all_goals (simp only [i_le] at * <;> omega)
theorem z_apart {p q : Nat} (u : cU 0 P H F b Ds Df V M) (hp : p < 12) (hq : q < 12) : ∀ (d t : Nat) {n m : Nat} {s : Int32}, t + d = 5 → d < n → d < m → ∃ r, x4_apart_L4 N V 0 p 0 q n s (Int32.ofNat t) = some r ∧ m_unlike_L5 N M (Int32.ofNat p) (Int32.ofNat q) m s (Int32.ofNat t) = some r := by
  intro d
  induction d with
  | zero =>
    intro t n m s ht hn hm
    obtain ⟨n, rfl⟩ : ∃ z, n = z + 1 := ⟨n - 1, by omega⟩
    obtain ⟨m, rfl⟩ : ∃ z, m = z + 1 := ⟨m - 1, by omega⟩
    have t5 : t = 5 := by omega
    subst t5
    exact ⟨s, by rw [x4_apart_L4, if_pos (by decide)], by rw [m_unlike_L5, if_pos (by decide)]⟩
  | succ d ih =>
    intro t n m s ht hn hm
    obtain ⟨n, rfl⟩ : ∃ z, n = z + 1 := ⟨n - 1, by omega⟩
    obtain ⟨m, rfl⟩ : ∃ z, m = z + 1 := ⟨m - 1, by omega⟩
    have e1 : Int32.ofNat t + 1 = Int32.ofNat (t + 1) := o_addr 1 t
    have t5 : t < 5 := by omega
    have hc : ¬ (5 : Int32) ≤ Int32.ofNat t := by rw [o_lel (by decide) (by omega)]; show ¬ 5 ≤ t; omega
    obtain ⟨r, a, b'⟩ := ih (t + 1) (n := n) (m := m) (s := s + m_apart (M (2, 1, 0) (5 + 5 * p + t)) (M (2, 1, 0) (5 + 5 * q + t))) (by omega) (by omega) (by omega)
    refine ⟨r, ?_, ?_⟩
    · rw [x4_apart_L4, if_neg hc, gs_gd (o_inb t5 (by omega)), gs_gd (o_inb t5 (by omega)), gs_let, o_nat (by omega), e1, u.2.1.trait hp t5, u.2.1.trait hq t5, b_apart (u.2.2.1.1 _ (by omega) (by omega)) (u.2.2.1.1 _ (by omega) (by omega))]
      exact a
    · rw [m_unlike_L5, if_neg hc, m_trait_ok hp t5, gs_bd, m_trait_ok hq t5, gs_bd, gs_let, e1]
      exact b'
theorem z_unlike {p q : Nat} (u : cU 0 P H F b Ds Df V M) (hp : p < 12) (hq : q < 12) (hN : 500 ≤ N) : ∃ r, x4_apart N V 0 p 0 q = some r ∧ m_unlike N M (Int32.ofNat p) (Int32.ofNat q) = some r := by
  obtain ⟨r, a, b'⟩ := z_apart (N := N) u hp hq 5 0 (n := N) (m := N) (s := 0) (by decide) (by omega) (by omega)
  refine ⟨r, ?_, ?_⟩
  · unfold x4_apart
    rw [show x4_apart_L4 N V 0 p 0 q N 0 0 = some r from a]
    rfl
  · unfold m_unlike
    rw [show m_unlike_L5 N M (Int32.ofNat p) (Int32.ofNat q) N 0 0 = some r from b']
    rfl
theorem z_best {p : Nat} (u : cU 0 P H F b Ds Df V M) (hp : p < P) (hN : 500 ≤ N) : ∀ (d t : Nat) {n m : Nat} {s : Int32}, t + d = P → d < n → d < m → (s = -1 ∨ ∃ q, q < P ∧ s = Int32.ofNat q) → ∃ r, x0_alike_L47 N V (Int32.ofNat p) n s (Int32.ofNat t) = some r ∧ m_alike_L45 N M (Int32.ofNat p) m s (Int32.ofNat t) = some r := by
  have hP := u.1.2.1
  have pp := u.pp
  intro d
  induction d with
  | zero =>
    intro t n m s ht hn hm hs
    obtain ⟨n, rfl⟩ : ∃ z, n = z + 1 := ⟨n - 1, by omega⟩
    obtain ⟨m, rfl⟩ : ∃ z, m = z + 1 := ⟨m - 1, by omega⟩
    have hc : Int32.ofNat P ≤ Int32.ofNat t := by rw [o_le (by omega) (by omega)]; omega
    exact ⟨s, by rw [x0_alike_L47, pp.1, if_pos hc], by rw [m_alike_L45, pp.2.1, if_pos hc]⟩
  | succ d ih =>
    intro t n m s ht hn hm hs
    obtain ⟨n, rfl⟩ : ∃ z, n = z + 1 := ⟨n - 1, by omega⟩
    obtain ⟨m, rfl⟩ : ∃ z, m = z + 1 := ⟨m - 1, by omega⟩
    have hc : ¬ Int32.ofNat P ≤ Int32.ofNat t := by rw [o_le (by omega) (by omega)]; omega
    have e1 : Int32.ofNat t + 1 = Int32.ofNat (t + 1) := o_addr 1 t
    rw [x0_alike_L47, pp.1, if_neg hc, m_alike_L45, pp.2.1, if_neg hc, e1]
    by_cases h1 : Int32.ofNat t = Int32.ofNat p
    · rw [if_pos h1, if_pos h1, gs_bd, gs_bd]
      exact ih (t + 1) (by omega) (by omega) (by omega) hs
    rw [if_neg h1, if_neg h1]
    by_cases h2 : s = -1
    · rw [if_pos h2, if_pos h2, gs_bd, gs_bd]
      exact ih (t + 1) (by omega) (by omega) (by omega) (Or.inr ⟨t, by omega, rfl⟩)
    rw [if_neg h2, if_neg h2]
    rcases hs with hs | ⟨q, hq, rfl⟩
    · exact absurd hs h2
    obtain ⟨r1, a1, b1⟩ := z_unlike (N := N) u (show p < 12 by omega) (show t < 12 by omega) hN
    obtain ⟨r2, a2, b2⟩ := z_unlike (N := N) u (show p < 12 by omega) (show q < 12 by omega) hN
    rw [at_ok (show p < 12 by omega), gs_bd, at_ok (show t < 12 by omega), gs_bd, a1, gs_bd, gs_bd, at_ok (show q < 12 by omega), gs_bd, a2, gs_bd, b1, gs_bd, b2, gs_bd]
    by_cases h3 : r2 ≤ r1
    · rw [if_pos h3, gs_bd, gs_bd]
      exact ih (t + 1) (by omega) (by omega) (by omega) (Or.inr ⟨q, hq, rfl⟩)
    · rw [if_neg h3, gs_bd, gs_bd]
      exact ih (t + 1) (by omega) (by omega) (by omega) (Or.inr ⟨t, by omega, rfl⟩)
end ALK
theorem J_alike {N : Nat} (hN : 1000 ≤ N) : lo_alike JJ N := by
  intro Ds Df V c M a1 a2 h
  have h0 := h.m0
  obtain ⟨P, H, b, u, -⟩ := h.m0.deeds
  have hP := u.1.2.1
  obtain ⟨e1, q1⟩ := u.1.isP a1
  obtain ⟨e2, q2⟩ := u.1.isP a2
  unfold x0_alike m_alike
  rw [gs_let, e1, e2]
  generalize gz_up M (1, 0, 0) 0 0 = M1 at *
  rcases q1 with q1 | ⟨q1, p, hp, rfl⟩
  · rw [if_pos q1, if_pos q1]
    exact ⟨M1, -1, rfl, rfl, h0⟩
  rw [q1, if_neg n10, if_neg n10]
  by_cases h2 : a2 = -1
  · rw [if_pos h2, if_pos h2, if_pos h2, if_pos h2]
    obtain ⟨r, a, b'⟩ := z_best (N := N) u hp (by omega) P 0 (n := N) (m := N) (s := -1) (by omega) (by omega) (by omega) (Or.inl rfl)
    rw [show x0_alike_L47 N V (Int32.ofNat p) N (-1) 0 = some r from a, gs_bd, show m_alike_L45 N M1 (Int32.ofNat p) N (-1) 0 = some r from b', gs_bd]
    exact ⟨M1, r, rfl, rfl, h0⟩
  simp only [if_neg h2]
  rcases q2 with q2 | ⟨q2, q, hq, rfl⟩
  · rw [if_pos q2, if_pos q2]
    exact ⟨M1, -1, rfl, rfl, h0⟩
  rw [q2, if_neg n10, if_neg n10, at_ok (show p < 12 by omega), gs_bd, at_ok (show q < 12 by omega), gs_bd]
  obtain ⟨r2, a2, b2⟩ := z_unlike (N := N) u (show p < 12 by omega) (show q < 12 by omega) (by omega)
  rw [a2, gs_bd, b2, gs_bd]
  exact ⟨M1, r2, rfl, rfl, h0⟩
