/-! left -/
set_option maxRecDepth 100000
section LFT
variable {P H b N : Nat} {F : Int32} {Ds : gz_S} {Df : gz_R} {V M : gz_V}
theorem z_hasL {p t : Nat} (u : cU 0 P H F b Ds Df V M) (hp : p < P) (ht : t < 5) : ∀ (d o : Nat) {n m : Nat}, o + d = P → d < n → d < m → ∃ r, x0_hasMost_L2 N V (Int32.ofNat p) (Int32.ofNat t) n (Int32.ofNat o) = some r ∧ m_hasMost_L2 N M (Int32.ofNat p) (Int32.ofNat t) m (Int32.ofNat o) = some r := by
  have hP := u.1.2.1
  have pp := u.pp
  intro d
  induction d with
  | zero =>
    intro o n m ho hn hm
    obtain ⟨n, rfl⟩ : ∃ z, n = z + 1 := ⟨n - 1, by omega⟩
    obtain ⟨m, rfl⟩ : ∃ z, m = z + 1 := ⟨m - 1, by omega⟩
    have hc : Int32.ofNat P ≤ Int32.ofNat o := by rw [o_le (by omega) (by omega)]; omega
    exact ⟨.inr (), by rw [x0_hasMost_L2, pp.1, if_pos hc], by rw [m_hasMost_L2, pp.2.1, if_pos hc]⟩
  | succ d ih =>
    intro o n m ho hn hm
    obtain ⟨n, rfl⟩ : ∃ z, n = z + 1 := ⟨n - 1, by omega⟩
    obtain ⟨m, rfl⟩ : ∃ z, m = z + 1 := ⟨m - 1, by omega⟩
    have hc : ¬ Int32.ofNat P ≤ Int32.ofNat o := by rw [o_le (by omega) (by omega)]; omega
    have e1 : Int32.ofNat o + 1 = Int32.ofNat (o + 1) := o_addr 1 o
    have o12 : o < 12 := by omega
    have p12 : p < 12 := by omega
    rw [x0_hasMost_L2, pp.1, if_neg hc, m_hasMost_L2, pp.2.1, if_neg hc, e1]
    by_cases h1 : Int32.ofNat o = Int32.ofNat p
    · rw [if_pos h1, if_pos h1]
      exact ih (o + 1) (by omega) (by omega) (by omega)
    rw [if_neg h1, if_neg h1, at_ok o12, gs_bd, at_ok p12, gs_gd (o_inb ht (by omega)), gs_bd, gs_gd (o_inb ht (by omega)), o_nat (show t < 2147483648 by omega), m_trait_ok o12 ht, gs_bd, m_trait_ok p12 ht, gs_bd, u.2.1.trait o12 ht, u.2.1.trait p12 ht]
    by_cases h2 : M (2, 1, 0) (5 + 5 * o + t) < M (2, 1, 0) (5 + 5 * p + t)
    · rw [if_pos h2, if_pos h2]
      exact ih (o + 1) (by omega) (by omega) (by omega)
    · rw [if_neg h2, if_neg h2]
      exact ⟨.inl 0, rfl, rfl⟩
theorem z_has {p t : Nat} (u : cU 0 P H F b Ds Df V M) (hp : p < P) (ht : t < 5) (hN : 500 ≤ N) : ∃ r, x0_hasMost N V (Int32.ofNat p) (Int32.ofNat t) = some r ∧ m_hasMost N M (Int32.ofNat p) (Int32.ofNat t) = some r := by
  have hP := u.1.2.1
  obtain ⟨r, a, b'⟩ := z_hasL (N := N) u hp ht P 0 (n := N) (m := N) (by omega) (by omega) (by omega)
  unfold x0_hasMost m_hasMost
  rw [show x0_hasMost_L2 N V (Int32.ofNat p) (Int32.ofNat t) N 0 = some r from a, show m_hasMost_L2 N M (Int32.ofNat p) (Int32.ofNat t) N 0 = some r from b']
  rcases r with r | r
  · exact ⟨r, rfl, rfl⟩
  · exact ⟨1, rfl, rfl⟩
theorem z_left {p : Nat} {a2 : Int32} (u : cU 0 P H F b Ds Df V M) (hp : p < P) (hN : 500 ≤ N) : ∀ (d t w : Nat) {n1 n2 m : Nat} {k : Int32}, t + d = 5 → w < 5 → d < n1 → d < n2 → d < m → ∃ r s, x4_most_L4 N V 0 p n1 (Int32.ofNat w) (Int32.ofNat t) = some r ∧ x0_left_L37 N V (Int32.ofNat p) n2 k (Int32.ofNat t) = some s ∧ m_left_L33 N M (Int32.ofNat p) a2 m (Int32.ofNat w) k (Int32.ofNat t) = some (r, s) := by
  have hP := u.1.2.1
  have p12 : p < 12 := by omega
  intro d
  induction d with
  | zero =>
    intro t w n1 n2 m k ht hw h1 h2 h3
    obtain ⟨n1, rfl⟩ : ∃ z, n1 = z + 1 := ⟨n1 - 1, by omega⟩
    obtain ⟨n2, rfl⟩ : ∃ z, n2 = z + 1 := ⟨n2 - 1, by omega⟩
    obtain ⟨m, rfl⟩ : ∃ z, m = z + 1 := ⟨m - 1, by omega⟩
    have t5 : t = 5 := by omega
    subst t5
    exact ⟨_, _, by rw [x4_most_L4, if_pos (by decide)], by rw [x0_left_L37, if_pos (by decide)], by rw [m_left_L33, if_pos (by decide)]⟩
  | succ d ih =>
    intro t w n1 n2 m k ht hw h1 h2 h3
    obtain ⟨n1, rfl⟩ : ∃ z, n1 = z + 1 := ⟨n1 - 1, by omega⟩
    obtain ⟨n2, rfl⟩ : ∃ z, n2 = z + 1 := ⟨n2 - 1, by omega⟩
    obtain ⟨m, rfl⟩ : ∃ z, m = z + 1 := ⟨m - 1, by omega⟩
    have t5 : t < 5 := by omega
    have hc : ¬ (5 : Int32) ≤ Int32.ofNat t := by rw [o_lel (by decide) (by omega)]; show ¬ 5 ≤ t; omega
    have e1 : Int32.ofNat t + 1 = Int32.ofNat (t + 1) := o_addr 1 t
    obtain ⟨q, a, b'⟩ := z_has (N := N) u hp t5 hN
    rw [x4_most_L4, if_neg hc, gs_gd (o_inb t5 (by omega)), gs_gd (o_inb hw (by omega)), gs_let, x0_left_L37, if_neg hc, a, gs_bd, gs_let, gs_let, m_left_L33, if_neg hc, m_trait_ok p12 t5, gs_bd, m_trait_ok p12 hw, gs_bd, gs_let, b', gs_bd, gs_let, gs_let, e1, o_nat (show t < 2147483648 by omega), o_nat (show w < 2147483648 by omega), u.2.1.trait p12 t5, u.2.1.trait p12 hw]
    have ek : (if q = 0 then k else k + 1) = k + (if q = 0 then (0 : Int32) else 1) := by
      split
      · rw [Int32.add_zero]
      · rfl
    rw [ek]
    by_cases h4 : M (2, 1, 0) (5 + 5 * p + t) ≤ M (2, 1, 0) (5 + 5 * p + w)
    · rw [if_pos h4]
      exact ih (t + 1) w (by omega) hw (by omega) (by omega) (by omega)
    · rw [if_neg h4]
      exact ih (t + 1) t (by omega) t5 (by omega) (by omega) (by omega)
end LFT
theorem J_left {N : Nat} (hN : 1000 ≤ N) : lo_left JJ N := by
  intro Ds Df V c M a1 a2 h
  have h0 := h.m0
  obtain ⟨P, H, b, u, -⟩ := h.m0.deeds
  have hP := u.1.2.1
  obtain ⟨e1, q1⟩ := u.1.isP a1
  unfold x0_left m_left
  rw [gs_let, e1, isIn_eq]
  generalize gz_up M (1, 0, 0) 0 0 = M1 at *
  rcases q1 with q1 | ⟨q1, p, hp, rfl⟩
  · rw [if_pos q1, if_pos q1]
    exact ⟨M1, -1, rfl, rfl, h0⟩
  rw [q1, if_neg n10, if_neg n10]
  rcases isIn_c (a := a2) (b := 0) (c := 1) with w | ⟨w, -⟩
  · rw [if_pos w, if_pos w]
    exact ⟨M1, -1, rfl, rfl, h0⟩
  rw [w, if_neg n10, if_neg n10]
  obtain ⟨r, s, x1, x2, x3⟩ := z_left (N := N) (a2 := a2) u hp (by omega) 5 0 0 (n1 := N + 1) (n2 := N) (m := N) (k := 0) (by decide) (by decide) (by omega) (by omega) (by omega)
  have x1' : x4_most_L4 N V 0 p N 0 1 = some r := by
    rw [x4_most_L4, if_neg (by decide), gs_gd (by decide), gs_gd (by decide), gs_let, if_pos (by rw [i_le]; omega)] at x1
    exact x1
  rw [show m_left_L33 N M1 (Int32.ofNat p) a2 N 0 0 0 = some (r, s) from x3, gs_b2, show x0_left_L37 N V (Int32.ofNat p) N 0 0 = some s from x2, gs_bd, at_ok (show p < 12 by omega), gs_bd]
  unfold x4_most
  rw [x1', gs_bd, gs_bd]
  by_cases h2 : a2 = 0
  · rw [if_pos h2, if_pos h2]
    exact ⟨M1, r, rfl, rfl, h0⟩
  · rw [if_neg h2, if_neg h2]
    exact ⟨M1, s, rfl, rfl, h0⟩
