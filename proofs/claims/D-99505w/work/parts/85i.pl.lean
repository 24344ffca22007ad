/-! prices, whole -/
set_option maxRecDepth 100000
section PRICES2
variable {N a b : Nat}
noncomputable def pR (a b j : Nat) : Int32 := if nRp a b j = true then 0 else 1
theorem pR_1 {j : Nat} (h : Rp a b j) : pR a b j = 1 := by
  unfold pR
  rw [if_neg]
  rw [nRp_iff]
  exact fun z => z h
theorem pR_0 {j : Nat} (h : ¬ Rp a b j) : pR a b j = 0 := by
  unfold pR
  rw [if_pos (nRp_iff.mpr h)]
theorem pR_is {j : Nat} : pR a b j = 1 ↔ Rp a b j := by
  by_cases h : Rp a b j
  · exact ⟨fun _ => h, fun _ => pR_1 h⟩
  · exact ⟨fun z => by rw [pR_0 h] at z; exact absurd z (by decide), fun z => absurd z h⟩
theorem m_pay {V : gz_V} {t : Nat} (ha : a < 61) (hb : b < 61) (ha2 : 2 ≤ a) (hb2 : 2 ≤ b) (ht : t < 3600) (hV : ∀ j, j < t → V (2, 56, 0) j = pR a b j) :
    (if Int32.ofNat t = 0 then some (1 : Int32) else (if Int32.ofNat t < Int32.ofNat a then (if Int32.ofNat t < Int32.ofNat b then some (0 : Int32) else gz_gd (gz_inb (Int32.ofNat t - Int32.ofNat b) 3600 = true) ((if (V (2, 56, 0) (Int32.ofNat t - Int32.ofNat b).toNatClampNeg) = 1 then some (1 : Int32) else some (0 : Int32)))) else gz_gd (gz_inb (Int32.ofNat t - Int32.ofNat a) 3600 = true) ((if (V (2, 56, 0) (Int32.ofNat t - Int32.ofNat a).toNatClampNeg) = 1 then some (1 : Int32) else (if Int32.ofNat t < Int32.ofNat b then some (0 : Int32) else gz_gd (gz_inb (Int32.ofNat t - Int32.ofNat b) 3600 = true) ((if (V (2, 56, 0) (Int32.ofNat t - Int32.ofNat b).toNatClampNeg) = 1 then some (1 : Int32) else some (0 : Int32)))))))) = some (pR a b t) := by
  have rc := Rp_rec (a := a) (b := b) (n := t)
  have tail : ¬ (a ≤ t ∧ Rp a b (t - a)) → t ≠ 0 → (if Int32.ofNat t < Int32.ofNat b then some (0 : Int32) else gz_gd (gz_inb (Int32.ofNat t - Int32.ofNat b) 3600 = true) ((if (V (2, 56, 0) (Int32.ofNat t - Int32.ofNat b).toNatClampNeg) = 1 then some (1 : Int32) else some (0 : Int32)))) = some (pR a b t) := fun h1 h0 => by
    by_cases h2 : t < b
    · rw [if_pos (by rw [o_lt (by omega) (by omega)]; exact h2), pR_0]
      rw [rc]
      rintro (q | q | q)
      · exact h0 q
      · exact h1 q
      · omega
    · rw [if_neg (by rw [o_lt (by omega) (by omega)]; exact h2), o_sub (by omega) (by omega), gs_gd (o_inb (by omega) (by omega)), o_nat (by omega), hV _ (by omega)]
      by_cases h3 : Rp a b (t - b)
      · rw [if_pos (pR_is.mpr h3), pR_1 (rc.mpr (Or.inr (Or.inr ⟨by omega, h3⟩)))]
      · rw [if_neg (fun z => h3 (pR_is.mp z)), pR_0]
        rw [rc]
        rintro (q | q | q)
        · exact h0 q
        · exact h1 q
        · exact h3 q.2
  by_cases h0 : t = 0
  · subst h0
    rw [if_pos (show Int32.ofNat 0 = 0 from rfl), pR_1 (rc.mpr (Or.inl rfl))]
  rw [if_neg (by rw [bt_z (by omega)]; exact h0)]
  by_cases h1 : t < a
  · rw [if_pos (by rw [o_lt (by omega) (by omega)]; exact h1)]
    exact tail (by omega) h0
  · rw [if_neg (by rw [o_lt (by omega) (by omega)]; exact h1), o_sub (show a ≤ t by omega) (by omega), gs_gd (o_inb (by omega) (by omega)), o_nat (by omega), hV _ (by omega)]
    by_cases h3 : Rp a b (t - a)
    · rw [if_pos (pR_is.mpr h3), pR_1 (rc.mpr (Or.inr (Or.inl ⟨by omega, h3⟩)))]
    · rw [if_neg (fun z => h3 (pR_is.mp z))]
      exact tail (fun z => h3 z.2) h0
theorem m_tab {V0 : gz_V} {v3 : Int32} (ha : a < 61) (hb : b < 61) (ha2 : 2 ≤ a) (hb2 : 2 ≤ b) : ∀ (d t : Nat) {n : Nat} {V : gz_V}, t + d = a * b → d < n → (∀ j, j < t → V (2, 56, 0) j = pR a b j) → (∀ n i, n ≠ (2, 56, 0) → V n i = V0 n i) → ∃ V', m_prices_L79 N (Int32.ofNat a) (Int32.ofNat b) v3 n V (Int32.ofNat (sgC (nRp a b) t)) (lRp a b t) (Int32.ofNat t) = some (V', Int32.ofNat (sgC (nRp a b) (a * b)), lRp a b (a * b)) ∧ ∀ n i, n ≠ (2, 56, 0) → V' n i = V0 n i := by
  have hab : a * b ≤ 3600 := Nat.mul_le_mul (show a ≤ 60 by omega) (show b ≤ 60 by omega)
  intro d
  induction d with
  | zero =>
    intro t n V ht hn h1 h2
    obtain ⟨n, rfl⟩ : ∃ z, n = z + 1 := ⟨n - 1, by omega⟩
    have : t = a * b := by omega
    subst this
    refine ⟨V, ?_, h2⟩
    rw [m_prices_L79, o_mul, if_pos (i_le.mpr (Int.le_refl _))]
  | succ d ih =>
    intro t n V ht hn h1 h2
    obtain ⟨n, rfl⟩ : ∃ z, n = z + 1 := ⟨n - 1, by omega⟩
    have e1 : Int32.ofNat t + 1 = Int32.ofNat (t + 1) := o_addr 1 t
    have l := sgC_le (nRp a b) t
    have tt : ∀ j, j < t + 1 → gz_up V (2, 56, 0) t (pR a b t) (2, 56, 0) j = pR a b j := fun j hj => by
      rw [up_at]
      by_cases q : j = t
      · rw [q, if_pos ⟨rfl, rfl⟩]
      · rw [if_neg (by omega)]; exact h1 j (by omega)
    obtain ⟨V', r1, r2⟩ := ih (t + 1) (n := n) (V := gz_up V (2, 56, 0) t (pR a b t)) (by omega) (by omega) tt (fun n i hn => by rw [up_ne hn]; exact h2 n i hn)
    refine ⟨V', ?_, r2⟩
    rw [m_prices_L79, o_mul, if_neg (by rw [o_le (by omega) (by omega)]; omega), m_pay ha hb ha2 hb2 (by omega) h1, gs_bd, gs_gd (o_inb (by omega) (by omega)), gs_let, gs_gd (o_inb (by omega) (by omega)), o_nat (by omega), tt t (by omega), e1]
    have s1 : sgC (nRp a b) (t + 1) = sgC (nRp a b) t + (if nRp a b t = true then 1 else 0) := rfl
    have s2 : lRp a b (t + 1) = if nRp a b t = true then Int32.ofNat t else lRp a b t := rfl
    rw [s1, s2] at r1
    by_cases q : Rp a b t
    · have nq : ¬ nRp a b t = true := by rw [nRp_iff]; exact fun z => z q
      rw [if_neg nq, if_neg nq] at r1
      rw [if_pos (pR_is.mpr q), gs_b2]
      exact r1
    · have nq : nRp a b t = true := nRp_iff.mpr q
      rw [if_pos nq, if_pos nq] at r1
      rw [if_neg (fun z => q (pR_is.mp z)), gs_let, gs_b2, show Int32.ofNat (sgC (nRp a b) t) + 1 = Int32.ofNat (sgC (nRp a b) t + 1) from o_addr 1 _]
      exact r1
end PRICES2
theorem J_prices {N : Nat} (hN : 5000 ≤ N) : lo_prices JJ N := by
  intro Ds Df V c M a1 a2 a3 h
  have h0 := h.m0
  unfold x0_prices m_prices
  rw [isIn_eq, isIn_eq, isIn_eq, gs_let (x := gz_up M (1, 0, 0) 0 0)]
  generalize gz_up M (1, 0, 0) 0 0 = M1 at *
  rcases isIn_c (a := a1) (b := 2) (c := 60) with w | ⟨w, w1, w2⟩
  · rw [if_pos w, if_pos w]
    exact ⟨M1, -1, rfl, rfl, h0⟩
  rw [w, if_neg n10, if_neg n10]
  rcases isIn_c (a := a2) (b := 2) (c := 60) with x | ⟨x, x1, x2⟩
  · rw [if_pos x, if_pos x]
    exact ⟨M1, -1, rfl, rfl, h0⟩
  rw [x, if_neg n10, if_neg n10]
  rcases isIn_c (a := a3) (b := 0) (c := 1) with y | ⟨y, y1, y2⟩
  · rw [if_pos y, if_pos y]
    exact ⟨M1, -1, rfl, rfl, h0⟩
  rw [y, if_neg n10, if_neg n10]
  have z2 : (2 : Int32).toInt = 2 := rfl
  have z60 : (60 : Int32).toInt = 60 := rfl
  obtain ⟨a, ha, rfl⟩ := o_ex (a := a1) (n := 61) (by omega) (by omega)
  obtain ⟨b, hb, rfl⟩ := o_ex (a := a2) (n := 61) (by omega) (by omega)
  rw [i_of (by omega)] at w1 x1
  have ha2 : 2 ≤ a := by omega
  have hb2 : 2 ≤ b := by omega
  have hab : a * b ≤ 3600 := Nat.mul_le_mul (show a ≤ 60 by omega) (show b ≤ 60 by omega)
  have gl : Nat.gcd a b ≤ a := Nat.gcd_le_left b (by omega)
  have gp : 0 < Nat.gcd a b := Nat.gcd_pos_of_pos_left b (by omega)
  rw [x_gcd 70 (by omega) (by omega) (by omega), gs_bd]
  rcases m_div (N := N) (M := M1) (v3 := a3) ha hb (a - 1) 2 (n := N) (by omega) (by omega) (by omega) with ⟨q, k, k1, k2, k3⟩ | ⟨q, qq⟩
  · rw [show m_prices_L42 N M1 (Int32.ofNat a) (Int32.ofNat b) a3 N 2 = _ from q]
    have : ¬ Int32.ofNat (Nat.gcd a b) = 1 := by
      rw [show (1 : Int32) = Int32.ofNat 1 from rfl, o_eq (by omega) (by omega)]
      intro e
      have := Nat.le_of_dvd gp (Nat.dvd_gcd k2 k3)
      omega
    rw [if_neg this]
    exact ⟨M1, -1, rfl, rfl, h0⟩
  have g1 : Nat.gcd a b = 1 := by
    by_cases e : Nat.gcd a b = 1
    · exact e
    · exact absurd ⟨Nat.gcd_dvd_left a b, Nat.gcd_dvd_right a b⟩ (qq (Nat.gcd a b) (by omega) gl)
  obtain ⟨u, hu⟩ := pr_inv ha hb hb2 g1
  have hsum : a + b ≤ a * b := by
    have : 2 * b ≤ a * b := Nat.mul_le_mul_right b ha2
    have : a * 2 ≤ a * b := Nat.mul_le_mul_left a hb2
    omega
  obtain ⟨F, hF⟩ : ∃ F, F + a + b = a * b := ⟨a * b - a - b, by omega⟩
  have cn := pr_cnt hb2 hu hF
  have ls := lRp_ok hb2 hu hF (a + b - 1)
  obtain ⟨M', r1, r2⟩ := m_tab (N := N) (V0 := M1) (v3 := a3) ha hb ha2 hb2 (a * b) 0 (n := N) (V := M1) (by omega) (by omega) (fun j hj => by omega) (fun _ _ _ => rfl)
  rw [show F + 1 + (a + b - 1) = a * b by omega] at ls
  rw [ls] at r1
  rw [show m_prices_L42 N M1 (Int32.ofNat a) (Int32.ofNat b) a3 N 2 = _ from q, gs_lpr, show m_prices_L79 N (Int32.ofNat a) (Int32.ofNat b) a3 N M1 0 (-1) 0 = _ from r1, gs_b3, g1, if_pos (show Int32.ofNat 1 = 1 from rfl)]
  have J2 : JJ Ds Df V c M' := h0.sx (A := (11, 10, 0)) (Or.inl rfl) (Or.inr (Or.inr (Or.inr (Or.inl rfl)))) (fun _ _ _ => rfl) r2
  by_cases e0 : a3 = 0
  · rw [if_pos e0, if_pos e0, o_mul, o_sub (by omega) (by omega), o_sub (by omega) (by omega)]
    refine ⟨M', Int32.ofNat F, ?_, rfl, J2⟩
    congr 2
    omega
  · rw [if_neg e0, if_neg e0, show (1 : Int32) = Int32.ofNat 1 from rfl, o_sub (show 1 ≤ a by omega) (by omega), o_sub (show 1 ≤ b by omega) (by omega), o_mul]
    have e : (a - 1) * (b - 1) = F + 1 := by
      obtain ⟨a', rfl⟩ : ∃ a', a = a' + 1 := ⟨a - 1, by omega⟩
      obtain ⟨b', rfl⟩ : ∃ b', b = b' + 1 := ⟨b - 1, by omega⟩
      rw [Nat.add_mul, Nat.mul_add] at hF
      show a' * b' = F + 1
      omega
    rw [e, show (2 : Int32) = Int32.ofNat 2 from rfl, o_div (by omega) (by omega)]
    refine ⟨M', _, rfl, ?_, J2⟩
    congr 3
    omega
