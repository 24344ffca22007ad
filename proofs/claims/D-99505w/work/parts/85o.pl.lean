/-! balance, whole -/
set_option maxRecDepth 100000
section BAL2
variable {N m : Nat} {V M : gz_V} {w : Nat → Nat}
theorem m_pow3 (t : wtT V M m w) {v1 y : Int32} : ∀ (d i : Nat) {n : Nat}, i + d = m → d < n → m_canWeigh_L5 N M v1 y n (Int32.ofNat (3 ^ i)) (Int32.ofNat i) = some (Int32.ofNat (3 ^ m)) := by
  obtain ⟨t1, t2, t3, t4⟩ := id t
  intro d
  induction d with
  | zero =>
    intro i n hi hn
    obtain ⟨n, rfl⟩ : ∃ z, n = z + 1 := ⟨n - 1, by omega⟩
    have : i = m := by omega
    subst this
    rw [m_canWeigh_L5, t3, if_pos (i_le.mpr (Int.le_refl _))]
  | succ d ih =>
    intro i n hi hn
    obtain ⟨n, rfl⟩ : ∃ z, n = z + 1 := ⟨n - 1, by omega⟩
    have e1 : Int32.ofNat i + 1 = Int32.ofNat (i + 1) := o_addr 1 i
    rw [m_canWeigh_L5, t3, if_neg (by rw [o_le (by omega) (by omega)]; omega), gs_let, e1, show Int32.ofNat (3 ^ i) * 3 = Int32.ofNat (3 ^ (i + 1)) from o_mul _ 3]
    exact ih (i + 1) (by omega) (by omega)
theorem m_exw (hN : 500 ≤ N) (t : wtT V M m w) {T y : Int32} : ∀ (d v : Nat) {n : Nat}, v + d = 3 ^ m → d < n → (m_canWeigh_L27 N M T y (Int32.ofNat (3 ^ m)) n (Int32.ofNat v) = some (.inl 1) ∧ ∃ u, u < 3 ^ m ∧ wsm w (decide (y ≠ 0)) m 0 u 0 = T.toInt) ∨ (m_canWeigh_L27 N M T y (Int32.ofNat (3 ^ m)) n (Int32.ofNat v) = some (.inr ()) ∧ ∀ u, v ≤ u → u < 3 ^ m → wsm w (decide (y ≠ 0)) m 0 u 0 ≠ T.toInt) := by
  have t1 := t.1
  have hp : 3 ^ m ≤ 243 := Nat.pow_le_pow_right (n := 3) (by decide) t1
  intro d
  induction d with
  | zero =>
    intro v n hi hn
    obtain ⟨n, rfl⟩ : ∃ z, n = z + 1 := ⟨n - 1, by omega⟩
    have : v = 3 ^ m := by omega
    subst this
    exact Or.inr ⟨by rw [m_canWeigh_L27, if_pos (i_le.mpr (Int.le_refl _))], fun u h1 h2 => by omega⟩
  | succ d ih =>
    intro v n hi hn
    obtain ⟨n, rfl⟩ : ∃ z, n = z + 1 := ⟨n - 1, by omega⟩
    have e1 : Int32.ofNat v + 1 = Int32.ofNat (v + 1) := o_addr 1 v
    obtain ⟨r, r1, r2⟩ := m_wcode (N := N) t (v1 := T) (y := y) (v3 := Int32.ofNat (3 ^ m)) (v4 := Int32.ofNat v) m 0 (n := N) (v := v) (A := 0) (by omega) (by omega) (by omega) (by show -200000000 ≤ (0 : Int) - 200 * m; omega) (by show (0 : Int) + 200 * m ≤ 200000000; omega)
    rw [m_canWeigh_L27, if_neg (by rw [o_le (by omega) (by omega)]; omega), show m_canWeigh_L43 N M T y (Int32.ofNat (3 ^ m)) (Int32.ofNat v) N 0 (Int32.ofNat v) 0 = _ from r1, gs_bd, e1]
    by_cases q : r = T
    · rw [if_pos q]
      exact Or.inl ⟨rfl, v, by omega, by rw [← q, r2]; rfl⟩
    · rw [if_neg q]
      rcases ih (v + 1) (n := n) (by omega) (by omega) with z | ⟨z1, z2⟩
      · exact Or.inl z
      · refine Or.inr ⟨z1, fun u h1 h2 => ?_⟩
        by_cases e : u = v
        · subst e
          intro h
          exact q (i_eq.mpr (by rw [r2]; exact h))
        · exact z2 u (by omega) h2
theorem z_weigh (hN : 500 ≤ N) (t : wtT V M m w) {T y : Int32} (h1 : 0 ≤ T.toInt) (h2 : T.toInt ≤ 5000) : ∃ r, x0_isWeighed 7 V 0 T y = some r ∧ m_canWeigh N M T y = some r ∧ (r = if ww w (decide (y ≠ 0)) m 0 T.toInt = true then 1 else 0) := by
  have t1 := t.1
  have hp : 3 ^ m ≤ 243 := Nat.pow_le_pow_right (n := 3) (by decide) t1
  refine ⟨_, ?_, ?_, rfl⟩
  · have := x_weigh t (y := y) m 0 (6 - m) (A := T) (by omega) (by omega) (by omega)
    rw [show m + 1 + (6 - m) = 7 by omega] at this
    exact this
  · have key := wsm_iff (w := w) (fl := decide (y ≠ 0)) m 0 (acc := 0) (T := T.toInt) (by omega)
    rw [show T.toInt - 0 = T.toInt by omega] at key
    unfold m_canWeigh
    rw [show m_canWeigh_L5 N M T y N 1 0 = _ from m_pow3 (N := N) t (v1 := T) (y := y) m 0 (n := N) (by omega) (by omega), gs_bd]
    rcases m_exw hN t (T := T) (y := y) (3 ^ m) 0 (n := N) (by omega) (by omega) with ⟨q, u, u1, u2⟩ | ⟨q, q2⟩
    · rw [show m_canWeigh_L27 N M T y (Int32.ofNat (3 ^ m)) N 0 = _ from q, gs_lpl, if_pos (key.mp ⟨u, u1, u2⟩)]
    · rw [show m_canWeigh_L27 N M T y (Int32.ofNat (3 ^ m)) N 0 = _ from q, gs_lpr, if_neg]
      intro z
      obtain ⟨u, u1, u2⟩ := key.mpr z
      exact q2 u (Nat.zero_le _) u1 u2
theorem ww_le (t : wtT V M m w) {fl : Bool} : ∀ (k i : Nat) {a : Int}, i + k = m → ww w fl k i a = true → a ≤ 200 * k := by
  intro k
  induction k with
  | zero => intro i a _ h; have := of_decide_eq_true h; omega
  | succ k ih =>
    intro i a hi h
    obtain ⟨q1, q2, -⟩ := t.2.2.2 i (by omega)
    have ew : ww w fl (k + 1) i a = (ww w fl k (i + 1) a || (ww w fl k (i + 1) (a - w i) || (fl && ww w fl k (i + 1) (a + w i)))) := rfl
    rw [ew, Bool.or_eq_true, Bool.or_eq_true, Bool.and_eq_true] at h
    rcases h with h | h | ⟨-, h⟩
    · have := ih (i + 1) (by omega) h; omega
    · have := ih (i + 1) (by omega) h; omega
    · have := ih (i + 1) (by omega) h; omega
theorem z_most (hN : 500 ≤ N) (t : wtT V M m w) : ∀ (d T : Nat) {n n2 : Nat}, T + d = 1100 → d < n → d < n2 → ∃ r, x0_balance_L58 N V n (Int32.ofNat T) = some r ∧ m_balance_L12 N M n2 (Int32.ofNat T) = some r := by
  have t1 := t.1
  intro d
  induction d with
  | zero =>
    intro T n n2 hi hn hn2
    obtain ⟨n, rfl⟩ : ∃ z, n = z + 1 := ⟨n - 1, by omega⟩
    obtain ⟨n2, rfl⟩ : ∃ z, n2 = z + 1 := ⟨n2 - 1, by omega⟩
    have e1 : Int32.ofNat T + 1 = Int32.ofNat (T + 1) := o_addr 1 T
    obtain ⟨r, r1, r2, r3⟩ := z_weigh hN t (T := Int32.ofNat (T + 1)) (y := 1) (by rw [i_of (by omega)]; omega) (by rw [i_of (by omega)]; omega)
    have : r = 0 := by
      rw [r3, if_neg]
      intro z
      have := ww_le t m 0 (by omega) z
      rw [i_of (by omega)] at this
      omega
    subst this
    rw [x0_balance_L58, m_balance_L12, e1, r1, r2, gs_bd, gs_bd, if_pos rfl, if_pos rfl]
    exact ⟨_, rfl, rfl⟩
  | succ d ih =>
    intro T n n2 hi hn hn2
    obtain ⟨n, rfl⟩ : ∃ z, n = z + 1 := ⟨n - 1, by omega⟩
    obtain ⟨n2, rfl⟩ : ∃ z, n2 = z + 1 := ⟨n2 - 1, by omega⟩
    have e1 : Int32.ofNat T + 1 = Int32.ofNat (T + 1) := o_addr 1 T
    obtain ⟨r, r1, r2, r3⟩ := z_weigh hN t (T := Int32.ofNat (T + 1)) (y := 1) (by rw [i_of (by omega)]; omega) (by rw [i_of (by omega)]; omega)
    rw [x0_balance_L58, m_balance_L12, e1, r1, r2, gs_bd, gs_bd]
    by_cases q : r = 0
    · rw [if_pos q, if_pos q]
      exact ⟨_, rfl, rfl⟩
    · rw [if_neg q, if_neg q, gs_let]
      exact ih (T + 1) (by omega) (by omega) (by omega)
end BAL2
theorem J_balance {N : Nat} (hN : 2000 ≤ N) : lo_balance JJ N := by
  intro Ds Df V c M a1 a2 h
  have h0 := h.m0
  obtain ⟨P, H, b, ⟨-, -, -, -, -, -, -, -, t2, -⟩, -⟩ := h.m0
  unfold x0_balance m_balance
  rw [gs_let (x := gz_up M (1, 0, 0) 0 0), isIn_eq, isIn_eq]
  generalize gz_up M (1, 0, 0) 0 0 = M1 at *
  obtain ⟨m, w, t⟩ := wt_of t2
  have z0 : (0 : Int32).toInt = 0 := rfl
  have z1 : (1 : Int32).toInt = 1 := rfl
  have z2 : (2 : Int32).toInt = 2 := rfl
  have z3 : (1000 : Int32).toInt = 1000 := rfl
  by_cases e2 : a2 = 2
  · subst e2
    obtain ⟨r, r1, r2⟩ := z_most (N := N) (by omega) t 1100 0 (n := N) (n2 := N) (by omega) (by omega) (by omega)
    rw [show m_isIn 2 0 2 = 1 from by decide, if_neg n10, if_pos (show (2 : Int32) ≤ 2 by decide), if_pos (show (2 : Int32) ≤ 2 by decide), if_pos rfl, show x0_balance_L58 N V N 0 = _ from r1, show m_balance_L12 N M1 N 0 = _ from r2]
    exact ⟨M1, r, rfl, rfl, h0⟩
  rw [if_neg e2]
  have ne2 : a2.toInt ≠ 2 := fun z => e2 (i_eq.mpr z)
  rcases isIn_c (a := a2) (b := 0) (c := 2) with x | ⟨x, x1, x2⟩
  · rw [x, if_pos rfl]
    have y : m_isIn a2 0 1 = 0 := by
      rcases isIn_c (a := a2) (b := 0) (c := 1) with y | ⟨y, y1, y2⟩
      · exact y
      · exfalso
        have : m_isIn a2 0 2 = 1 := by
          unfold m_isIn
          rw [if_neg (by rw [i_lt]; omega), if_neg (by rw [i_lt]; omega)]
        rw [this] at x
        exact absurd x (by decide)
    rw [y, if_pos (show (0 : Int32) = 0 from rfl)]
    refine ⟨M1, -1, rfl, ?_, h0⟩
    split <;> rfl
  rw [x, if_neg n10, if_neg (by rw [i_le]; omega)]
  have y : m_isIn a2 0 1 = 1 := by
    rcases isIn_c (a := a2) (b := 0) (c := 1) with y | ⟨y, y1, y2⟩
    · exfalso
      have : m_isIn a2 0 1 = 1 := by
        unfold m_isIn
        rw [if_neg (by rw [i_lt]; omega), if_neg (by rw [i_lt]; omega)]
      rw [this] at y
      exact absurd y (by decide)
    · exact y
  rcases isIn_c (a := a1) (b := 0) (c := 1000) with v | ⟨v, v1, v2⟩
  · rw [v, if_pos rfl, if_pos rfl]
    exact ⟨M1, -1, rfl, rfl, h0⟩
  rw [v, if_neg n10, if_neg n10, y, if_neg n10, if_neg (by rw [i_le]; omega), gs_let, gs_let]
  obtain ⟨r, r1, r2, -⟩ := z_weigh (N := N) (by omega) t (T := a1) (y := if a2 = 0 then 1 else 0) (by omega) (by omega)
  rw [r1, r2, gs_bd, gs_bd]
  by_cases q : r = 0
  · rw [if_pos q, if_pos q]
    exact ⟨M1, 0, rfl, rfl, h0⟩
  · rw [if_neg q, if_neg q]
    exact ⟨M1, 1, rfl, rfl, h0⟩
