/-! division; ring -/
set_option maxRecDepth 100000
theorem o_div {p c : Nat} (hp : p < 2147483648) (hc : c < 2147483648) : Int32.ofNat p / Int32.ofNat c = Int32.ofNat (p / c) := by
  have h2 : p / c ≤ p := Nat.div_le_self _ _
  have e : (p : Int).tdiv (c : Int) = ((p / c : Nat) : Int) := rfl
  rw [i_eq, Int32.toInt_div, i_of hp, i_of hc, i_of (by omega), e]
  generalize p / c = w at *
  exact i_bmod (by omega) (by omega)
theorem o_mul (p c : Nat) : Int32.ofNat p * Int32.ofNat c = Int32.ofNat (p * c) := (Int32.ofNat_mul _ _).symm
theorem o_sub {p c : Nat} (h : c ≤ p) (hp : p < 2147483648) : Int32.ofNat p - Int32.ofNat c = Int32.ofNat (p - c) := by
  rw [i_eq, i_sub (by rw [i_of hp, i_of (by omega)]; omega) (by rw [i_of hp, i_of (by omega)]; omega), i_of hp, i_of (by omega), i_of (by omega)]
  omega
theorem o_mod {p c : Nat} (hp : p < 2147483648) (hc : c < 2147483648) : Int32.ofNat p - Int32.ofNat p / Int32.ofNat c * Int32.ofNat c = Int32.ofNat (p % c) := by
  have h2 := Nat.div_mul_le_self p c
  rw [o_div hp hc, o_mul, o_sub h2 hp]
  congr 1
  have := Nat.div_add_mod p c
  rw [Nat.mul_comm] at this
  omega
section RING
variable {N : Nat}
theorem m_added_ok {r x : Nat} (h : r + x < 1000000007) : m_added (Int32.ofNat r) (Int32.ofNat x) = Int32.ofNat (r + x) := by
  unfold m_added
  rw [show (1000000007 : Int32) - Int32.ofNat x = Int32.ofNat (1000000007 - x) from o_sub (p := 1000000007) (c := x) (by omega) (by omega), if_pos (by rw [o_lt (by omega) (by omega)]; omega), o_add]
theorem m_timesL : ∀ (k : Nat) {y x r n : Nat}, y < 2 ^ k → k < n → y < 1000000000 → r + 2 * (x * y) < 1000000007 → m_times_L8 N n (Int32.ofNat r) (Int32.ofNat x) (Int32.ofNat y) = some (Int32.ofNat (r + x * y)) := by
  intro k
  induction k with
  | zero =>
    intro y x r n hy hn hb hs
    obtain ⟨n, rfl⟩ : ∃ z, n = z + 1 := ⟨n - 1, by omega⟩
    have : y = 0 := by simp at hy; omega
    subst this
    rw [m_times_L8, if_pos (by decide)]
    rfl
  | succ k ih =>
    intro y x r n hy hn hb hs
    obtain ⟨n, rfl⟩ : ∃ z, n = z + 1 := ⟨n - 1, by omega⟩
    by_cases h0 : y = 0
    · subst h0
      rw [m_times_L8, if_pos (by decide)]
      rfl
    · have hxy : x * y = x * (y % 2) + 2 * (x * (y / 2)) := by
        have : y = y % 2 + 2 * (y / 2) := by omega
        conv => lhs; rw [this]
        rw [Nat.mul_add, Nat.mul_left_comm]
      have hle : x ≤ x * y := Nat.le_mul_of_pos_right x (by omega)
      have e2 : Int32.ofNat y / 2 = Int32.ofNat (y / 2) := o_div (p := y) (c := 2) (by omega) (by omega)
      have e3 : Int32.ofNat y - Int32.ofNat y / 2 * 2 = Int32.ofNat (y % 2) := o_mod (p := y) (c := 2) (by omega) (by omega)
      have ny : ¬ Int32.ofNat y ≤ 0 := by rw [show (0 : Int32) = Int32.ofNat 0 from rfl, o_le (by omega) (by omega)]; omega
      have key : (x + x) * (y / 2) = 2 * (x * (y / 2)) := by rw [Nat.add_mul]; omega
      rcases Nat.mod_two_eq_zero_or_one y with h | h
      · rw [h] at hxy e3
        rw [Nat.mul_zero] at hxy
        have r1 := ih (y := y / 2) (x := x + x) (r := r) (n := n) (by omega) (by omega) (by omega) (by rw [key]; omega)
        have ee : r + (x + x) * (y / 2) = r + x * y := by rw [key]; omega
        rw [ee] at r1
        rw [m_times_L8, if_neg ny, e3, if_neg (show ¬ Int32.ofNat 0 = 1 by decide), gs_let, e2, m_added_ok (by omega), gs_let, gs_let]
        exact r1
      · rw [h] at hxy e3
        rw [Nat.mul_one] at hxy
        have r1 := ih (y := y / 2) (x := x + x) (r := r + x) (n := n) (by omega) (by omega) (by omega) (by rw [key]; omega)
        have ee : r + x + (x + x) * (y / 2) = r + x * y := by rw [key]; omega
        rw [ee] at r1
        rw [m_times_L8, if_neg ny, e3, if_pos (show Int32.ofNat 1 = 1 from rfl), gs_let, gs_let, e2, m_added_ok (r := r) (by omega), m_added_ok (by omega), gs_let, gs_let]
        exact r1
theorem m_times_ok (hN : 500 ≤ N) {x y : Nat} (hy : y < 1000000000) (h : 2 * (x * y) < 1000000007) : m_times N (Int32.ofNat x) (Int32.ofNat y) = some (Int32.ofNat (x * y)) := by
  unfold m_times
  have := m_timesL (N := N) 30 (y := y) (x := x) (r := 0) (n := N) (by omega) (by omega) hy (by omega)
  rw [show m_times_L8 N N 0 (Int32.ofNat x) (Int32.ofNat y) = _ from this, gs_bd, Nat.zero_add]
def cat (i : Nat) : Nat := [1, 1, 2, 5, 14, 42, 132, 429, 1430, 4862, 16796, 58786, 208012].getD i 0
def cpa (k : Nat) : Nat → Nat
  | 0 => if k = 0 then 1 else 0
  | t + 1 => cpa k t + cat t * cat (k - 1 - t)
theorem cat_ok : ∀ k, k < 13 → cpa k k = cat k := by decide
theorem cpa_ok : ∀ k, k < 13 → ∀ t, t < k → cpa k t + 2 * (cat t * cat (k - 1 - t)) < 1000000007 ∧ cat (k - 1 - t) < 1000000000 := by decide
theorem cx_ok : ∀ k, k < 13 → ∀ t, t < k → (((Int32.ofNat (cpa k t)).toInt64 + ((Int32.ofNat (cat t)).toInt64 * (Int32.ofNat (cat (k - 1 - t))).toInt64)) - ((Int32.ofNat (cpa k t)).toInt64 + ((Int32.ofNat (cat t)).toInt64 * (Int32.ofNat (cat (k - 1 - t))).toInt64)) / (1000000007 : Int64) * (1000000007 : Int64)).toInt32 = Int32.ofNat (cpa k (t + 1)) := by decide +kernel
/-- the table so far -/
def rgT (A : gz_N) (k t : Nat) (V0 V : gz_V) : Prop := (∀ i, i < k → V A i = Int32.ofNat (cat i)) ∧ V A k = Int32.ofNat (cpa k t) ∧ ∀ n i, n ≠ A → V n i = V0 n i
theorem rgT.st {A : gz_N} {k t : Nat} {V0 V : gz_V} (h : rgT A k t V0 V) : rgT A k (t + 1) V0 (gz_up V A k (Int32.ofNat (cpa k (t + 1)))) := ⟨fun i hi => by rw [up_at, if_neg (by omega)]; exact h.1 i hi, by rw [up_at, if_pos ⟨rfl, rfl⟩], fun n i hn => by rw [up_ne hn]; exact h.2.2 n i hn⟩
theorem x_ringL {v : Int32} {k : Nat} {V0 : gz_V} (hk : k < 13) : ∀ (d t : Nat) {n : Nat} {V : gz_V}, t + d = k → d < n → rgT (11, 10, 0) k t V0 V → ∃ V', x0_ring_L38 N v (Int32.ofNat k) n V (Int32.ofNat t) = some V' ∧ rgT (11, 10, 0) k k V0 V' := by
  intro d
  induction d with
  | zero =>
    intro t n V ht hn h
    obtain ⟨n, rfl⟩ : ∃ z, n = z + 1 := ⟨n - 1, by omega⟩
    have : t = k := by omega
    subst this
    exact ⟨V, by rw [x0_ring_L38, if_pos (i_le.mpr (Int.le_refl _))], h⟩
  | succ d ih =>
    intro t n V ht hn h
    obtain ⟨n, rfl⟩ : ∃ z, n = z + 1 := ⟨n - 1, by omega⟩
    have e1 : Int32.ofNat t + 1 = Int32.ofNat (t + 1) := o_addr 1 t
    have e2 : Int32.ofNat k - 1 - Int32.ofNat t = Int32.ofNat (k - 1 - t) := by rw [show (1 : Int32) = Int32.ofNat 1 from rfl, o_sub (by omega) (by omega), o_sub (by omega) (by omega)]
    obtain ⟨V', a, b⟩ := ih (t + 1) (n := n) (by omega) (by omega) h.st
    refine ⟨V', ?_, b⟩
    rw [x0_ring_L38, if_neg (by rw [o_le (by omega) (by omega)]; omega), e2, gs_gd (o_inb (by omega) (by omega)), gs_gd (o_inb (by omega) (by omega)), gs_gd (o_inb (by omega) (by omega)), gs_gd (o_inb (by omega) (by omega)), gs_let, o_nat (show k < 2147483648 by omega), o_nat (show t < 2147483648 by omega), o_nat (show k - 1 - t < 2147483648 by omega), h.2.1, h.1 t (by omega), h.1 (k - 1 - t) (by omega), cx_ok k hk t (by omega), e1]
    exact a
theorem m_ringL (hN : 500 ≤ N) {v : Int32} {k : Nat} {V0 : gz_V} (hk : k < 13) : ∀ (d t : Nat) {n : Nat} {V : gz_V}, t + d = k → d < n → rgT (2, 54, 0) k t V0 V → ∃ V', m_ring_L53 N v (Int32.ofNat k) n V (Int32.ofNat t) = some V' ∧ rgT (2, 54, 0) k k V0 V' := by
  intro d
  induction d with
  | zero =>
    intro t n V ht hn h
    obtain ⟨n, rfl⟩ : ∃ z, n = z + 1 := ⟨n - 1, by omega⟩
    have : t = k := by omega
    subst this
    exact ⟨V, by rw [m_ring_L53, if_pos (i_le.mpr (Int.le_refl _))], h⟩
  | succ d ih =>
    intro t n V ht hn h
    obtain ⟨n, rfl⟩ : ∃ z, n = z + 1 := ⟨n - 1, by omega⟩
    have e1 : Int32.ofNat t + 1 = Int32.ofNat (t + 1) := o_addr 1 t
    have e2 : Int32.ofNat k - 1 - Int32.ofNat t = Int32.ofNat (k - 1 - t) := by rw [show (1 : Int32) = Int32.ofNat 1 from rfl, o_sub (by omega) (by omega), o_sub (by omega) (by omega)]
    obtain ⟨V', a, b⟩ := ih (t + 1) (n := n) (by omega) (by omega) h.st
    obtain ⟨c1, c2⟩ := cpa_ok k hk t (by omega)
    refine ⟨V', ?_, b⟩
    rw [m_ring_L53, if_neg (by rw [o_le (by omega) (by omega)]; omega), e2, gs_gd (o_inb (by omega) (by omega)), gs_gd (o_inb (by omega) (by omega)), gs_gd (o_inb (by omega) (by omega)), o_nat (show k < 2147483648 by omega), o_nat (show t < 2147483648 by omega), o_nat (show k - 1 - t < 2147483648 by omega), h.1 t (by omega), h.1 (k - 1 - t) (by omega), m_times_ok hN c2 (by omega), gs_bd, gs_gd (o_inb (by omega) (by omega)), gs_let, h.2.1, m_added_ok (by omega), e1]
    exact a
/-- the whole table -/
def rgW (A : gz_N) (k : Nat) (V0 V : gz_V) : Prop := (∀ i, i < k → V A i = Int32.ofNat (cat i)) ∧ ∀ n i, n ≠ A → V n i = V0 n i
theorem rgW.st {A : gz_N} {k : Nat} {V0 V : gz_V} (h : rgW A k V0 V) (hk : k < 2147483648) : rgT A k 0 V0 (gz_up V A k (if Int32.ofNat k = 0 then 1 else 0)) := by
  refine ⟨fun i hi => by rw [up_at, if_neg (by omega)]; exact h.1 i hi, ?_, fun n i hn => by rw [up_ne hn]; exact h.2 n i hn⟩
  rw [up_at, if_pos ⟨rfl, rfl⟩]
  by_cases h0 : k = 0
  · subst h0; rfl
  · rw [if_neg (by rw [bt_z hk]; exact h0)]
    show (0 : Int32) = Int32.ofNat (if k = 0 then 1 else 0)
    rw [if_neg h0]
    rfl
theorem rgT.nx {A : gz_N} {k : Nat} {V0 V : gz_V} (hk : k < 13) (h : rgT A k k V0 V) : rgW A (k + 1) V0 V := by
  refine ⟨fun i hi => ?_, h.2.2⟩
  by_cases q : i = k
  · subst q
    rw [h.2.1, cat_ok _ hk]
  · exact h.1 i (by omega)
theorem x_ringW (hN : 500 ≤ N) {v V0} {w : Nat} (hw : w < 13) (hv : v / 2 = Int32.ofNat w) : ∀ (d k : Nat) {n : Nat} {V : gz_V}, k + d = w + 1 → d < n → rgW (11, 10, 0) k V0 V → ∃ V', x0_ring_L14 N v n V (Int32.ofNat k) = some V' ∧ rgW (11, 10, 0) (w + 1) V0 V' := by
  intro d
  induction d with
  | zero =>
    intro k n V ht hn h
    obtain ⟨n, rfl⟩ : ∃ z, n = z + 1 := ⟨n - 1, by omega⟩
    have : k = w + 1 := by omega
    subst this
    exact ⟨V, by rw [x0_ring_L14, hv, if_pos (by rw [o_lt (by omega) (by omega)]; omega)], h⟩
  | succ d ih =>
    intro k n V ht hn h
    obtain ⟨n, rfl⟩ : ∃ z, n = z + 1 := ⟨n - 1, by omega⟩
    have e1 : Int32.ofNat k + 1 = Int32.ofNat (k + 1) := o_addr 1 k
    obtain ⟨V1, a, b⟩ := x_ringL (N := N) (v := v) (V0 := V0) (show k < 13 by omega) k 0 (n := N) (by omega) (by omega) (h.st (show k < 2147483648 by omega))
    obtain ⟨V', a', b'⟩ := ih (k + 1) (n := n) (by omega) (by omega) (rgT.nx (show k < 13 by omega) b)
    refine ⟨V', ?_, b'⟩
    rw [x0_ring_L14, hv, if_neg (by rw [o_lt (by omega) (by omega)]; omega), gs_let, gs_gd (o_inb (by omega) (by omega)), gs_let, o_nat (by omega), show x0_ring_L38 N v (Int32.ofNat k) N _ 0 = _ from a, gs_bd, e1]
    exact a'
theorem m_ringW (hN : 500 ≤ N) {v V0} {w : Nat} (hw : w < 13) (hv : v / 2 = Int32.ofNat w) : ∀ (d k : Nat) {n : Nat} {V : gz_V}, k + d = w + 1 → d < n → rgW (2, 54, 0) k V0 V → ∃ V', m_ring_L29 N v n V (Int32.ofNat k) = some V' ∧ rgW (2, 54, 0) (w + 1) V0 V' := by
  intro d
  induction d with
  | zero =>
    intro k n V ht hn h
    obtain ⟨n, rfl⟩ : ∃ z, n = z + 1 := ⟨n - 1, by omega⟩
    have : k = w + 1 := by omega
    subst this
    exact ⟨V, by rw [m_ring_L29, hv, if_pos (by rw [o_lt (by omega) (by omega)]; omega)], h⟩
  | succ d ih =>
    intro k n V ht hn h
    obtain ⟨n, rfl⟩ : ∃ z, n = z + 1 := ⟨n - 1, by omega⟩
    have e1 : Int32.ofNat k + 1 = Int32.ofNat (k + 1) := o_addr 1 k
    obtain ⟨V1, a, b⟩ := m_ringL (N := N) hN (v := v) (V0 := V0) (show k < 13 by omega) k 0 (n := N) (by omega) (by omega) (h.st (show k < 2147483648 by omega))
    obtain ⟨V', a', b'⟩ := ih (k + 1) (n := n) (by omega) (by omega) (rgT.nx (show k < 13 by omega) b)
    refine ⟨V', ?_, b'⟩
    rw [m_ring_L29, hv, if_neg (by rw [o_lt (by omega) (by omega)]; omega), gs_let, gs_gd (o_inb (by omega) (by omega)), gs_let, o_nat (by omega), show m_ring_L53 N v (Int32.ofNat k) N _ 0 = _ from a, gs_bd, e1]
    exact a'
end RING
/-- scratch that J does not read -/
theorem JJ.sx {Ds : gz_S} {Df : gz_R} {V M V2 M2 : gz_V} {c : Nat} {A B : gz_N} (h : JJ Ds Df V c M) (hA : A = (11, 10, 0) ∨ A = (11, 11, 0)) (hB : B = (2, 53, 0) ∨ B = (2, 54, 0) ∨ B = (2, 55, 0) ∨ B = (2, 56, 0) ∨ B = (2, 61, 0) ∨ B = (2, 64, 0)) (hx : ∀ n i, n ≠ A → V2 n i = V n i) (hm : ∀ n i, n ≠ B → M2 n i = M n i) : JJ Ds Df V2 c M2 := by
  refine h.eq (fun n i hn => hx n i ?_) (fun n i hn => hm n i ?_)
  · rintro rfl
    rcases hA with rfl | rfl <;> revert hn <;> simp [jx]
  · rintro rfl
    rcases hB with rfl | rfl | rfl | rfl | rfl | rfl <;> revert hn <;> simp [jm, relM]
theorem J_ring {N : Nat} (hN : 1000 ≤ N) : lo_ring JJ N := by
  intro Ds Df V c M a h
  have h0 := h.m0
  unfold x0_ring m_ring
  simp only [gs_let]
  rw [isIn_eq]
  generalize gz_up M (1, 0, 0) 0 0 = M1 at *
  rcases isIn_c (a := a) (b := 0) (c := 24) with w | ⟨w, w1, w2⟩
  · rw [if_pos w, if_pos w]
    exact ⟨V, M1, -1, rfl, rfl, h0⟩
  rw [w, if_neg n10, if_neg n10]
  have z0 : (0 : Int32).toInt = 0 := rfl
  have z8 : (24 : Int32).toInt = 24 := rfl
  obtain ⟨s, hs, rfl⟩ := o_ex (a := a) (n := 25) (by omega) (by omega)
  have e2 : Int32.ofNat s / 2 = Int32.ofNat (s / 2) := o_div (p := s) (c := 2) (by omega) (by omega)
  obtain ⟨V', a, b⟩ := x_ringW (N := N) (V0 := V) (by omega) (show s / 2 < 13 by omega) e2 (s / 2 + 1) 0 (n := N) (V := V) (by omega) (by omega) ⟨fun i hi => by omega, fun _ _ _ => rfl⟩
  obtain ⟨M', a', b'⟩ := m_ringW (N := N) (V0 := M1) (by omega) (show s / 2 < 13 by omega) e2 (s / 2 + 1) 0 (n := N) (V := M1) (by omega) (by omega) ⟨fun i hi => by omega, fun _ _ _ => rfl⟩
  rw [show x0_ring_L14 N (Int32.ofNat s) N V 0 = _ from a, show m_ring_L29 N (Int32.ofNat s) N M1 0 = _ from a', gs_bd, gs_bd]
  by_cases h1 : Int32.ofNat s - Int32.ofNat s / 2 * 2 = 1
  · rw [if_pos h1, if_pos h1]
    exact ⟨V', M1, 0, rfl, rfl, h0.sx (B := (2, 54, 0)) (Or.inl rfl) (Or.inr (Or.inl rfl)) b.2 (fun _ _ _ => rfl)⟩
  · rw [if_neg h1, if_neg h1, e2, gs_gd (o_inb (by omega) (by omega)), gs_gd (o_inb (by omega) (by omega)), o_nat (by omega), b.1 _ (by omega), b'.1 _ (by omega)]
    exact ⟨V', M', _, rfl, rfl, h0.sx (Or.inl rfl) (Or.inr (Or.inl rfl)) b.2 b'.2⟩
