/-! game -/
set_option maxRecDepth 100000
section GAME
variable {N : Nat}
def nmb (i : Nat) : Nat := [0, 1, 2, 3, 1, 4, 3, 2, 1, 4, 2, 6, 4, 1, 2, 7, 1, 4, 3, 2, 1].getD i 0
/-- the marks of one taking -/
def nmI (k v : Nat) : Nat → Nat → Nat → Nat
  | 0, _, S => S
  | d + 1, t, S => nmI k v d (t + 1) (S ||| 2 ^ (nmb t ^^^ nmb (k - v - t)))
def nmM (k : Nat) : Nat := nmI k 2 (k + 1 - 2) 0 (nmI k 1 (k + 1 - 1) 0 0)
theorem nm_x : ∀ i, i < 21 → ∀ j, j < 21 → nmb i ^^^ nmb j < 8 := by decide
theorem nm_l : ∀ i, i < 21 → nmb i < 8 := by decide
theorem nm_ntz : ∀ k, k < 21 → j13_numberOfTrailingZeros (Int32.ofNat (nmM k) ^^^ (-1)) = Int32.ofNat (nmb k) := by decide +kernel
theorem nm_first : ∀ k, k < 21 → nmM k < 256 ∧ (nmM k).testBit (nmb k) = false ∧ ∀ j, j < nmb k → (nmM k).testBit j = true := by decide +kernel
theorem x_nimI {V : gz_V} {k v : Nat} (hv : 1 ≤ v ∧ v ≤ 2) (hk : k < 21) (hV : ∀ i, i < k → V (11, 15, 0) i = Int32.ofNat (nmb i)) : ∀ (d t : Nat) {n S : Nat}, (t + d = k + 1 - v) → d < n → x0_laysNims_L25 N V (Int32.ofNat k) (Int32.ofNat v) n (Int32.ofNat S) (Int32.ofNat t) = some (Int32.ofNat (nmI k v d t S)) := by
  intro d
  induction d with
  | zero =>
    intro t n S ht hn
    obtain ⟨n, rfl⟩ : ∃ z, n = z + 1 := ⟨n - 1, by omega⟩
    rw [x0_laysNims_L25, o_add, if_pos (by rw [o_lt (by omega) (by omega)]; omega)]
    rfl
  | succ d ih =>
    intro t n S ht hn
    obtain ⟨n, rfl⟩ : ∃ z, n = z + 1 := ⟨n - 1, by omega⟩
    have e1 : Int32.ofNat t + 1 = Int32.ofNat (t + 1) := o_addr 1 t
    have l := nm_x t (by omega) (k - v - t) (by omega)
    rw [x0_laysNims_L25, o_add, if_neg (by rw [o_lt (by omega) (by omega)]; omega), o_sub (by omega) (by omega), o_sub (by omega) (by omega), gs_gd (o_inb (by omega) (by omega)), gs_gd (o_inb (by omega) (by omega)), gs_let, o_nat (by omega), o_nat (by omega), hV t (by omega), hV (k - v - t) (by omega), bt_xor, bt_sh _ (by omega), bt_or, e1]
    exact ih (t + 1) (by omega) (by omega)
theorem m_nimI {V : gz_V} {k v : Nat} (hv : 1 ≤ v ∧ v ≤ 2) (hk : k < 21) (hV : ∀ i, i < k → V (2, 64, 0) i = Int32.ofNat (nmb i)) : ∀ (d t : Nat) {n S : Nat}, (t + d = k + 1 - v) → d < n → m_findsNimbers_L20 N V (Int32.ofNat k) (Int32.ofNat v) n (Int32.ofNat S) (Int32.ofNat t) = some (Int32.ofNat (nmI k v d t S)) := by
  intro d
  induction d with
  | zero =>
    intro t n S ht hn
    obtain ⟨n, rfl⟩ : ∃ z, n = z + 1 := ⟨n - 1, by omega⟩
    rw [m_findsNimbers_L20, o_add, if_pos (by rw [o_lt (by omega) (by omega)]; omega)]
    rfl
  | succ d ih =>
    intro t n S ht hn
    obtain ⟨n, rfl⟩ : ∃ z, n = z + 1 := ⟨n - 1, by omega⟩
    have e1 : Int32.ofNat t + 1 = Int32.ofNat (t + 1) := o_addr 1 t
    have l := nm_x t (by omega) (k - v - t) (by omega)
    have ek : k - t - v = k - v - t := by omega
    rw [m_findsNimbers_L20, o_add, if_neg (by rw [o_lt (by omega) (by omega)]; omega), o_sub (show t ≤ k by omega) (by omega), o_sub (show v ≤ k - t by omega) (by omega), ek, gs_gd (o_inb (by omega) (by omega)), gs_gd (o_inb (by omega) (by omega)), gs_let, o_nat (by omega), o_nat (by omega), hV t (by omega), hV (k - v - t) (by omega), bt_xor, bt_sh _ (by omega), bt_or, e1]
    exact ih (t + 1) (by omega) (by omega)
theorem x_nimM (hN : 500 ≤ N) {V : gz_V} {k n : Nat} (hn : 3 ≤ n) (hk1 : 1 ≤ k) (hk : k < 21) (hV : ∀ i, i < k → V (11, 15, 0) i = Int32.ofNat (nmb i)) : x0_laysNims_L12 N V (Int32.ofNat k) n 0 1 = some (Int32.ofNat (nmM k)) := by
  obtain ⟨n, rfl⟩ : ∃ z, n = z + 3 := ⟨n - 3, by omega⟩
  have a1 := x_nimI (N := N) (v := 1) (by omega) hk hV (k + 1 - 1) 0 (n := N) (S := 0) (by omega) (by omega)
  have a2 := x_nimI (N := N) (v := 2) (by omega) hk hV (k + 1 - 2) 0 (n := N) (S := nmI k 1 (k + 1 - 1) 0 0) (by omega) (by omega)
  rw [x0_laysNims_L12, if_neg (by decide), if_neg (by rw [show (1 : Int32) = Int32.ofNat 1 from rfl, o_lt (by omega) (by omega)]; omega), show x0_laysNims_L25 N V (Int32.ofNat k) 1 N 0 0 = _ from a1, gs_bd, show (1 : Int32) + 1 = 2 from rfl, x0_laysNims_L12, if_neg (by decide)]
  by_cases h1 : k = 1
  · subst h1
    rw [if_pos (by decide)]
    rfl
  · rw [if_neg (by rw [show (2 : Int32) = Int32.ofNat 2 from rfl, o_lt (by omega) (by omega)]; omega), show x0_laysNims_L25 N V (Int32.ofNat k) 2 N _ 0 = _ from a2, gs_bd, x0_laysNims_L12, if_pos (by decide)]
    rfl
theorem m_nimM (hN : 500 ≤ N) {V : gz_V} {k n : Nat} (hn : 3 ≤ n) (hk : k < 21) (hV : ∀ i, i < k → V (2, 64, 0) i = Int32.ofNat (nmb i)) : m_findsNimbers_L12 N V (Int32.ofNat k) n 0 1 = some (Int32.ofNat (nmM k)) := by
  obtain ⟨n, rfl⟩ : ∃ z, n = z + 3 := ⟨n - 3, by omega⟩
  have a1 := m_nimI (N := N) (v := 1) (by omega) hk hV (k + 1 - 1) 0 (n := N) (S := 0) (by omega) (by omega)
  have a2 := m_nimI (N := N) (v := 2) (by omega) hk hV (k + 1 - 2) 0 (n := N) (S := nmI k 1 (k + 1 - 1) 0 0) (by omega) (by omega)
  rw [m_findsNimbers_L12, if_neg (by decide), show m_findsNimbers_L20 N V (Int32.ofNat k) 1 N 0 0 = _ from a1, gs_bd, show (1 : Int32) + 1 = 2 from rfl, m_findsNimbers_L12, if_neg (by decide), show m_findsNimbers_L20 N V (Int32.ofNat k) 2 N _ 0 = _ from a2, gs_bd, m_findsNimbers_L12, if_pos (by decide)]
  rfl
theorem m_nimF {V : gz_V} {v : Int32} {k : Nat} (hk : k < 21) : ∀ (d t : Nat) {n : Nat}, t + d = nmb k → d < n → m_findsNimbers_L66 N V v (Int32.ofNat (nmM k)) n (Int32.ofNat t) = some (Int32.ofNat (nmb k)) := by
  obtain ⟨l1, l2, l3⟩ := nm_first k hk
  have l4 := nm_l k hk
  intro d
  induction d with
  | zero =>
    intro t n ht hn
    obtain ⟨n, rfl⟩ : ∃ z, n = z + 1 := ⟨n - 1, by omega⟩
    have : t = nmb k := by omega
    subst this
    rw [m_findsNimbers_L66, if_pos (by rw [bt_m0 (by omega) (by omega)]; exact l2)]
  | succ d ih =>
    intro t n ht hn
    obtain ⟨n, rfl⟩ : ∃ z, n = z + 1 := ⟨n - 1, by omega⟩
    have e1 : Int32.ofNat t + 1 = Int32.ofNat (t + 1) := o_addr 1 t
    rw [m_findsNimbers_L66, if_neg (by rw [bt_m0 (by omega) (by omega), l3 t (by omega)]; decide), gs_let, e1]
    exact ih (t + 1) (by omega) (by omega)
/-- the table so far -/
def nmV (A : gz_N) (k : Nat) (V0 V : gz_V) : Prop := (∀ i, i < k → V A i = Int32.ofNat (nmb i)) ∧ ∀ n i, n ≠ A → V n i = V0 n i
def nmT (A : gz_N) (k : Nat) (V0 V : gz_V) : Prop := (∀ i, i < k → V A i = Int32.ofNat (nmb i)) ∧ ∀ n i, n ≠ A ∨ (i = 0 ∧ 1 ≤ k ∧ V0 A 0 = 0) → V n i = V0 n i
theorem x_nimW (hN : 500 ≤ N) {V0 : gz_V} : ∀ (d k : Nat) {n : Nat} {V : gz_V}, 1 ≤ k → k + d = 21 → d < n → nmT (11, 15, 0) k V0 V → ∃ V', x0_laysNims_L2 N n V (Int32.ofNat k) = some V' ∧ nmT (11, 15, 0) 21 V0 V' := by
  intro d
  induction d with
  | zero =>
    intro k n V hk ht hn h
    obtain ⟨n, rfl⟩ : ∃ z, n = z + 1 := ⟨n - 1, by omega⟩
    have : k = 21 := by omega
    subst this
    exact ⟨V, by rw [x0_laysNims_L2, if_pos (by decide)], h⟩
  | succ d ih =>
    intro k n V hk ht hn h
    obtain ⟨n, rfl⟩ : ∃ z, n = z + 1 := ⟨n - 1, by omega⟩
    have e1 : Int32.ofNat k + 1 = Int32.ofNat (k + 1) := o_addr 1 k
    obtain ⟨V', a', b'⟩ := ih (k + 1) (n := n) (V := gz_up V (11, 15, 0) k (Int32.ofNat (nmb k))) (by omega) (by omega) (by omega) ⟨fun i hi => by
      rw [up_at]
      by_cases q : i = k
      · rw [q, if_pos ⟨rfl, rfl⟩]
      · rw [if_neg (by omega)]; exact h.1 i (by omega), fun n i hn => by
      rw [up_at, if_neg]
      · exact h.2 n i (by rcases hn with q | q; exact Or.inl q; exact Or.inr ⟨q.1, hk, q.2.2⟩)
      · rintro ⟨rfl, rfl⟩
        rcases hn with q | q
        · exact q rfl
        · omega⟩
    refine ⟨V', ?_, b'⟩
    rw [x0_laysNims_L2, if_neg (by rw [show (20 : Int32) = Int32.ofNat 20 from rfl, o_lt (by omega) (by omega)]; omega), x_nimM hN (by omega) hk (by omega) h.1, gs_bd, gs_gd (o_inb (by omega) (by omega)), gs_let, nm_ntz k (by omega), o_nat (by omega), e1]
    exact a'
theorem m_nimW (hN : 500 ≤ N) {V0 : gz_V} : ∀ (d k : Nat) {n : Nat} {V : gz_V}, k + d = 21 → d < n → nmV (2, 64, 0) k V0 V → ∃ V', m_findsNimbers_L2 N n V (Int32.ofNat k) = some V' ∧ nmV (2, 64, 0) 21 V0 V' := by
  intro d
  induction d with
  | zero =>
    intro k n V ht hn h
    obtain ⟨n, rfl⟩ : ∃ z, n = z + 1 := ⟨n - 1, by omega⟩
    have : k = 21 := by omega
    subst this
    exact ⟨V, by rw [m_findsNimbers_L2, if_pos (by decide)], h⟩
  | succ d ih =>
    intro k n V ht hn h
    obtain ⟨n, rfl⟩ : ∃ z, n = z + 1 := ⟨n - 1, by omega⟩
    have e1 : Int32.ofNat k + 1 = Int32.ofNat (k + 1) := o_addr 1 k
    have l4 := nm_l k (by omega)
    obtain ⟨V', a', b'⟩ := ih (k + 1) (n := n) (V := gz_up V (2, 64, 0) k (Int32.ofNat (nmb k))) (by omega) (by omega) ⟨fun i hi => by
      rw [up_at]
      by_cases q : i = k
      · rw [q, if_pos ⟨rfl, rfl⟩]
      · rw [if_neg (by omega)]; exact h.1 i (by omega), fun n i hn => by rw [up_ne hn]; exact h.2 n i hn⟩
    refine ⟨V', ?_, b'⟩
    rw [m_findsNimbers_L2, if_neg (by rw [show (21 : Int32) = Int32.ofNat 21 from rfl, o_le (by omega) (by omega)]; omega), m_nimM hN (by omega) (by omega) h.1, gs_bd, show m_findsNimbers_L66 N V (Int32.ofNat k) (Int32.ofNat (nmM k)) N 0 = _ from m_nimF (N := N) (V := V) (v := Int32.ofNat k) (show k < 21 by omega) (nmb k) 0 (n := N) (by omega) (by omega), gs_bd, gs_gd (o_inb (by omega) (by omega)), gs_let, o_nat (by omega), e1]
    exact a'
end GAME
