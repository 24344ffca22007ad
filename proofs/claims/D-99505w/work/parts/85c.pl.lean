/-! came -/
set_option maxRecDepth 100000
section CAME
variable {N : Nat} {V M : gz_V} {m : Nat} {a b : Nat → Nat}
/-- one telling -/
def cmS (a b : Nat → Nat) (S i : Nat) : Nat := if S.testBit (a i) = true ∨ S.testBit (b i) = true then S ||| (2 ^ a i ||| 2 ^ b i) else S
def cmR (a b : Nat → Nat) (s : Nat) : Nat → Nat
  | 0 => 2 ^ s
  | k + 1 => cmS a b (cmR a b s k) k
/-- the rows told -/
def cmT (V M : gz_V) (m : Nat) (a b : Nat → Nat) : Prop := m ≤ 16 ∧ V (27, 0, 0) 1 = Int32.ofNat m ∧ M (1, 0, 0) 48 = Int32.ofNat m ∧ ∀ i, i < m → a i < 12 ∧ b i < 12 ∧ a i ≠ b i ∧ V (30, 0, i) 0 = Int32.ofNat (a i) ∧ V (30, 0, i) 1 = Int32.ofNat (b i) ∧ M (2, 49, 0) i = Int32.ofNat (a i) ∧ M (2, 50, 0) i = Int32.ofNat (b i)
theorem cm_of (t0 : tdR 0 0 48 49 0 11 16 V M) (tc : tdC 0 V M) : ∃ m a b, cmT V M m a b := by
  obtain ⟨m, h1, h2, h3, h4⟩ := t0
  have tc' := tc m h2 h1
  refine ⟨m, fun i => (V (30, 0, i) 0).toNatClampNeg, fun i => (V (30, 0, i) 1).toNatClampNeg, h1, h2, h3, fun i hi => ?_⟩
  obtain ⟨v, v1, v2, v3, v4⟩ := h4 i hi
  obtain ⟨w, w1, w2, w3, w4⟩ := tc' i hi
  have v3' : V (30, 0, i) 0 = Int32.ofNat v := v3
  dsimp only
  rw [v3', w2] at w4 ⊢
  rw [o_nat (by omega), o_nat (by omega)]
  refine ⟨by omega, by omega, fun e => w4 (by rw [e]), rfl, rfl, v4, w3⟩
theorem cmS_lt (t : cmT V M m a b) {S i : Nat} (hi : i < m) (hS : S < 2 ^ 12) : cmS a b S i < 2 ^ 12 := by
  obtain ⟨h1, h2, -⟩ := t.2.2.2 i hi
  unfold cmS
  split
  · exact bt_orlt hS (bt_orlt (bt_pl h1) (bt_pl h2))
  · exact hS
theorem cmR_lt (t : cmT V M m a b) {s : Nat} (hs : s < 12) : ∀ k, k ≤ m → cmR a b s k < 2 ^ 12 := by
  intro k
  induction k with
  | zero => intro _; exact bt_pl hs
  | succ k ih => intro hk; exact cmS_lt t (by omega) (ih (by omega))
theorem cm_and {S x y : Nat} (hx : x < 12) (hy : y < 12) : (Int32.ofNat S &&& Int32.ofNat (2 ^ x ||| 2 ^ y) = 0) ↔ ¬ (S.testBit x = true ∨ S.testBit y = true) := by
  have l := Nat.and_lt_two_pow S (bt_orlt (bt_pl hx) (bt_pl hy))
  rw [bt_and, bt_z (Nat.lt_trans l (by decide))]
  constructor
  · intro h z
    have hz : ∀ i, (S &&& (2 ^ x ||| 2 ^ y)).testBit i = false := fun i => by rw [h]; exact Nat.zero_testBit i
    rcases z with z | z
    · have := hz x
      rw [Nat.testBit_and, Nat.testBit_or, bt_p2, bt_p2, z] at this
      simp at this
    · have := hz y
      rw [Nat.testBit_and, Nat.testBit_or, bt_p2, bt_p2, z] at this
      simp at this
  · intro h
    apply Nat.eq_of_testBit_eq
    intro i
    rw [Nat.testBit_and, Nat.testBit_or, bt_p2, bt_p2, Nat.zero_testBit]
    by_cases e1 : x = i
    · subst e1
      have : S.testBit x = false := by cases q : S.testBit x; rfl; exact absurd (Or.inl q) h
      simp [this]
    · by_cases e2 : y = i
      · subst e2
        have : S.testBit y = false := by cases q : S.testBit y; rfl; exact absurd (Or.inr q) h
        simp [this]
      · simp [e1, e2]
theorem z_odd (t : cmT V M m a b) : ∀ (d j : Nat) {n n2 : Nat} {v : Int32}, j + d = m → d < n → d < n2 → ∃ r, x0_odd_L4 N V n v (Int32.ofNat j) = some r ∧ m_oddSet_L4 N M n2 v (Int32.ofNat j) = some r := by
  obtain ⟨t1, t2, t3, t4⟩ := id t
  intro d
  induction d with
  | zero =>
    intro j n n2 v hj hn hn2
    obtain ⟨n, rfl⟩ : ∃ z, n = z + 1 := ⟨n - 1, by omega⟩
    obtain ⟨n2, rfl⟩ : ∃ z, n2 = z + 1 := ⟨n2 - 1, by omega⟩
    have : j = m := by omega
    subst this
    refine ⟨v, ?_, ?_⟩
    · rw [x0_odd_L4, t2, if_pos (i_le.mpr (Int.le_refl _))]
    · rw [m_oddSet_L4, t3, if_pos (i_le.mpr (Int.le_refl _))]
  | succ d ih =>
    intro j n n2 v hj hn hn2
    obtain ⟨n, rfl⟩ : ∃ z, n = z + 1 := ⟨n - 1, by omega⟩
    obtain ⟨n2, rfl⟩ : ∃ z, n2 = z + 1 := ⟨n2 - 1, by omega⟩
    have e1 : Int32.ofNat j + 1 = Int32.ofNat (j + 1) := o_addr 1 j
    obtain ⟨q1, q2, q3, q4, q5, q6, q7⟩ := t4 j (by omega)
    obtain ⟨r, r1, r2⟩ := ih (j + 1) (n := n) (n2 := n2) (v := v ^^^ Int32.ofNat (2 ^ a j) ^^^ Int32.ofNat (2 ^ b j)) (by omega) (by omega) (by omega)
    have ne : ¬ Int32.ofNat m ≤ Int32.ofNat j := by rw [o_le (by omega) (by omega)]; omega
    refine ⟨r, ?_, ?_⟩
    · rw [x0_odd_L4, t2, if_neg ne, show xw_rl 0 = 16 from rfl, gs_gd (o_inb (by omega) (by omega)), gs_gd (o_inb (by omega) (by omega)), gs_let, o_nat (by omega), show (30 + 0, 0, j) = (30, 0, j) from rfl, show (0 : Int32).toNatClampNeg = 0 from rfl, show (1 : Int32).toNatClampNeg = 1 from rfl, q4, q5, bt_sh _ (by omega), bt_sh _ (by omega), e1, ← r1]
      have : (2 ^ a j ||| 2 ^ b j) = (2 ^ a j ^^^ 2 ^ b j) := by
        apply Nat.eq_of_testBit_eq
        intro i
        rw [Nat.testBit_or, Nat.testBit_xor, bt_p2, bt_p2]
        by_cases e1 : a j = i
        · have : b j ≠ i := by omega
          simp [e1, this]
        · simp [e1]
      rw [bt_or, this, ← bt_xor, Int32.xor_assoc]
    · rw [m_oddSet_L4, t3, if_neg ne, gs_gd (o_inb (by omega) (by omega)), gs_gd (o_inb (by omega) (by omega)), gs_let, o_nat (by omega), q6, q7, bt_sh _ (by omega), bt_sh _ (by omega), e1]
      exact r2
theorem z_rch (t : cmT V M m a b) {s k : Nat} (hs : s < 12) (hk : k ≤ m) : ∀ (d j : Nat) {n : Nat}, j + d = k → d < n → m_reachedBy_L7 N M (Int32.ofNat k) n (Int32.ofNat (cmR a b s j)) (Int32.ofNat j) = some (Int32.ofNat (cmR a b s k)) := by
  obtain ⟨t1, t2, t3, t4⟩ := id t
  intro d
  induction d with
  | zero =>
    intro j n hj hn
    obtain ⟨n, rfl⟩ : ∃ z, n = z + 1 := ⟨n - 1, by omega⟩
    have : j = k := by omega
    subst this
    rw [m_reachedBy_L7, if_pos (i_le.mpr (Int.le_refl _))]
  | succ d ih =>
    intro j n hj hn
    obtain ⟨n, rfl⟩ : ∃ z, n = z + 1 := ⟨n - 1, by omega⟩
    have e1 : Int32.ofNat j + 1 = Int32.ofNat (j + 1) := o_addr 1 j
    obtain ⟨q1, q2, q3, q4, q5, q6, q7⟩ := t4 j (by omega)
    have ne : ¬ Int32.ofNat k ≤ Int32.ofNat j := by rw [o_le (by omega) (by omega)]; omega
    have l : cmR a b s j < 4096 := cmR_lt t hs j (by omega)
    have r := ih (j + 1) (n := n) (by omega) (by omega)
    have gb : gz_inb (Int32.ofNat j) 16 = true := o_inb (by omega) (by omega)
    have step : cmR a b s (j + 1) = cmS a b (cmR a b s j) j := rfl
    rw [m_reachedBy_L7, if_neg ne, gs_gd gb, o_nat (by omega), q6, q7, bt_sh _ (by omega), bt_sh _ (by omega), bt_or, bt_or, e1]
    unfold cmS at step
    rw [Nat.or_assoc]
    by_cases h1 : (cmR a b s j).testBit (a j) = true
    · rw [if_neg (by rw [bt_m0 (by omega) (by omega)]; simp [h1]), gs_gd gb, gs_gd gb, gs_let, gs_bd, ← r, step, if_pos (Or.inl h1)]
    · rw [if_pos (by rw [bt_m0 (by omega) (by omega)]; simpa using h1), gs_gd gb]
      by_cases h2 : (cmR a b s j).testBit (b j) = true
      · rw [if_neg (by rw [bt_m0 (by omega) (by omega)]; simp [h2]), gs_gd gb, gs_gd gb, gs_let, gs_bd, ← r, step, if_pos (Or.inr h2)]
      · rw [if_pos (by rw [bt_m0 (by omega) (by omega)]; simpa using h2), gs_bd, ← r, step, if_neg (by rintro (z | z); exact h1 z; exact h2 z)]
theorem z_rchd (t : cmT V M m a b) {s k : Nat} (hs : s < 12) (hk : k ≤ m) (hN : 500 ≤ N) : m_reachedBy N M (Int32.ofNat s) (Int32.ofNat k) = some (Int32.ofNat (cmR a b s k)) := by
  have := t.1
  have r := z_rch (N := N) t hs hk k 0 (n := N) (by omega) (by omega)
  unfold m_reachedBy
  rw [gs_let, bt_sh _ (by omega)]
  rw [show m_reachedBy_L7 N M (Int32.ofNat k) N (Int32.ofNat (2 ^ s)) 0 = _ from r, gs_bd]
/-- one step of the reach -/
theorem z_st (t : cmT V M m a b) {s j n : Nat} {v2 : Int32} (hs : s < 12) (hj : j < m) : x0_came_L44 N V v2 (n + 1) (Int32.ofNat (cmR a b s j)) (Int32.ofNat j) = (if v2 = (-1) then x0_came_L44 N V v2 n (Int32.ofNat (cmR a b s (j + 1))) (Int32.ofNat (j + 1)) else (if ((Int32.ofNat (cmR a b s (j + 1)) >>> (v2 &&& 31)) &&& 1) = 1 then some (.inl (Int32.ofNat j)) else x0_came_L44 N V v2 n (Int32.ofNat (cmR a b s (j + 1))) (Int32.ofNat (j + 1)))) := by
  obtain ⟨t1, t2, t3, t4⟩ := id t
  have e1 : Int32.ofNat j + 1 = Int32.ofNat (j + 1) := o_addr 1 j
  obtain ⟨q1, q2, q3, q4, q5, q6, q7⟩ := t4 j (by omega)
  have ne : ¬ Int32.ofNat m ≤ Int32.ofNat j := by rw [o_le (by omega) (by omega)]; omega
  have l : cmR a b s j < 2 ^ 12 := cmR_lt t hs j (by omega)
  have gb : gz_inb (Int32.ofNat j) 16 = true := o_inb (by omega) (by omega)
  have e : (Int32.ofNat (cmR a b s j) ||| (if (Int32.ofNat (cmR a b s j) &&& Int32.ofNat (2 ^ a j ||| 2 ^ b j)) = 0 then (0 : Int32) else Int32.ofNat (2 ^ a j ||| 2 ^ b j))) = Int32.ofNat (cmR a b s (j + 1)) := by
    show _ = Int32.ofNat (cmS a b (cmR a b s j) j)
    unfold cmS
    by_cases h : (cmR a b s j).testBit (a j) = true ∨ (cmR a b s j).testBit (b j) = true
    · rw [if_pos h, if_neg (by rw [cm_and q1 q2]; exact fun z => z h), bt_or]
    · rw [if_neg h, if_pos (by rw [cm_and q1 q2]; exact h), show (0 : Int32) = Int32.ofNat 0 from rfl, bt_or, Nat.or_zero]
  rw [x0_came_L44, t2, if_neg ne, show xw_rl 0 = 16 from rfl, gs_gd gb, gs_gd gb, o_nat (by omega), show (30 + 0, 0, j) = (30, 0, j) from rfl, show (0 : Int32).toNatClampNeg = 0 from rfl, show (1 : Int32).toNatClampNeg = 1 from rfl, q4, q5, bt_sh _ (by omega), bt_sh _ (by omega), bt_or]
  simp only [gs_let]
  rw [e, e1]
theorem z_all1 (t : cmT V M m a b) {s : Nat} (hs : s < 12) : ∀ (d j : Nat) {n : Nat}, j + d = m → d < n → x0_came_L44 N V (-1) n (Int32.ofNat (cmR a b s j)) (Int32.ofNat j) = some (.inr (Int32.ofNat (cmR a b s m))) := by
  obtain ⟨t1, t2, t3, t4⟩ := id t
  intro d
  induction d with
  | zero =>
    intro j n hj hn
    obtain ⟨n, rfl⟩ : ∃ z, n = z + 1 := ⟨n - 1, by omega⟩
    have : j = m := by omega
    subst this
    rw [x0_came_L44, t2, if_pos (i_le.mpr (Int.le_refl _))]
  | succ d ih =>
    intro j n hj hn
    obtain ⟨n, rfl⟩ : ∃ z, n = z + 1 := ⟨n - 1, by omega⟩
    rw [z_st t hs (by omega), if_pos rfl]
    exact ih (j + 1) (by omega) (by omega)
theorem z_came (hN : 500 ≤ N) (t : cmT V M m a b) {s w : Nat} (hs : s < 12) (hw : w < 12) (hsw : s ≠ w) : ∀ (d j : Nat) {n n2 : Nat}, j + d = m → d < n → d < n2 → (∃ r, x0_came_L44 N V (Int32.ofNat w) n (Int32.ofNat (cmR a b s j)) (Int32.ofNat j) = some (.inl r) ∧ m_came_L56 N M (Int32.ofNat s) (Int32.ofNat w) n2 (Int32.ofNat j) = some (.inl (M, r))) ∨ (∃ r, x0_came_L44 N V (Int32.ofNat w) n (Int32.ofNat (cmR a b s j)) (Int32.ofNat j) = some (.inr r) ∧ m_came_L56 N M (Int32.ofNat s) (Int32.ofNat w) n2 (Int32.ofNat j) = some (.inr ())) := by
  obtain ⟨t1, t2, t3, t4⟩ := id t
  have nsw : ¬ Int32.ofNat s = Int32.ofNat w := by rw [o_eq (by omega) (by omega)]; exact hsw
  have nw : ¬ Int32.ofNat w = -1 := (show ∀ w, w < 12 → ¬ Int32.ofNat w = -1 by decide) w hw
  intro d
  induction d with
  | zero =>
    intro j n n2 hj hn hn2
    obtain ⟨n, rfl⟩ : ∃ z, n = z + 1 := ⟨n - 1, by omega⟩
    obtain ⟨n2, rfl⟩ : ∃ z, n2 = z + 1 := ⟨n2 - 1, by omega⟩
    have : j = m := by omega
    subst this
    refine Or.inr ⟨Int32.ofNat (cmR a b s j), ?_, ?_⟩
    · rw [x0_came_L44, t2, if_pos (i_le.mpr (Int.le_refl _))]
    · rw [m_came_L56, t3, if_pos (i_le.mpr (Int.le_refl _))]
  | succ d ih =>
    intro j n n2 hj hn hn2
    obtain ⟨n, rfl⟩ : ∃ z, n = z + 1 := ⟨n - 1, by omega⟩
    obtain ⟨n2, rfl⟩ : ∃ z, n2 = z + 1 := ⟨n2 - 1, by omega⟩
    have e1 : Int32.ofNat j + 1 = Int32.ofNat (j + 1) := o_addr 1 j
    have ne : ¬ Int32.ofNat m ≤ Int32.ofNat j := by rw [o_le (by omega) (by omega)]; omega
    have l : cmR a b s (j + 1) < 4096 := cmR_lt t hs (j + 1) (by omega)
    have rr := z_rchd t hs (show j + 1 ≤ m by omega) hN
    rw [z_st t hs (by omega), if_neg nw, m_came_L56, t3, if_neg ne, if_neg nsw, e1, rr, gs_bd]
    by_cases h : (cmR a b s (j + 1)).testBit w = true
    · rw [if_pos ((bt_h1 (by omega) (by omega)).mpr h), if_neg (by rw [bt_m0 (by omega) (by omega)]; simp [h])]
      exact Or.inl ⟨_, rfl, rfl⟩
    · rw [if_neg (fun z => h ((bt_h1 (by omega) (by omega)).mp z)), if_pos (by rw [bt_m0 (by omega) (by omega)]; simpa using h)]
      exact ih (j + 1) (by omega) (by omega) (by omega)
theorem z_same (t : cmT V M m a b) {v : Int32} : ∀ (d j : Nat) {n2 : Nat}, j + d = m → d < n2 → m_came_L56 N M v v n2 (Int32.ofNat j) = some (.inr ()) := by
  obtain ⟨t1, t2, t3, t4⟩ := id t
  intro d
  induction d with
  | zero =>
    intro j n hj hn
    obtain ⟨n, rfl⟩ : ∃ z, n = z + 1 := ⟨n - 1, by omega⟩
    have : j = m := by omega
    subst this
    rw [m_came_L56, t3, if_pos (i_le.mpr (Int.le_refl _))]
  | succ d ih =>
    intro j n hj hn
    obtain ⟨n, rfl⟩ : ∃ z, n = z + 1 := ⟨n - 1, by omega⟩
    have e1 : Int32.ofNat j + 1 = Int32.ofNat (j + 1) := o_addr 1 j
    have ne : ¬ Int32.ofNat m ≤ Int32.ofNat j := by rw [o_le (by omega) (by omega)]; omega
    rw [m_came_L56, t3, if_neg ne, if_pos rfl, e1]
    exact ih (j + 1) (by omega) (by omega)
end CAME
theorem J_came {N : Nat} (hN : 1000 ≤ N) : lo_came JJ N := by
  intro Ds Df V c M a1 a2 h
  have h0 := h.m0
  obtain ⟨P, H, b, ⟨-, -, -, -, -, t0, tc, -⟩, -⟩ := h.m0
  unfold x0_came m_came
  simp only [gs_let]
  rw [isIn_eq, isIn_eq]
  generalize gz_up M (1, 0, 0) 0 0 = M1 at *
  obtain ⟨m, a, b', t⟩ := cm_of t0 tc
  have t1 := t.1
  by_cases ha : a1 = -1
  · obtain ⟨r, r1, r2⟩ := z_odd (N := N) t m 0 (n := N) (n2 := N) (v := 0) (by omega) (by omega) (by omega)
    unfold x0_odd m_oddSet
    rw [if_pos ha, if_pos ha, show x0_odd_L4 N V N 0 0 = some r from r1, show m_oddSet_L4 N M1 N 0 0 = some r from r2]
    exact ⟨M1, r, rfl, rfl, h0⟩
  rw [if_neg ha, if_neg ha]
  rcases isIn_c (a := a1) (b := 0) (c := 11) with w | ⟨w, w1, w2⟩
  · rw [if_pos w, if_pos w]
    exact ⟨M1, -1, rfl, rfl, h0⟩
  rw [w, if_neg n10, if_neg n10]
  rcases isIn_c (a := a2) (b := -1) (c := 11) with w' | ⟨w', w1', w2'⟩
  · rw [if_pos w', if_pos w']
    exact ⟨M1, -1, rfl, rfl, h0⟩
  rw [w', if_neg n10, if_neg n10]
  have z0 : (0 : Int32).toInt = 0 := rfl
  have z1 : (-1 : Int32).toInt = -1 := rfl
  have z8 : (11 : Int32).toInt = 11 := rfl
  obtain ⟨s, hs, rfl⟩ := o_ex (a := a1) (n := 12) (by omega) (by omega)
  rw [bt_sh s (by omega)]
  by_cases h2 : a2 = -1
  · subst h2
    rw [if_neg ha, if_pos rfl, t.2.2.1, z_rchd t hs (Nat.le_refl m) (by omega), show x0_came_L44 N V (-1) N (Int32.ofNat (2 ^ s)) 0 = _ from z_all1 (N := N) t hs m 0 (n := N) (by omega) (by omega)]
    exact ⟨M1, _, rfl, rfl, h0⟩
  have : a2.toInt ≠ -1 := fun e => h2 (i_eq.mpr e)
  obtain ⟨w, hw, rfl⟩ := o_ex (a := a2) (n := 12) (by omega) (by omega)
  rw [if_neg h2]
  by_cases hsw : s = w
  · subst hsw
    rw [if_pos rfl, show m_came_L56 N M1 (Int32.ofNat s) (Int32.ofNat s) N 0 = _ from z_same (N := N) t m 0 (n2 := N) (by omega) (by omega)]
    exact ⟨M1, -1, rfl, rfl, h0⟩
  rw [if_neg (by rw [o_eq (by omega) (by omega)]; exact hsw)]
  rcases z_came (N := N) (by omega) t hs hw hsw m 0 (n := N) (n2 := N) (by omega) (by omega) (by omega) with ⟨r, r1, r2⟩ | ⟨r, r1, r2⟩
  · rw [show x0_came_L44 N V (Int32.ofNat w) N (Int32.ofNat (2 ^ s)) 0 = _ from r1, show m_came_L56 N M1 (Int32.ofNat s) (Int32.ofNat w) N 0 = _ from r2]
    exact ⟨M1, r, rfl, rfl, h0⟩
  · rw [show x0_came_L44 N V (Int32.ofNat w) N (Int32.ofNat (2 ^ s)) 0 = _ from r1, show m_came_L56 N M1 (Int32.ofNat s) (Int32.ofNat w) N 0 = _ from r2]
    refine ⟨M1, -1, ?_, rfl, h0⟩
    rw [gs_lpr, if_neg h2]
