/-! game, whole -/
set_option maxRecDepth 100000
section GAME2
variable {N m : Nat} {V M : gz_V} {g : Nat → Nat}
/-- both tables laid, the rows told -/
def gmT (V M : gz_V) (m : Nat) (g : Nat → Nat) : Prop := m ≤ 6 ∧ V (27, 0, 4) 1 = Int32.ofNat m ∧ M (1, 0, 0) 62 = Int32.ofNat m ∧ (∀ i, i < m → 1 ≤ g i ∧ g i ≤ 20 ∧ V (34, 0, i) 0 = Int32.ofNat (g i) ∧ M (2, 63, 0) i = Int32.ofNat (g i)) ∧ (∀ i, i < 21 → V (11, 15, 0) i = Int32.ofNat (nmb i)) ∧ ∀ i, i < 21 → M (2, 64, 0) i = Int32.ofNat (nmb i)
theorem gm_first (t : gmT V M m g) {i : Nat} (hi : i < m) : x3_first V 0 4 (Int32.ofNat i) = some (Int32.ofNat (g i)) := by
  have := t.1
  unfold x3_first
  rw [show xw_rl 4 = 6 from rfl, gs_gd (o_inb (by omega) (by omega)), o_nat (by omega)]
  exact congrArg some (t.2.2.2.1 i hi).2.2.1
theorem z_nsum (t : gmT V M m g) {v : Int32} : ∀ (d i : Nat) {n n2 : Nat} {s : Int32}, i + d = m → d < n → d < n2 → ∃ r, x0_game_L19 N V v n s (Int32.ofNat i) = some r ∧ m_game_L25 N M v n2 s (Int32.ofNat i) = some r := by
  obtain ⟨t1, t2, t3, t4, t5, t6⟩ := id t
  intro d
  induction d with
  | zero =>
    intro i n n2 s hi hn hn2
    obtain ⟨n, rfl⟩ : ∃ z, n = z + 1 := ⟨n - 1, by omega⟩
    obtain ⟨n2, rfl⟩ : ∃ z, n2 = z + 1 := ⟨n2 - 1, by omega⟩
    have : i = m := by omega
    subst this
    exact ⟨s, by rw [x0_game_L19, t2, if_pos (i_le.mpr (Int.le_refl _))], by rw [m_game_L25, t3, if_pos (i_le.mpr (Int.le_refl _))]⟩
  | succ d ih =>
    intro i n n2 s hi hn hn2
    obtain ⟨n, rfl⟩ : ∃ z, n = z + 1 := ⟨n - 1, by omega⟩
    obtain ⟨n2, rfl⟩ : ∃ z, n2 = z + 1 := ⟨n2 - 1, by omega⟩
    have e1 : Int32.ofNat i + 1 = Int32.ofNat (i + 1) := o_addr 1 i
    have ne : ¬ Int32.ofNat m ≤ Int32.ofNat i := by rw [o_le (by omega) (by omega)]; omega
    obtain ⟨q1, q2, q3, q4⟩ := t4 i (by omega)
    obtain ⟨r, r1, r2⟩ := ih (i + 1) (n := n) (n2 := n2) (s := s ^^^ Int32.ofNat (nmb (g i))) (by omega) (by omega) (by omega)
    refine ⟨r, ?_, ?_⟩
    · rw [x0_game_L19, t2, if_neg ne, gm_first t (by omega), gs_bd, gs_gd (o_inb (by omega) (by omega)), gs_let, o_nat (by omega), t5 _ (by omega), e1]
      exact r1
    · rw [m_game_L25, t3, if_neg ne, gs_gd (o_inb (by omega) (by omega)), o_nat (by omega), q4, gs_gd (o_inb (by omega) (by omega)), gs_let, o_nat (by omega), t6 _ (by omega), e1]
      exact r2
/-- both loops answer alike, or go on -/
def gmR (V M : gz_V) (x m : Option ((gz_V × Int32) ⊕ Unit)) : Prop := (∃ r, x = some (.inl (V, r)) ∧ m = some (.inl (M, r))) ∨ (x = some (.inr ()) ∧ m = some (.inr ()))
theorem z_g100 (t : gmT V M m g) {v1 v2 v3 : Int32} {k l : Nat} (hk : k ≤ 20) (hl : l < k) : ∀ (d w : Nat) {n n2 : Nat}, w + d = 3 → 1 ≤ w → d < n → d < n2 → gmR V M (x0_game_L100 N V v1 v2 v3 (Int32.ofNat k) (Int32.ofNat l) n (Int32.ofNat w)) (m_game_L95 N M v1 v2 v3 (Int32.ofNat k) (v2 ^^^ Int32.ofNat (nmb k)) (Int32.ofNat l) n2 (Int32.ofNat w)) := by
  obtain ⟨t1, t2, t3, t4, t5, t6⟩ := id t
  intro d
  induction d with
  | zero =>
    intro w n n2 hw h1 hn hn2
    obtain ⟨n, rfl⟩ : ∃ z, n = z + 1 := ⟨n - 1, by omega⟩
    obtain ⟨n2, rfl⟩ : ∃ z, n2 = z + 1 := ⟨n2 - 1, by omega⟩
    have : w = 3 := by omega
    subst this
    exact Or.inr ⟨by rw [x0_game_L100, if_pos (by decide)], by rw [m_game_L95, if_pos (by decide)]⟩
  | succ d ih =>
    intro w n n2 hw h1 hn hn2
    obtain ⟨n, rfl⟩ : ∃ z, n = z + 1 := ⟨n - 1, by omega⟩
    obtain ⟨n2, rfl⟩ : ∃ z, n2 = z + 1 := ⟨n2 - 1, by omega⟩
    have e1 : Int32.ofNat w + 1 = Int32.ofNat (w + 1) := o_addr 1 w
    rw [x0_game_L100, m_game_L95, if_neg (by rw [show (2 : Int32) = Int32.ofNat 2 from rfl, o_lt (by omega) (by omega)]; omega), if_neg (show ¬ (3 : Int32) ≤ Int32.ofNat w by rw [show (3 : Int32) = Int32.ofNat 3 from rfl, o_le (by omega) (by omega)]; omega), o_add]
    by_cases hkw : k < l + w
    · have lt : Int32.ofNat k < Int32.ofNat (l + w) := by rw [o_lt (by omega) (by omega)]; exact hkw
      rw [if_pos lt, if_pos lt]
      exact Or.inr ⟨rfl, rfl⟩
    · have lt : ¬ Int32.ofNat k < Int32.ofNat (l + w) := by rw [o_lt (by omega) (by omega)]; exact hkw
      have ek : k - l - w = k - w - l := by omega
      rw [if_neg lt, if_neg lt, o_sub (show w ≤ k by omega) (by omega), o_sub (show l ≤ k - w by omega) (by omega), o_sub (show l ≤ k by omega) (by omega), o_sub (show w ≤ k - l by omega) (by omega), ek, gs_gd (o_inb (show l < 21 by omega) (by omega)), gs_gd (o_inb (show k - w - l < 21 by omega) (by omega)), gs_gd (o_inb (show k < 21 by omega) (by omega)), gs_gd (o_inb (show l < 21 by omega) (by omega)), gs_gd (o_inb (show k - w - l < 21 by omega) (by omega)), o_nat (show l < 2147483648 by omega), o_nat (show k - w - l < 2147483648 by omega), o_nat (show k < 2147483648 by omega), t5 l (by omega), t5 (k - w - l) (by omega), t5 k (by omega), t6 l (by omega), t6 (k - w - l) (by omega), e1]
      by_cases q : Int32.ofNat (nmb l) ^^^ Int32.ofNat (nmb (k - w - l)) = v2 ^^^ Int32.ofNat (nmb k)
      · rw [if_pos q, if_pos q]
        by_cases a0 : v1 = 0
        · rw [if_pos a0, if_pos a0]
          exact Or.inl ⟨_, rfl, rfl⟩
        · rw [if_neg a0, if_neg a0]
          by_cases a1 : v1 = 1
          · rw [if_pos a1, if_pos a1]
            exact Or.inl ⟨_, rfl, rfl⟩
          · rw [if_neg a1, if_neg a1]
            exact Or.inl ⟨_, rfl, rfl⟩
      · rw [if_neg q, if_neg q]
        exact ih (w + 1) (by omega) (by omega) (by omega) (by omega)
theorem z_g90 (hN : 500 ≤ N) (t : gmT V M m g) {v1 v2 v3 : Int32} {k : Nat} (hk : k ≤ 20) : ∀ (d l : Nat) {n n2 : Nat}, l + d = k → d < n → d < n2 → gmR V M (x0_game_L90 N V v1 v2 v3 (Int32.ofNat k) n (Int32.ofNat l)) (m_game_L85 N M v1 v2 v3 (Int32.ofNat k) (v2 ^^^ Int32.ofNat (nmb k)) n2 (Int32.ofNat l)) := by
  intro d
  induction d with
  | zero =>
    intro l n n2 hw hn hn2
    obtain ⟨n, rfl⟩ : ∃ z, n = z + 1 := ⟨n - 1, by omega⟩
    obtain ⟨n2, rfl⟩ : ∃ z, n2 = z + 1 := ⟨n2 - 1, by omega⟩
    have : l = k := by omega
    subst this
    exact Or.inr ⟨by rw [x0_game_L90, if_pos (i_le.mpr (Int.le_refl _))], by rw [m_game_L85, if_pos (i_le.mpr (Int.le_refl _))]⟩
  | succ d ih =>
    intro l n n2 hw hn hn2
    obtain ⟨n, rfl⟩ : ∃ z, n = z + 1 := ⟨n - 1, by omega⟩
    obtain ⟨n2, rfl⟩ : ∃ z, n2 = z + 1 := ⟨n2 - 1, by omega⟩
    have e1 : Int32.ofNat l + 1 = Int32.ofNat (l + 1) := o_addr 1 l
    have ne : ¬ Int32.ofNat k ≤ Int32.ofNat l := by rw [o_le (by omega) (by omega)]; omega
    rw [x0_game_L90, m_game_L85, if_neg ne, if_neg ne, e1]
    rcases z_g100 (N := N) t (v1 := v1) (v2 := v2) (v3 := v3) hk (show l < k by omega) 2 1 (n := N) (n2 := N) (by omega) (by omega) (by omega) (by omega) with ⟨r, r1, r2⟩ | ⟨r1, r2⟩
    · rw [show x0_game_L100 N V v1 v2 v3 (Int32.ofNat k) (Int32.ofNat l) N 1 = _ from r1, show m_game_L95 N M v1 v2 v3 (Int32.ofNat k) _ (Int32.ofNat l) N 1 = _ from r2]
      exact Or.inl ⟨r, rfl, rfl⟩
    · rw [show x0_game_L100 N V v1 v2 v3 (Int32.ofNat k) (Int32.ofNat l) N 1 = _ from r1, show m_game_L95 N M v1 v2 v3 (Int32.ofNat k) _ (Int32.ofNat l) N 1 = _ from r2, gs_lpr, gs_lpr]
      exact ih (l + 1) (by omega) (by omega) (by omega)
theorem z_g60 (hN : 500 ≤ N) (t : gmT V M m g) {v1 v2 : Int32} : ∀ (d i : Nat) {n n2 : Nat}, i + d = m → d < n → d < n2 → gmR V M (x0_game_L60 N V v1 v2 n (Int32.ofNat i)) (m_game_L55 N M v1 v2 n2 (Int32.ofNat i)) := by
  obtain ⟨t1, t2, t3, t4, t5, t6⟩ := id t
  intro d
  induction d with
  | zero =>
    intro i n n2 hi hn hn2
    obtain ⟨n, rfl⟩ : ∃ z, n = z + 1 := ⟨n - 1, by omega⟩
    obtain ⟨n2, rfl⟩ : ∃ z, n2 = z + 1 := ⟨n2 - 1, by omega⟩
    have : i = m := by omega
    subst this
    exact Or.inr ⟨by rw [x0_game_L60, t2, if_pos (i_le.mpr (Int.le_refl _))], by rw [m_game_L55, t3, if_pos (i_le.mpr (Int.le_refl _))]⟩
  | succ d ih =>
    intro i n n2 hi hn hn2
    obtain ⟨n, rfl⟩ : ∃ z, n = z + 1 := ⟨n - 1, by omega⟩
    obtain ⟨n2, rfl⟩ : ∃ z, n2 = z + 1 := ⟨n2 - 1, by omega⟩
    have e1 : Int32.ofNat i + 1 = Int32.ofNat (i + 1) := o_addr 1 i
    have ne : ¬ Int32.ofNat m ≤ Int32.ofNat i := by rw [o_le (by omega) (by omega)]; omega
    obtain ⟨q1, q2, q3, q4⟩ := t4 i (by omega)
    rw [x0_game_L60, t2, if_neg ne, gm_first t (by omega), gs_bd, m_game_L55, t3, if_neg ne, gs_gd (o_inb (by omega) (by omega)), gs_let, o_nat (by omega), q4, gs_gd (o_inb (by omega) (by omega)), gs_let, o_nat (by omega), t6 _ (by omega), e1]
    rcases z_g90 hN t (v1 := v1) (v2 := v2) (v3 := Int32.ofNat i) q2 (g i) 0 (n := N) (n2 := N) (by omega) (by omega) (by omega) with ⟨r, r1, r2⟩ | ⟨r1, r2⟩
    · rw [show x0_game_L90 N V v1 v2 (Int32.ofNat i) (Int32.ofNat (g i)) N 0 = _ from r1, show m_game_L85 N M v1 v2 (Int32.ofNat i) (Int32.ofNat (g i)) _ N 0 = _ from r2]
      exact Or.inl ⟨r, rfl, rfl⟩
    · rw [show x0_game_L90 N V v1 v2 (Int32.ofNat i) (Int32.ofNat (g i)) N 0 = _ from r1, show m_game_L85 N M v1 v2 (Int32.ofNat i) (Int32.ofNat (g i)) _ N 0 = _ from r2, gs_lpr, gs_lpr]
      exact ih (i + 1) (by omega) (by omega) (by omega)
end GAME2
theorem J_game {N : Nat} (hN : 1000 ≤ N) : lo_game JJ N := by
  intro Ds Df V c M a h
  have h0 := h.m0
  obtain ⟨P, H, b, ⟨-, -, -, -, -, -, -, -, -, -, t4⟩, -, -, jm', -⟩ := h.m0
  unfold x0_game m_game
  rw [isIn_eq, gs_let (x := gz_up M (1, 0, 0) 0 0)]
  generalize gz_up M (1, 0, 0) 0 0 = M1 at *
  rcases isIn_c (a := a) (b := 0) (c := 2) with w | ⟨w, w1, w2⟩
  · rw [if_pos w, if_pos w]
    exact ⟨V, M1, -1, rfl, rfl, h0⟩
  rw [w, if_neg n10, if_neg n10]
  have hz : V (11, 15, 0) 0 = 0 := jm'.2.2.2.2.2.2.2.2.1
  unfold x0_laysNims m_findsNimbers
  have n01 : ∀ i, i < 1 → V (11, 15, 0) i = Int32.ofNat (nmb i) := fun i hi => by
    have : i = 0 := by omega
    subst this
    rw [hz]
    rfl
  obtain ⟨V', a1, b1⟩ := x_nimW (N := N) (by omega) (V0 := V) 20 1 (n := N) (V := V) (by omega) (by omega) (by omega) ⟨n01, fun _ _ _ => rfl⟩
  obtain ⟨M', a2, b2⟩ := m_nimW (N := N) (by omega) (V0 := M1) 21 0 (n := N) (V := M1) (by omega) (by omega) ⟨fun i hi => by omega, fun _ _ _ => rfl⟩
  rw [show x0_laysNims_L2 N N V 1 = _ from a1, show m_findsNimbers_L2 N N M1 0 = _ from a2, gs_bd, gs_bd, gs_bd, gs_bd]
  obtain ⟨m, h1, h2, h3, h4⟩ := t4
  have t : gmT V' M' m (fun i => (V (34, 0, i) 0).toNatClampNeg) := by
    refine ⟨h1, by rw [b1.2 _ _ (Or.inl (by decide))]; exact h2, by rw [b2.2 _ _ (by decide)]; exact h3, fun i hi => ?_, b1.1, b2.1⟩
    obtain ⟨v, v1, v2, v3, v4⟩ := h4 i hi
    have v3' : V (34, 0, i) 0 = Int32.ofNat v := v3
    rw [b1.2 _ _ (Or.inl (by simp)), b2.2 _ _ (by simp)]
    dsimp only
    rw [v3', o_nat (by omega)]
    exact ⟨v1, v2, rfl, v4⟩
  have J2 : JJ Ds Df V' c M' := by
    refine h0.eq (fun n i hn => b1.2 n i ?_) (fun n i hn => b2.2 n i ?_)
    · by_cases q : n = (11, 15, 0)
      · subst q
        refine Or.inr ⟨?_, by decide, hz⟩
        simpa [jx] using hn
      · exact Or.inl q
    · rintro rfl
      revert hn
      simp [jm, relM]
  obtain ⟨s, s1, s2⟩ := z_nsum (N := N) t (v := a) m 0 (n := N) (n2 := N) (s := 0) (by omega) (by omega) (by omega)
  rw [show x0_game_L19 N V' a N 0 0 = _ from s1, show m_game_L25 N M' a N 0 0 = _ from s2, gs_bd, gs_bd]
  rcases z_g60 (N := N) (by omega) t (v1 := a) (v2 := s) m 0 (n := N) (n2 := N) (by omega) (by omega) (by omega) with ⟨r, r1, r2⟩ | ⟨r1, r2⟩
  · rw [show x0_game_L60 N V' a s N 0 = _ from r1, show m_game_L55 N M' a s N 0 = _ from r2]
    exact ⟨V', M', r, rfl, rfl, J2⟩
  · rw [show x0_game_L60 N V' a s N 0 = _ from r1, show m_game_L55 N M' a s N 0 = _ from r2]
    exact ⟨V', M', -1, rfl, rfl, J2⟩
