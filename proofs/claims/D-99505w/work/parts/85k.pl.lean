/-! kin: beside them -/
set_option maxRecDepth 100000
section KIN
variable {N P : Nat} {K : Nat → Nat} {Ds : gz_S} {Df : gz_R} {V M : gz_V}
/-- kin as both have it -/
def knT (Ds : gz_S) (Df : gz_R) (V M : gz_V) (P : Nat) (K : Nat → Nat) : Prop := P ≤ 12 ∧ V (20, 0, 0) 13 = Int32.ofNat P ∧ M (1, 0, 0) 6 = Int32.ofNat P ∧ (∃ n : gz_N, Df (20, 0, 0) 12 = some n ∧ 90 ≤ n.1 ∧ Ds n = some (100, 12) ∧ ∀ p, p < 12 → V n p = Int32.ofNat (K p)) ∧ (∀ p, p < 12 → M (2, 39, 0) p = Int32.ofNat (K p) ∧ K p < 2 ^ P) ∧ ∀ p q, p < 12 → q < 12 → (K p).testBit q = (K q).testBit p
theorem kn_of {H : Nat} (h : cS 0 P H Ds Df V M) : ∃ K, knT Ds Df V M P K := by
  obtain ⟨h1, h2, h3, h4, h5, h6, h7, h8, -, -, -, ⟨n, K, c1, c2, c3, c4, c5⟩⟩ := h
  exact ⟨K, h2, h4, h5, ⟨n, c1, c2, c3, fun p hp => (c4 p hp).1⟩, fun p hp => ⟨(c4 p hp).2.1, (c4 p hp).2.2⟩, c5⟩
def kbF (K : Nat → Nat) (S : Nat) : Nat → Nat
  | 0 => S
  | t + 1 => kbF K S t ||| (if S.testBit t = true then K t else 0)
theorem kbF_iff {S i : Nat} : ∀ t, (kbF K S t).testBit i = true ↔ S.testBit i = true ∨ ∃ p, p < t ∧ S.testBit p = true ∧ (K p).testBit i = true := by
  intro t
  induction t with
  | zero => exact ⟨Or.inl, fun h => h.elim id (fun ⟨p, h, _⟩ => by omega)⟩
  | succ t ih =>
    have e : kbF K S (t + 1) = kbF K S t ||| (if S.testBit t = true then K t else 0) := rfl
    rw [e, Nat.testBit_or, Bool.or_eq_true, ih]
    constructor
    · rintro ((h | ⟨p, p1, p2⟩) | h)
      · exact Or.inl h
      · exact Or.inr ⟨p, by omega, p2⟩
      · by_cases q : S.testBit t = true
        · rw [if_pos q] at h; exact Or.inr ⟨t, by omega, q, h⟩
        · rw [if_neg q, Nat.zero_testBit] at h; cases h
    · rintro (h | ⟨p, p1, p2, p3⟩)
      · exact Or.inl (Or.inl h)
      · by_cases q : p = t
        · subst q; exact Or.inr (by rw [if_pos p2]; exact p3)
        · exact Or.inl (Or.inr ⟨p, by omega, p2, p3⟩)
theorem kbF_lt (t : knT Ds Df V M P K) {S : Nat} (hS : S < 2 ^ P) : ∀ k, k ≤ P → kbF K S k < 2 ^ P := by
  intro k
  induction k with
  | zero => intro _; exact hS
  | succ k ih =>
    intro hk
    have e : kbF K S (k + 1) = kbF K S k ||| (if S.testBit k = true then K k else 0) := rfl
    rw [e]
    refine bt_orlt (ih (by omega)) ?_
    split
    · exact (t.2.2.2.2.1 k (by have := t.1; omega)).2
    · exact Nat.two_pow_pos P
theorem kbF_ge {S : Nat} : ∀ k, S ≤ kbF K S k := by
  intro k
  induction k with
  | zero => exact Nat.le_refl _
  | succ k ih => exact Nat.le_trans ih Nat.left_le_or
theorem x_bes (t : knT Ds Df V M P K) {S : Nat} (hS : S < 2 ^ P) : ∀ (d k : Nat) {n : Nat}, k + d = P → d < n → x0_besideKin_L4 N Ds Df V (Int32.ofNat S) n (Int32.ofNat (kbF K S k)) (Int32.ofNat k) = some (Int32.ofNat (kbF K S P)) := by
  obtain ⟨t1, t2, t3, ⟨nn, t4, t5, t6, t7⟩, t8, t9⟩ := id t
  have l := bt_4096 t1 hS
  intro d
  induction d with
  | zero =>
    intro k n hk hn
    obtain ⟨n, rfl⟩ : ∃ z, n = z + 1 := ⟨n - 1, by omega⟩
    have : k = P := by omega
    subst this
    rw [x0_besideKin_L4, t2, if_pos (i_le.mpr (Int.le_refl _))]
  | succ d ih =>
    intro k n hk hn
    obtain ⟨n, rfl⟩ : ∃ z, n = z + 1 := ⟨n - 1, by omega⟩
    have e1 : Int32.ofNat k + 1 = Int32.ofNat (k + 1) := o_addr 1 k
    have r := ih (k + 1) (n := n) (by omega) (by omega)
    rw [x0_besideKin_L4, t2, if_neg (by rw [o_le (by omega) (by omega)]; omega), t4, gs_bd, gs_gd ⟨t5, t6⟩, gs_gd (o_inb (by omega) (by omega)), o_nat (by omega), t7 k (by omega), e1]
    have e : kbF K S (k + 1) = kbF K S k ||| (if S.testBit k = true then K k else 0) := rfl
    rw [e] at r
    by_cases q : S.testBit k = true
    · rw [if_pos q] at r
      rw [if_pos ((bt_h1 (by omega) (by omega)).mpr q), gs_bd, gs_let, bt_or]
      exact r
    · rw [if_neg q] at r
      rw [if_neg (fun z => q ((bt_h1 (by omega) (by omega)).mp z)), gs_bd, gs_let, show (0 : Int32) = Int32.ofNat 0 from rfl, bt_or]
      exact r
theorem x_beside (hN : 500 ≤ N) (t : knT Ds Df V M P K) {S : Nat} (hS : S < 2 ^ P) : x0_besideKin N Ds Df V (Int32.ofNat S) = some (Int32.ofNat (kbF K S P)) := by
  have := t.1
  unfold x0_besideKin
  rw [show x0_besideKin_L4 N Ds Df V (Int32.ofNat S) N (Int32.ofNat S) 0 = _ from x_bes (N := N) t hS P 0 (n := N) (by omega) (by omega), gs_bd]
theorem m_bes (t : knT Ds Df V M P K) {S : Nat} (hS : S < 2 ^ P) : ∀ (d k : Nat) {n : Nat}, k + d = P → d < n → m_caughtFrom_L4 N M (Int32.ofNat S) n (Int32.ofNat (kbF K S k)) (Int32.ofNat k) = some (Int32.ofNat (kbF K S P)) := by
  obtain ⟨t1, t2, t3, t4, t8, t9⟩ := id t
  have l := bt_4096 t1 hS
  intro d
  induction d with
  | zero =>
    intro k n hk hn
    obtain ⟨n, rfl⟩ : ∃ z, n = z + 1 := ⟨n - 1, by omega⟩
    have : k = P := by omega
    subst this
    rw [m_caughtFrom_L4, t3, if_pos (i_le.mpr (Int.le_refl _))]
  | succ d ih =>
    intro k n hk hn
    obtain ⟨n, rfl⟩ : ∃ z, n = z + 1 := ⟨n - 1, by omega⟩
    have e1 : Int32.ofNat k + 1 = Int32.ofNat (k + 1) := o_addr 1 k
    have r := ih (k + 1) (n := n) (by omega) (by omega)
    rw [m_caughtFrom_L4, t3, if_neg (by rw [o_le (by omega) (by omega)]; omega), e1]
    have e : kbF K S (k + 1) = kbF K S k ||| (if S.testBit k = true then K k else 0) := rfl
    rw [e] at r
    by_cases q : S.testBit k = true
    · rw [if_pos q] at r
      rw [if_neg (by rw [bt_m0 (by omega) (by omega)]; simp [q]), gs_gd (o_inb (by omega) (by omega)), gs_let, gs_bd, o_nat (by omega), (t8 k (by omega)).1, bt_or]
      exact r
    · rw [if_neg q, Nat.or_zero] at r
      rw [if_pos (by rw [bt_m0 (by omega) (by omega)]; simpa using q), gs_bd]
      exact r
theorem m_caught (hN : 500 ≤ N) (t : knT Ds Df V M P K) {S : Nat} (hS : S < 2 ^ P) : m_caughtFrom N M (Int32.ofNat S) = some (Int32.ofNat (kbF K S P)) := by
  have := t.1
  unfold m_caughtFrom
  rw [show m_caughtFrom_L4 N M (Int32.ofNat S) N (Int32.ofNat S) 0 = _ from m_bes (N := N) t hS P 0 (n := N) (by omega) (by omega), gs_bd]
theorem z_cold (hN : 500 ≤ N) (t : knT Ds Df V M P K) {a : Int32} (ha : a = -1 ∨ ∃ w, w ≤ 20 ∧ a = Int32.ofNat w) : ∀ (d S c : Nat) {n n2 : Nat}, 4096 ≤ S + d → S < 2 ^ P → c + d < 10000 → (∀ w, w ≤ 20 → a = Int32.ofNat w → c ≤ w) → d < n → d < n2 → ∃ S' c', x0_cold_L27 N Ds Df V a n (Int32.ofNat S) (Int32.ofNat c) = some (Int32.ofNat S', c') ∧ m_cold_L33 N M a n2 (Int32.ofNat S) (Int32.ofNat c) = some (Int32.ofNat S', c') ∧ S' < 2 ^ P := by
  have t1 := t.1
  intro d
  induction d with
  | zero =>
    intro S c n n2 h1 h2
    have := bt_4096 t1 h2
    omega
  | succ d ih =>
    intro S c n n2 h1 hS h3 hc hn hn2
    obtain ⟨n, rfl⟩ : ∃ z, n = z + 1 := ⟨n - 1, by omega⟩
    obtain ⟨n2, rfl⟩ : ∃ z, n2 = z + 1 := ⟨n2 - 1, by omega⟩
    have e1 : Int32.ofNat c + 1 = Int32.ofNat (c + 1) := o_addr 1 c
    have lk := kbF_lt t hS P (Nat.le_refl P)
    have l1 := bt_4096 t1 hS
    have l2 := bt_4096 t1 lk
    have ge : S ≤ kbF K S P := kbF_ge P
    have stop : (kbF K S P = S) → Int32.ofNat (kbF K S P) = Int32.ofNat S := fun e => by rw [e]
    have go : ¬ (kbF K S P = S) → ¬ Int32.ofNat (kbF K S P) = Int32.ofNat S := fun e => by rw [o_eq (by omega) (by omega)]; exact e
    rw [x0_cold_L27, m_cold_L33, x_beside hN t hS, m_caught hN t hS]
    simp only [gs_bd]
    rw [e1]
    rcases ha with rfl | ⟨w, hw, rfl⟩
    · have nc : ¬ Int32.ofNat c = -1 := by
        rw [i_eq, i_of (by omega)]
        show ¬ (c : Int) = -1
        omega
      rw [if_pos rfl, if_neg nc]
      by_cases q : kbF K S P = S
      · rw [if_pos (stop q), if_pos (stop q)]
        exact ⟨S, _, rfl, rfl, hS⟩
      · rw [if_neg (go q), if_neg (go q)]
        exact ih (kbF K S P) (c + 1) (by omega) lk (by omega) (fun w hw e => by
          have : ∀ w, w ≤ 20 → ¬ (-1 : Int32) = Int32.ofNat w := by decide
          exact absurd e (this w hw)) (by omega) (by omega)
    · have nw : ¬ Int32.ofNat w = -1 := (show ∀ w, w < 21 → ¬ Int32.ofNat w = -1 by decide) w (by omega)
      have cw := hc w hw rfl
      rw [if_neg nw]
      by_cases e : c = w
      · subst e
        rw [if_pos (i_le.mpr (Int.le_refl _)), if_pos rfl]
        exact ⟨S, _, rfl, rfl, hS⟩
      · rw [if_neg (by rw [o_le (by omega) (by omega)]; omega), if_neg (show ¬ Int32.ofNat c = Int32.ofNat w by rw [o_eq (by omega) (by omega)]; exact e)]
        by_cases q : kbF K S P = S
        · rw [if_pos (stop q), if_pos (stop q)]
          exact ⟨S, _, rfl, rfl, hS⟩
        · rw [if_neg (go q), if_neg (go q)]
          exact ih (kbF K S P) (c + 1) (by omega) lk (by omega) (fun w' hw' e' => by
            rw [o_eq (by omega) (by omega)] at e'
            omega) (by omega) (by omega)
end KIN
theorem J_cold {N : Nat} (hN : 10000 ≤ N) : lo_cold JJ N := by
  intro Ds Df V c M a1 a2 h
  have h0 := h.m0
  obtain ⟨P, H, b, ⟨hS, -⟩, -⟩ := h.m0
  obtain ⟨e1, q1⟩ := hS.isP a1
  obtain ⟨K, t⟩ := kn_of hS
  have t1 := t.1
  unfold x0_cold m_cold
  rw [gs_let (x := gz_up M (1, 0, 0) 0 0), isIn_eq, e1]
  generalize gz_up M (1, 0, 0) 0 0 = M1 at *
  rcases q1 with q1 | ⟨q1, p, hp, rfl⟩
  · rw [if_pos q1, if_pos q1]
    exact ⟨M1, -1, rfl, rfl, h0⟩
  rw [q1, if_neg n10, if_neg n10]
  rcases isIn_c (a := a2) (b := -1) (c := 20) with w | ⟨w, w1, w2⟩
  · rw [if_pos w, if_pos w]
    exact ⟨M1, -1, rfl, rfl, h0⟩
  rw [w, if_neg n10, if_neg n10]
  have z1 : (-1 : Int32).toInt = -1 := rfl
  have z8 : (20 : Int32).toInt = 20 := rfl
  have ha : a2 = -1 ∨ ∃ w, w ≤ 20 ∧ a2 = Int32.ofNat w := by
    by_cases e : a2 = -1
    · exact Or.inl e
    · have : a2.toInt ≠ -1 := fun z => e (i_eq.mpr z)
      obtain ⟨w0, hw, rfl⟩ := o_ex (a := a2) (n := 21) (by omega) (by omega)
      exact Or.inr ⟨w0, by omega, rfl⟩
  obtain ⟨S', c', r1, r2, r3⟩ := z_cold (N := N) (by omega) t ha 4096 (2 ^ p) 0 (n := N) (n2 := N) (Nat.le_add_left _ _) (bt_pl hp) (by omega) (fun _ _ _ => Nat.zero_le _) (by omega) (by omega)
  rw [gs_let, gs_let, bt_sh p (by omega), show x0_cold_L27 N Ds Df V a2 N (Int32.ofNat (2 ^ p)) 0 = _ from r1, show m_cold_L33 N M1 a2 N (Int32.ofNat (2 ^ p)) 0 = _ from r2, gs_b2, gs_b2]
  have l := bt_4096 t1 r3
  by_cases e : a2 = -1
  · rw [if_pos e, if_pos e]
    exact ⟨M1, c', rfl, rfl, h0⟩
  · rw [if_neg e, if_neg e, bt_cnt l, m_ones (by omega) l, gs_bd]
    exact ⟨M1, _, rfl, rfl, h0⟩
