/-! THE TWIN's rows: kept, put back -/
set_option maxRecDepth 100000
section ROWS
variable {N : Nat}
/-- a row is copied: from row B at y to row A at z -/
def rcp (A B z y t : Nat) (M0 M : gz_V) : Prop := (∀ i, i < t → M (2, A, 0) (z + i) = M0 (2, B, 0) (y + i)) ∧ (∀ n i, n ≠ (2, A, 0) ∨ i < z ∨ z + t ≤ i → M n i = M0 n i)
theorem rcp.st {A B z y t : Nat} {M0 M : gz_V} (h : rcp A B z y t M0 M) (hAB : A ≠ B) : rcp A B z y (t + 1) M0 (gz_up M (2, A, 0) (z + t) (M (2, B, 0) (y + t))) := by
  have e : M (2, B, 0) (y + t) = M0 (2, B, 0) (y + t) := h.2 _ _ (Or.inl (by simp; omega))
  refine ⟨fun i hi => ?_, fun n i hn => ?_⟩
  · rw [up_at]
    by_cases q : i = t
    · rw [q, if_pos ⟨rfl, rfl⟩, e]
    · rw [if_neg (by omega)]
      exact h.1 i (by omega)
  · rw [up_at, if_neg]
    · exact h.2 n i (by rcases hn with q | q | q; exact Or.inl q; exact Or.inr (Or.inl q); exact Or.inr (Or.inr (by omega)))
    · rintro ⟨rfl, rfl⟩
      rcases hn with q | q | q
      · exact q rfl
      · omega
      · omega
theorem m_thinksL {M0 : gz_V} : ∀ (d t : Nat) {n : Nat} {M : gz_V}, t + d = 121 → d < n → rcp 4 1 0 0 t M0 M → ∃ M', m_thinks_L2 N n M (Int32.ofNat t) = some M' ∧ rcp 4 1 0 0 121 M0 M' := by
  intro d
  induction d with
  | zero =>
    intro t n M ht hn h
    obtain ⟨n, rfl⟩ : ∃ z, n = z + 1 := ⟨n - 1, by omega⟩
    have t5 : t = 121 := by omega
    subst t5
    exact ⟨M, by rw [m_thinks_L2, if_pos (by decide)], h⟩
  | succ d ih =>
    intro t n M ht hn h
    obtain ⟨n, rfl⟩ : ∃ z, n = z + 1 := ⟨n - 1, by omega⟩
    have e1 : Int32.ofNat t + 1 = Int32.ofNat (t + 1) := o_addr 1 t
    have s := h.st (by decide)
    rw [Nat.zero_add] at s
    obtain ⟨M', a, b⟩ := ih (t + 1) (n := n) (by omega) (by omega) s
    refine ⟨M', ?_, b⟩
    rw [m_thinks_L2, if_neg (by rw [o_lel (by decide) (by omega)]; show ¬ 121 ≤ t; omega), gs_gd (o_inb (by omega) (by omega)), gs_gd (o_inb (by omega) (by omega)), gs_let, o_nat (by omega), e1]
    exact a
theorem m_endsL {M0 : gz_V} : ∀ (d t : Nat) {n : Nat} {M : gz_V}, t + d = 121 → d < n → rcp 1 4 0 0 t M0 M → ∃ M', m_endsThought_L2 N n M (Int32.ofNat t) = some M' ∧ rcp 1 4 0 0 121 M0 M' := by
  intro d
  induction d with
  | zero =>
    intro t n M ht hn h
    obtain ⟨n, rfl⟩ : ∃ z, n = z + 1 := ⟨n - 1, by omega⟩
    have t5 : t = 121 := by omega
    subst t5
    exact ⟨M, by rw [m_endsThought_L2, if_pos (by decide)], h⟩
  | succ d ih =>
    intro t n M ht hn h
    obtain ⟨n, rfl⟩ : ∃ z, n = z + 1 := ⟨n - 1, by omega⟩
    have e1 : Int32.ofNat t + 1 = Int32.ofNat (t + 1) := o_addr 1 t
    have s := h.st (by decide)
    rw [Nat.zero_add] at s
    obtain ⟨M', a, b⟩ := ih (t + 1) (n := n) (by omega) (by omega) s
    refine ⟨M', ?_, b⟩
    rw [m_endsThought_L2, if_neg (by rw [o_lel (by decide) (by omega)]; show ¬ 121 ≤ t; omega), gs_gd (o_inb (by omega) (by omega)), gs_gd (o_inb (by omega) (by omega)), gs_let, o_nat (by omega), e1]
    exact a
theorem m_keepsL {M0 : gz_V} {u : Nat} (hu : u < 6) (h3 : M0 (1, 0, 0) 3 = Int32.ofNat u) : ∀ (d t : Nat) {n : Nat} {M : gz_V}, t + d = 121 → d < n → rcp 2 1 (121 * u) 0 t M0 M → ∃ M', m_keepsAhead_L55 N n M (Int32.ofNat t) = some M' ∧ rcp 2 1 (121 * u) 0 121 M0 M' := by
  intro d
  induction d with
  | zero =>
    intro t n M ht hn h
    obtain ⟨n, rfl⟩ : ∃ z, n = z + 1 := ⟨n - 1, by omega⟩
    have t5 : t = 121 := by omega
    subst t5
    exact ⟨M, by rw [m_keepsAhead_L55, if_pos (by decide)], h⟩
  | succ d ih =>
    intro t n M ht hn h
    obtain ⟨n, rfl⟩ : ∃ z, n = z + 1 := ⟨n - 1, by omega⟩
    have e1 : Int32.ofNat t + 1 = Int32.ofNat (t + 1) := o_addr 1 t
    have e3 : M (1, 0, 0) 3 = Int32.ofNat u := (h.2 _ _ (Or.inl (by decide))).trans h3
    have s := h.st (by decide)
    rw [Nat.zero_add] at s
    obtain ⟨M', a, b⟩ := ih (t + 1) (n := n) (by omega) (by omega) s
    refine ⟨M', ?_, b⟩
    rw [m_keepsAhead_L55, if_neg (by rw [o_lel (by decide) (by omega)]; show ¬ 121 ≤ t; omega), e3, o_mull, o_add, gs_gd (o_inb (by omega) (by omega)), gs_gd (o_inb (by omega) (by omega)), gs_let, o_nat (show t < 2147483648 by omega), o_nat (show 121 * u + t < 2147483648 by omega), e1]
    exact a
theorem m_undoL {M0 : gz_V} {u : Nat} (hu : u < 6) (h3 : M0 (1, 0, 0) 3 = Int32.ofNat u) : ∀ (d t : Nat) {n : Nat} {M : gz_V}, t + d = 121 → d < n → rcp 1 2 0 (121 * u) t M0 M → ∃ M', m_undo_L26 N n M (Int32.ofNat t) = some M' ∧ rcp 1 2 0 (121 * u) 121 M0 M' := by
  intro d
  induction d with
  | zero =>
    intro t n M ht hn h
    obtain ⟨n, rfl⟩ : ∃ z, n = z + 1 := ⟨n - 1, by omega⟩
    have t5 : t = 121 := by omega
    subst t5
    exact ⟨M, by rw [m_undo_L26, if_pos (by decide)], h⟩
  | succ d ih =>
    intro t n M ht hn h
    obtain ⟨n, rfl⟩ : ∃ z, n = z + 1 := ⟨n - 1, by omega⟩
    have e1 : Int32.ofNat t + 1 = Int32.ofNat (t + 1) := o_addr 1 t
    have e3 : M (1, 0, 0) 3 = Int32.ofNat u := (h.2 _ _ (Or.inl (by decide))).trans h3
    have s := h.st (by decide)
    rw [Nat.zero_add] at s
    obtain ⟨M', a, b⟩ := ih (t + 1) (n := n) (by omega) (by omega) s
    refine ⟨M', ?_, b⟩
    rw [m_undo_L26, if_neg (by rw [o_lel (by decide) (by omega)]; show ¬ 121 ≤ t; omega), e3, o_mull, o_add, gs_gd (o_inb (by omega) (by omega)), gs_gd (o_inb (by omega) (by omega)), gs_let, o_nat (show t < 2147483648 by omega), o_nat (show 121 * u + t < 2147483648 by omega), e1]
    exact a
/-- all rows move one down -/
theorem m_downL {M0 : gz_V} (h3 : M0 (1, 0, 0) 3 = Int32.ofNat 5) : ∀ (d t : Nat) {n : Nat} {M : gz_V}, t + d = 605 → d < n → (∀ i, i < t → M (2, 2, 0) i = M0 (2, 2, 0) (i + 121)) → (∀ n i, n ≠ (2, 2, 0) ∨ t ≤ i → M n i = M0 n i) → ∃ M', m_keepsAhead_L21 N n M (Int32.ofNat t) = some M' ∧ (∀ i, i < 605 → M' (2, 2, 0) i = M0 (2, 2, 0) (i + 121)) ∧ ∀ n i, n ≠ (2, 2, 0) → M' n i = M0 n i := by
  intro d
  induction d with
  | zero =>
    intro t n M ht hn h h'
    obtain ⟨n, rfl⟩ : ∃ z, n = z + 1 := ⟨n - 1, by omega⟩
    refine ⟨M, ?_, fun i hi => h i (by omega), fun n i hn => h' n i (Or.inl hn)⟩
    rw [m_keepsAhead_L21, h' _ _ (Or.inl (by decide)), h3, o_mull, if_pos (by rw [o_le (by decide) (by omega)]; omega)]
  | succ d ih =>
    intro t n M ht hn h h'
    obtain ⟨n, rfl⟩ : ∃ z, n = z + 1 := ⟨n - 1, by omega⟩
    have e1 : Int32.ofNat t + 1 = Int32.ofNat (t + 1) := o_addr 1 t
    obtain ⟨M', a, b, c⟩ := ih (t + 1) (n := n) (M := gz_up M (2, 2, 0) t (M (2, 2, 0) (t + 121))) (by omega) (by omega) (fun i hi => by
      rw [up_at]
      by_cases q : i = t
      · rw [q, if_pos ⟨rfl, rfl⟩]
        exact h' _ _ (Or.inr (by omega))
      · rw [if_neg (by omega)]
        exact h i (by omega)) (fun n i hn => by
      rw [up_at, if_neg]
      · exact h' n i (by rcases hn with q | q; exact Or.inl q; exact Or.inr (by omega))
      · rintro ⟨rfl, rfl⟩
        rcases hn with q | q
        · exact q rfl
        · omega)
    refine ⟨M', ?_, b, c⟩
    rw [m_keepsAhead_L21, h' (1, 0, 0) 3 (Or.inl (by decide)), h3, o_mull, if_neg (by rw [o_le (by decide) (by omega)]; omega), o_addr, gs_gd (o_inb (by omega) (by omega)), gs_gd (o_inb (by omega) (by omega)), gs_let, o_nat (show t < 2147483648 by omega), o_nat (show t + 121 < 2147483648 by omega), e1]
    exact a
end ROWS
