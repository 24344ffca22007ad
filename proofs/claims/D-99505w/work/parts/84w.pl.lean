/-! person -/
set_option maxRecDepth 100000
section PRS
variable {N P : Nat}
theorem x_traits {a1 a2 : Int32} : ∀ (d t : Nat) {n : Nat} {V : gz_V}, t + d = 5 → d < n → ∃ V', x4_begins_L2 N 0 P a1 a2 n V (Int32.ofNat t) = some V' ∧ ∀ m i, V' m i = if m = (41, 0, P) ∧ t ≤ i ∧ i < 5 then a2 else V m i := by
  intro d
  induction d with
  | zero =>
    intro t n V ht hn
    obtain ⟨n, rfl⟩ : ∃ z, n = z + 1 := ⟨n - 1, by omega⟩
    refine ⟨V, by rw [x4_begins_L2, if_pos (by rw [o_lel (by decide) (by omega)]; show 5 ≤ t; omega)], fun m i => ?_⟩
    rw [if_neg (by omega)]
  | succ d ih =>
    intro t n V ht hn
    obtain ⟨n, rfl⟩ : ∃ z, n = z + 1 := ⟨n - 1, by omega⟩
    have e1 : Int32.ofNat t + 1 = Int32.ofNat (t + 1) := o_addr 1 t
    obtain ⟨V', a, b⟩ := ih (t + 1) (n := n) (V := gz_up V (41, 0, P) t a2) (by omega) (by omega)
    refine ⟨V', ?_, fun m i => ?_⟩
    · rw [x4_begins_L2, if_neg (by rw [o_lel (by decide) (by omega)]; show ¬ 5 ≤ t; omega), gs_gd (o_inb (by omega) (by omega)), gs_let, o_nat (by omega), e1]
      exact a
    · rw [b, up_at]
      by_cases q : m = (41, 0, P)
      · by_cases q2 : i = t
        · rw [if_neg (by omega), if_pos ⟨q, q2⟩, if_pos ⟨q, by omega⟩]
        · by_cases q3 : t + 1 ≤ i ∧ i < 5
          · rw [if_pos ⟨q, q3⟩, if_pos ⟨q, by omega⟩]
          · rw [if_neg (fun z => q3 z.2), if_neg (fun z => q2 z.2), if_neg (fun z => q3 (by omega))]
      · rw [if_neg (fun z => q z.1), if_neg (fun z => q z.1), if_neg (fun z => q z.1)]
theorem m_traits {a1 a2 : Int32} (hP : P < 12) (h2 : 0 ≤ a2.toInt ∧ a2.toInt ≤ 999) : ∀ (d t : Nat) {n : Nat} {M : gz_V}, t + d = 5 → d < n → M (1, 0, 0) 6 = Int32.ofNat P → ∃ M', m_person_L42 N a1 a2 n M (Int32.ofNat t) = some M' ∧ ∀ m i, M' m i = if m = (2, 1, 0) ∧ 5 + 5 * P + t ≤ i ∧ i < 5 + 5 * P + 5 then a2 else M m i := by
  intro d
  induction d with
  | zero =>
    intro t n M ht hn h6
    obtain ⟨n, rfl⟩ : ∃ z, n = z + 1 := ⟨n - 1, by omega⟩
    refine ⟨M, by rw [m_person_L42, if_pos (by rw [o_lel (by decide) (by omega)]; show 5 ≤ t; omega)], fun m i => ?_⟩
    rw [if_neg (by omega)]
  | succ d ih =>
    intro t n M ht hn h6
    obtain ⟨n, rfl⟩ : ∃ z, n = z + 1 := ⟨n - 1, by omega⟩
    have e1 : Int32.ofNat t + 1 = Int32.ofNat (t + 1) := o_addr 1 t
    obtain ⟨M', a, b⟩ := ih (t + 1) (n := n) (M := gz_up M (2, 1, 0) (5 + 5 * P + t) a2) (by omega) (by omega) (by rw [up_ne (by decide)]; exact h6)
    refine ⟨M', ?_, fun m i => ?_⟩
    · rw [m_person_L42, if_neg (by rw [o_lel (by decide) (by omega)]; show ¬ 5 ≤ t; omega), h6, m_hasTrait_ok hP (by omega), gs_bd, held_id h2.1 h2.2, e1]
      exact a
    · rw [b, up_at]
      by_cases q : m = (2, 1, 0)
      · by_cases q2 : i = 5 + 5 * P + t
        · rw [if_neg (by omega), if_pos ⟨q, q2⟩, if_pos ⟨q, by omega⟩]
        · by_cases q3 : 5 + 5 * P + (t + 1) ≤ i ∧ i < 5 + 5 * P + 5
          · rw [if_pos ⟨q, q3⟩, if_pos ⟨q, by omega⟩]
          · rw [if_neg (fun z => q3 z.2), if_neg (fun z => q2 z.2), if_neg (fun z => q3 (by omega))]
      · rw [if_neg (fun z => q z.1), if_neg (fun z => q z.1), if_neg (fun z => q z.1)]
end PRS
