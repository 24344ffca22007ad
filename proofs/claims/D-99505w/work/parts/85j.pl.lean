/-! ones and the lowest one -/
set_option maxRecDepth 100000
def onK : Nat → Nat → Nat
  | 0, _ => 0
  | f + 1, S => if S = 0 then 0 else 1 + onK f (S &&& (S - 1))
def onZ : Nat → Nat → Bool
  | 0, S => S == 0
  | f + 1, S => S == 0 || onZ f (S &&& (S - 1))
def loB (W : Nat) : Nat → Nat → Nat
  | 0, i => i
  | f + 1, i => if W.testBit i = true then i else loB W f (i + 1)
def lo (W : Nat) : Nat := loB W 12 0
theorem bt_tab : ∀ h, h < 64 → ∀ l, l < 64 → onZ 12 (64 * h + l) = true ∧ j13_bitCount (Int32.ofNat (64 * h + l)) = Int32.ofNat (onK 12 (64 * h + l)) ∧ onK 12 (64 * h + l) ≤ 12 := by decide +kernel
theorem bt_tab2 : ∀ h, h < 64 → ∀ l, l < 64 → 64 * h + l ≠ 0 → j13_numberOfTrailingZeros (Int32.ofNat (64 * h + l)) = Int32.ofNat (lo (64 * h + l)) ∧ Int32.ofNat (64 * h + l) &&& (- Int32.ofNat (64 * h + l)) = Int32.ofNat (2 ^ lo (64 * h + l)) ∧ (64 * h + l).testBit (lo (64 * h + l)) = true ∧ lo (64 * h + l) < 12 := by decide +kernel
section ONES
variable {N S : Nat}
theorem bt_cnt (h : S < 4096) : j13_bitCount (Int32.ofNat S) = Int32.ofNat (onK 12 S) := by
  have := (bt_tab (S / 64) (by omega) (S % 64) (by omega)).2.1
  rw [Nat.div_add_mod] at this
  exact this
theorem bt_12 (h : S < 4096) : onK 12 S ≤ 12 := by
  have := (bt_tab (S / 64) (by omega) (S % 64) (by omega)).2.2
  rw [Nat.div_add_mod] at this
  exact this
theorem bt_ntz (h : S < 4096) (h0 : S ≠ 0) : j13_numberOfTrailingZeros (Int32.ofNat S) = Int32.ofNat (lo S) := by
  have := bt_tab2 (S / 64) (by omega) (S % 64) (by omega)
  rw [Nat.div_add_mod] at this
  exact (this h0).1
theorem bt_low (h : S < 4096) (h0 : S ≠ 0) : Int32.ofNat S &&& (- Int32.ofNat S) = Int32.ofNat (2 ^ lo S) := by
  have := bt_tab2 (S / 64) (by omega) (S % 64) (by omega)
  rw [Nat.div_add_mod] at this
  exact (this h0).2.1
theorem lo_at (h : S < 4096) (h0 : S ≠ 0) : S.testBit (lo S) = true ∧ lo S < 12 := by
  have := bt_tab2 (S / 64) (by omega) (S % 64) (by omega)
  rw [Nat.div_add_mod] at this
  exact (this h0).2.2
theorem loB_lt : ∀ (f i : Nat), ∀ j, i ≤ j → j < loB S f i → S.testBit j = false := by
  intro f
  induction f with
  | zero => intro i j h1 h2; unfold loB at h2; omega
  | succ f ih =>
    intro i j h1 h2
    unfold loB at h2
    by_cases q : S.testBit i = true
    · rw [if_pos q] at h2; omega
    · rw [if_neg q] at h2
      by_cases e : i = j
      · subst e; simpa using q
      · exact ih (i + 1) j (by omega) h2
theorem lo_lt {j : Nat} (h : j < lo S) : S.testBit j = false := loB_lt 12 0 j (Nat.zero_le _) h
theorem lo_le {j : Nat} (h : S.testBit j = true) : lo S ≤ j := by
  by_cases q : lo S ≤ j
  · exact q
  · rw [lo_lt (by omega)] at h; cases h
theorem m_onesL : ∀ (f : Nat) {n c S : Nat}, onZ f S = true → S < 4096 → f < n → m_onesOf_L4 N n (Int32.ofNat c) (Int32.ofNat S) = some (Int32.ofNat (c + onK f S)) := by
  intro f
  induction f with
  | zero =>
    intro n c S hz hS hn
    obtain ⟨n, rfl⟩ : ∃ z, n = z + 1 := ⟨n - 1, by omega⟩
    have : S = 0 := by simpa [onZ] using hz
    subst this
    rw [m_onesOf_L4, if_pos (show Int32.ofNat 0 = 0 from rfl)]
    rfl
  | succ f ih =>
    intro n c S hz hS hn
    obtain ⟨n, rfl⟩ : ∃ z, n = z + 1 := ⟨n - 1, by omega⟩
    have e1 : Int32.ofNat c + 1 = Int32.ofNat (c + 1) := o_addr 1 c
    unfold onK
    by_cases h0 : S = 0
    · subst h0
      rw [m_onesOf_L4, if_pos (show Int32.ofNat 0 = 0 from rfl), if_pos rfl]
      rfl
    · have l : S &&& (S - 1) ≤ S := Nat.and_le_left
      unfold onZ at hz
      rw [Bool.or_eq_true] at hz
      have hz' : onZ f (S &&& (S - 1)) = true := by
        rcases hz with q | q
        · exact absurd (by simpa using q) h0
        · exact q
      rw [m_onesOf_L4, if_neg (by rw [bt_z (by omega)]; exact h0), gs_let, gs_let, e1, show Int32.ofNat S - 1 = Int32.ofNat (S - 1) from o_sub (c := 1) (by omega) (by omega), bt_and, ih hz' (by omega) (by omega), if_neg h0, Nat.add_assoc]
theorem m_ones (hN : 500 ≤ N) (hS : S < 4096) : m_onesOf N (Int32.ofNat S) = some (Int32.ofNat (onK 12 S)) := by
  have hz := (bt_tab (S / 64) (by omega) (S % 64) (by omega)).1
  rw [Nat.div_add_mod] at hz
  have r := m_onesL (N := N) 12 (n := N) (c := 0) hz hS (by omega)
  unfold m_onesOf
  rw [show m_onesOf_L4 N N 0 (Int32.ofNat S) = _ from r, gs_bd, Nat.zero_add]
/-- more in more -/
theorem sgC_lt {f g : Nat → Bool} : ∀ (n : Nat), (∀ i, i < n → f i = true → g i = true) → sgC f n ≤ sgC g n ∧ ((∃ j, j < n ∧ f j = false ∧ g j = true) → sgC f n < sgC g n) := by
  intro n
  induction n with
  | zero => intro _; exact ⟨Nat.le_refl _, fun ⟨j, h, _⟩ => by omega⟩
  | succ n ih =>
    intro h
    obtain ⟨i1, i2⟩ := ih (fun i hi => h i (by omega))
    have e1 : sgC f (n + 1) = sgC f n + (if f n = true then 1 else 0) := rfl
    have e2 : sgC g (n + 1) = sgC g n + (if g n = true then 1 else 0) := rfl
    have hn := h n (by omega)
    rw [e1, e2]
    refine ⟨?_, fun ⟨j, j1, j2, j3⟩ => ?_⟩
    · by_cases q : f n = true
      · rw [if_pos q, if_pos (hn q)]; omega
      · rw [if_neg q]; omega
    · by_cases q : j = n
      · subst q
        rw [if_pos j3, if_neg (by simp [j2])]; omega
      · have := i2 ⟨j, by omega, j2, j3⟩
        by_cases q : f n = true
        · rw [if_pos q, if_pos (hn q)]; omega
        · rw [if_neg q]; omega
end ONES
