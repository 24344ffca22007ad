/-! prices -/
set_option maxRecDepth 100000
section PRICES
variable {N a b : Nat}
/-- a sum that can be paid -/
def Rp (a b n : Nat) : Prop := ∃ x y, n = a * x + b * y
noncomputable def nRp (a b n : Nat) : Bool := @decide (¬ Rp a b n) (Classical.propDecidable _)
theorem nRp_iff {n : Nat} : nRp a b n = true ↔ ¬ Rp a b n := @decide_eq_true_iff _ (Classical.propDecidable _)
theorem Rp_rec {n : Nat} : Rp a b n ↔ n = 0 ∨ (a ≤ n ∧ Rp a b (n - a)) ∨ (b ≤ n ∧ Rp a b (n - b)) := by
  constructor
  · rintro ⟨x, y, rfl⟩
    cases x with
    | succ x => exact Or.inr (Or.inl ⟨by rw [Nat.mul_succ]; omega, x, y, by rw [Nat.mul_succ]; omega⟩)
    | zero =>
      cases y with
      | zero => exact Or.inl (by simp)
      | succ y => exact Or.inr (Or.inr ⟨by rw [Nat.mul_succ]; omega, 0, y, by rw [Nat.mul_succ]; omega⟩)
  · rintro (rfl | ⟨h, x, y, e⟩ | ⟨h, x, y, e⟩)
    · exact ⟨0, 0, by simp⟩
    · exact ⟨x + 1, y, by rw [Nat.mul_succ]; omega⟩
    · exact ⟨x, y + 1, by rw [Nat.mul_succ]; omega⟩
def prU (a b : Nat) : Nat → Nat
  | 0 => 0
  | n + 1 => if a * n % b = 1 then n else prU a b n
theorem pr_inv0 : ∀ a, a < 61 → ∀ b, b < 61 → 2 ≤ b → Nat.gcd a b = 1 → a * prU a b b % b = 1 := by decide +kernel
theorem pr_inv {a b : Nat} (ha : a < 61) (hb : b < 61) (h2 : 2 ≤ b) (h : Nat.gcd a b = 1) : ∃ u, a * u % b = 1 := ⟨_, pr_inv0 a ha b hb h2 h⟩
theorem pr_x {u : Nat} (hb : 2 ≤ b) (hu : a * u % b = 1) (n : Nat) : ∃ x, x < b ∧ (a * x) % b = n % b := by
  refine ⟨n * u % b, Nat.mod_lt _ (by omega), ?_⟩
  rw [Nat.mul_mod_mod, show a * (n * u) = n * (a * u) by rw [Nat.mul_left_comm], ← Nat.mul_mod_mod, hu, Nat.mul_one]
theorem pr_le {u n : Nat} (hb : 2 ≤ b) (hu : a * u % b = 1) : ∃ x, x < b ∧ ((∃ y, n = a * x + b * y) ∨ ∃ t, 1 ≤ t ∧ a * x = n + b * t) := by
  obtain ⟨x, hx, e⟩ := pr_x hb hu n
  refine ⟨x, hx, ?_⟩
  have d1 := Nat.div_add_mod (a * x) b
  have d2 := Nat.div_add_mod n b
  by_cases h : a * x / b ≤ n / b
  · obtain ⟨q, hq⟩ : ∃ q, n / b = a * x / b + q := ⟨n / b - a * x / b, by omega⟩
    exact Or.inl ⟨q, by rw [hq, Nat.mul_add] at d2; omega⟩
  · obtain ⟨q, hq⟩ : ∃ q, a * x / b = n / b + q := ⟨a * x / b - n / b, by omega⟩
    exact Or.inr ⟨q, by omega, by rw [hq, Nat.mul_add] at d1; omega⟩
theorem pr_big {u F n : Nat} (hb : 2 ≤ b) (hu : a * u % b = 1) (hF : F + a + b = a * b) (hn : F < n) : Rp a b n := by
  obtain ⟨x, hx, ⟨y, h⟩ | ⟨t, ht, h⟩⟩ := pr_le (n := n) hb hu
  · exact ⟨x, y, h⟩
  · exfalso
    have h1 : a * x ≤ a * (b - 1) := Nat.mul_le_mul_left a (by omega)
    have h2 : a * (b - 1) + a = a * b := by rw [← Nat.mul_succ]; congr 1; omega
    have h3 : b * 1 ≤ b * t := Nat.mul_le_mul_left b ht
    omega
theorem pr_sym {u F n : Nat} (hb : 2 ≤ b) (hu : a * u % b = 1) (hF : F + a + b = a * b) (hn : n ≤ F) : Rp a b (F - n) ↔ ¬ Rp a b n := by
  constructor
  · rintro ⟨x, y, h1⟩ ⟨x', y', h2⟩
    have hs : a * (x + x' + 1) + b * (y + y' + 1) = a * b := by
      rw [Nat.mul_add, Nat.mul_add, Nat.mul_add, Nat.mul_add]; omega
    have hm : (x + x' + 1) % b = 0 := by
      have e1 : (a * (x + x' + 1)) % b = 0 := by
        have : a * (x + x' + 1) % b = (a * (x + x' + 1) + b * (y + y' + 1)) % b := by rw [Nat.add_mul_mod_self_left]
        rw [this, hs, Nat.mul_mod_left]
      have e2 : ((x + x' + 1) * (a * u)) % b = 0 := by
        rw [show (x + x' + 1) * (a * u) = a * (x + x' + 1) * u by rw [Nat.mul_left_comm, Nat.mul_assoc], Nat.mul_mod, e1, Nat.zero_mul, Nat.zero_mod]
      rw [← Nat.mul_mod_mod, hu, Nat.mul_one] at e2
      exact e2
    have hge : b ≤ x + x' + 1 := by
      by_cases q : x + x' + 1 < b
      · rw [Nat.mod_eq_of_lt q] at hm; omega
      · omega
    have : a * b ≤ a * (x + x' + 1) := Nat.mul_le_mul_left a hge
    have h3 : b * 1 ≤ b * (y + y' + 1) := Nat.mul_le_mul_left b (by omega)
    omega
  · intro hr
    obtain ⟨x, hx, ⟨y, h⟩ | ⟨t, ht, h⟩⟩ := pr_le (n := n) hb hu
    · exact absurd ⟨x, y, h⟩ hr
    · refine ⟨b - 1 - x, t - 1, ?_⟩
      have h2 : a * (b - 1 - x) + a * x + a = a * b := by rw [← Nat.mul_add, ← Nat.mul_succ]; congr 1; omega
      have h3 : b * (t - 1) + b = b * t := by rw [← Nat.mul_succ]; congr 1; omega
      omega
theorem sgC_0 (f : Nat → Bool) : ∀ n, sgC f (n + 1) = (if f 0 = true then 1 else 0) + sgC (fun i => f (i + 1)) n := by
  intro n
  induction n with
  | zero => exact Nat.add_comm 0 _
  | succ n ih =>
    rw [show sgC f (n + 1 + 1) = sgC f (n + 1) + (if f (n + 1) = true then 1 else 0) from rfl, ih, show sgC (fun i => f (i + 1)) (n + 1) = sgC (fun i => f (i + 1)) n + (if f (n + 1) = true then 1 else 0) from rfl]
    omega
theorem sgC_rev : ∀ (n : Nat) (f : Nat → Bool), sgC (fun i => f (n - 1 - i)) n = sgC f n := by
  intro n
  induction n with
  | zero => intro f; rfl
  | succ n ih =>
    intro f
    rw [sgC_0 (fun i => f (n + 1 - 1 - i)), show sgC f (n + 1) = sgC f n + (if f n = true then 1 else 0) from rfl, ← ih f]
    have : sgC (fun i => f (n + 1 - 1 - (i + 1))) n = sgC (fun i => f (n - 1 - i)) n := sgC_cg (fun i _ => by congr 1; omega)
    rw [this, show n + 1 - 1 - 0 = n from rfl]
    omega
theorem sgC_not (f : Nat → Bool) : ∀ n, sgC f n + sgC (fun i => !f i) n = n := by
  intro n
  induction n with
  | zero => rfl
  | succ n ih =>
    rw [show sgC f (n + 1) = sgC f n + (if f n = true then 1 else 0) from rfl, show sgC (fun i => !f i) (n + 1) = sgC (fun i => !f i) n + (if (!f n) = true then 1 else 0) from rfl]
    cases f n <;> simp <;> omega
theorem sgC_top {f : Nat → Bool} {k : Nat} : ∀ d, (∀ i, k ≤ i → f i = false) → sgC f (k + d) = sgC f k := by
  intro d
  induction d with
  | zero => intro _; rfl
  | succ d ih =>
    intro h
    rw [show k + (d + 1) = k + d + 1 from rfl, show sgC f (k + d + 1) = sgC f (k + d) + (if f (k + d) = true then 1 else 0) from rfl, ih h, h (k + d) (by omega)]
    rfl
theorem pr_cnt {u F : Nat} (hb : 2 ≤ b) (hu : a * u % b = 1) (hF : F + a + b = a * b) : 2 * sgC (nRp a b) (a * b) = F + 1 := by
  have h1 : sgC (nRp a b) (a * b) = sgC (nRp a b) (F + 1) := by
    have e : a * b = F + 1 + (a * b - (F + 1)) := by omega
    rw [e]
    refine sgC_top _ (fun i hi => ?_)
    cases q : nRp a b i
    · rfl
    · exact absurd (pr_big hb hu hF (by omega)) (nRp_iff.mp q)
  have h2 := sgC_rev (F + 1) (nRp a b)
  have h3 : sgC (fun i => nRp a b (F + 1 - 1 - i)) (F + 1) = sgC (fun i => !nRp a b i) (F + 1) := sgC_cg (fun i hi => by
    have s := pr_sym hb hu hF (show i ≤ F by omega)
    show nRp a b (F - i) = _
    apply bool_iff
    rw [nRp_iff]
    cases q : nRp a b i
    · have : Rp a b i := Classical.byContradiction (fun z => by rw [nRp_iff.mpr z] at q; cases q)
      simp [s, this]
    · have := nRp_iff.mp q
      simp [s, this])
  have h4 := sgC_not (nRp a b) (F + 1)
  omega
/-- the last that can't be paid -/
noncomputable def lRp (a b : Nat) : Nat → Int32
  | 0 => -1
  | n + 1 => if nRp a b n = true then Int32.ofNat n else lRp a b n
theorem lRp_ok {u F : Nat} (hb : 2 ≤ b) (hu : a * u % b = 1) (hF : F + a + b = a * b) : ∀ d, lRp a b (F + 1 + d) = Int32.ofNat F := by
  intro d
  induction d with
  | zero =>
    show (if nRp a b F = true then Int32.ofNat F else lRp a b F) = _
    rw [if_pos]
    rw [nRp_iff, ← pr_sym hb hu hF (Nat.le_refl F), Nat.sub_self]
    exact ⟨0, 0, by simp⟩
  | succ d ih =>
    show (if nRp a b (F + 1 + d) = true then _ else lRp a b (F + 1 + d)) = _
    rw [if_neg, ih]
    rw [nRp_iff]
    exact fun z => z (pr_big hb hu hF (by omega))
/-! what both do -/
theorem x_gcd : ∀ (d : Nat) {a b : Nat}, b < d → a < 2147483648 → b < 2147483648 → x0_common d (Int32.ofNat a) (Int32.ofNat b) = some (Int32.ofNat (Nat.gcd a b)) := by
  intro d
  induction d with
  | zero => intro a b h; omega
  | succ d ih =>
    intro a b h ha hb
    show x0_common_B (x0_common d) (Int32.ofNat a) (Int32.ofNat b) = _
    unfold x0_common_B
    by_cases h0 : b = 0
    · subst h0
      rw [if_pos (show Int32.ofNat 0 = 0 from rfl), Nat.gcd_zero_right]
    · have nb : ¬ Int32.ofNat b = 0 := by rw [bt_z hb]; exact h0
      have l := Nat.mod_lt a (show 0 < b by omega)
      rw [if_neg nb, gs_gd nb, o_mod ha hb, ih (by omega) hb (by omega), gs_bd, Nat.gcd_comm a b, Nat.gcd_rec b a, Nat.gcd_comm (a % b) b]
theorem m_div {M : gz_V} {v3 : Int32} (ha : a < 61) (hb : b < 61) : ∀ (d t : Nat) {n : Nat}, t + d = a + 1 → 2 ≤ t → d < n → (m_prices_L42 N M (Int32.ofNat a) (Int32.ofNat b) v3 n (Int32.ofNat t) = some (.inl (M, -1)) ∧ ∃ k, 2 ≤ k ∧ k ∣ a ∧ k ∣ b) ∨ (m_prices_L42 N M (Int32.ofNat a) (Int32.ofNat b) v3 n (Int32.ofNat t) = some (.inr ()) ∧ ∀ k, t ≤ k → k ≤ a → ¬ (k ∣ a ∧ k ∣ b)) := by
  intro d
  induction d with
  | zero =>
    intro t n ht h2 hn
    obtain ⟨n, rfl⟩ : ∃ z, n = z + 1 := ⟨n - 1, by omega⟩
    refine Or.inr ⟨?_, fun k h1 h2 => by omega⟩
    rw [m_prices_L42, if_pos (by rw [o_lt (by omega) (by omega)]; omega)]
  | succ d ih =>
    intro t n ht h2 hn
    obtain ⟨n, rfl⟩ : ∃ z, n = z + 1 := ⟨n - 1, by omega⟩
    have e1 : Int32.ofNat t + 1 = Int32.ofNat (t + 1) := o_addr 1 t
    have nt : ¬ Int32.ofNat t = 0 := by rw [bt_z (by omega)]; omega
    have la := Nat.mod_lt a (show 0 < t by omega)
    have lb := Nat.mod_lt b (show 0 < t by omega)
    rw [m_prices_L42, if_neg (by rw [o_lt (by omega) (by omega)]; omega), gs_gd nt, o_mod (by omega) (by omega), e1]
    by_cases h1 : a % t = 0
    · rw [h1, if_pos (show Int32.ofNat 0 = 0 from rfl), gs_gd nt, o_mod (by omega) (by omega)]
      by_cases h3 : b % t = 0
      · rw [h3, if_pos (show Int32.ofNat 0 = 0 from rfl)]
        exact Or.inl ⟨rfl, t, h2, Nat.dvd_of_mod_eq_zero h1, Nat.dvd_of_mod_eq_zero h3⟩
      · rw [if_neg (by rw [bt_z (by omega)]; exact h3)]
        rcases ih (t + 1) (n := n) (by omega) (by omega) (by omega) with q | ⟨q1, q2⟩
        · exact Or.inl q
        · refine Or.inr ⟨q1, fun k k1 k2 k3 => ?_⟩
          by_cases kt : k = t
          · subst kt; exact h3 (Nat.mod_eq_zero_of_dvd k3.2)
          · exact q2 k (by omega) k2 k3
    · rw [if_neg (by rw [bt_z (by omega)]; exact h1)]
      rcases ih (t + 1) (n := n) (by omega) (by omega) (by omega) with q | ⟨q1, q2⟩
      · exact Or.inl q
      · refine Or.inr ⟨q1, fun k k1 k2 k3 => ?_⟩
        by_cases kt : k = t
        · subst kt; exact h1 (Nat.mod_eq_zero_of_dvd k3.1)
        · exact q2 k (by omega) k2 k3
end PRICES
