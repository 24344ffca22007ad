/-! pens -/
set_option maxRecDepth 100000
section PENS
variable {N m k : Nat} {V M : gz_V} {h : Nat → Nat}
/-- the herd told -/
def hdT (V M : gz_V) (m : Nat) (h : Nat → Nat) : Prop := m ≤ 7 ∧ V (27, 0, 3) 1 = Int32.ofNat m ∧ M (1, 0, 0) 59 = Int32.ofNat m ∧ ∀ i, i < m → 1 ≤ h i ∧ h i ≤ 30 ∧ V (33, 0, i) 0 = Int32.ofNat (h i) ∧ M (2, 60, 0) i = Int32.ofNat (h i)
theorem hd_of (t : tdR 0 3 59 60 1 30 7 V M) : ∃ m h, hdT V M m h := by
  obtain ⟨m, h1, h2, h3, h4⟩ := t
  refine ⟨m, fun i => (V (33, 0, i) 0).toNatClampNeg, h1, h2, h3, fun i hi => ?_⟩
  obtain ⟨v, v1, v2, v3, v4⟩ := h4 i hi
  have v3' : V (33, 0, i) 0 = Int32.ofNat v := v3
  dsimp only
  rw [v3', o_nat (by omega)]
  exact ⟨v1, v2, rfl, v4⟩
def sU (s : Nat → Nat) (p x : Nat) : Nat → Nat := fun q => if q = p then s p + x else s q
def mxv (s : Nat → Nat) : Nat → Nat
  | 0 => 0
  | p + 1 => max (mxv s p) (s p)
def mnv (B : Nat) (s : Nat → Nat) : Nat → Nat
  | 0 => B
  | p + 1 => min (mnv B s p) (s p)
def asg (h : Nat → Nat) (k : Nat) : Nat → Nat → Nat → (Nat → Nat) → (Nat → Nat)
  | 0, _, _, s => s
  | r + 1, i, v, s => asg h k r (i + 1) (v / k) (sU s (v % k) (h i))
def vl (k : Nat) (s : Nat → Nat) : Nat := 1000 * mxv s k + (mxv s k - mnv 1000 s k)
theorem mxv_le {s : Nat → Nat} {B : Nat} : ∀ p, (∀ q, q < p → s q ≤ B) → mxv s p ≤ B := by
  intro p
  induction p with
  | zero => intro _; exact Nat.zero_le _
  | succ p ih =>
    intro hs
    have e : mxv s (p + 1) = max (mxv s p) (s p) := rfl
    rw [e]
    have a := ih (fun q hq => hs q (by omega))
    have b := hs p (by omega)
    omega
theorem mnv_eq {s : Nat → Nat} {B C : Nat} : ∀ p, 1 ≤ p → (∀ q, q < p → s q ≤ B ∧ s q ≤ C) → mnv B s p = mnv C s p := by
  intro p
  induction p with
  | zero => intro h; omega
  | succ p ih =>
    intro _ hs
    have e : mnv B s (p + 1) = min (mnv B s p) (s p) := rfl
    have e' : mnv C s (p + 1) = min (mnv C s p) (s p) := rfl
    have b := hs p (by omega)
    rw [e, e']
    by_cases q : p = 0
    · subst q
      show min B (s 0) = min C (s 0)
      omega
    · rw [ih (by omega) (fun q hq => hs q (by omega))]
theorem mnv_le {s : Nat → Nat} {B : Nat} : ∀ p, mnv B s p ≤ B := by
  intro p
  induction p with
  | zero => exact Nat.le_refl _
  | succ p ih =>
    have e : mnv B s (p + 1) = min (mnv B s p) (s p) := rfl
    rw [e]; omega
theorem mn_mx {s : Nat → Nat} {B : Nat} : ∀ p, 1 ≤ p → mnv B s p ≤ mxv s p := by
  intro p hp
  obtain ⟨p, rfl⟩ : ∃ z, p = z + 1 := ⟨p - 1, by omega⟩
  have e : mnv B s (p + 1) = min (mnv B s p) (s p) := rfl
  have e' : mxv s (p + 1) = max (mxv s p) (s p) := rfl
  rw [e, e']; omega
theorem g_min {a b : Nat} (ha : a < 2147483648) (hb : b < 2147483648) : gz_min (Int32.ofNat a) (Int32.ofNat b) = Int32.ofNat (min a b) := by
  unfold gz_min
  by_cases q : b < a
  · rw [if_pos (by rw [o_lt hb ha]; exact q), Nat.min_eq_right (by omega)]
  · rw [if_neg (by rw [o_lt hb ha]; exact q), Nat.min_eq_left (by omega)]
theorem g_mls {a b : Nat} (ha : a < 2147483648) (hb : b < 2147483648) : m_lesser (Int32.ofNat a) (Int32.ofNat b) = Int32.ofNat (min a b) := by
  unfold m_lesser
  by_cases q : b ≤ a
  · rw [if_pos (by rw [o_le hb ha]; exact q), Nat.min_eq_right (by omega)]
  · rw [if_neg (by rw [o_le hb ha]; exact q), Nat.min_eq_left (by omega)]
theorem x_mm {s : Nat → Nat} {rc : gz_V → Int32 → Int32 → Option gz_V} {B : Nat} (hk : k ≤ 4) (hB : B ≤ 100000000) (hs : ∀ p, p < k → s p ≤ 1000 ∧ V (11, 12, 0) p = Int32.ofNat (s p)) : ∀ (d p : Nat) {n : Nat}, p + d = k → d < n → x0_shares_L86 N rc V (Int32.ofNat k) n (Int32.ofNat (mxv s p)) (Int32.ofNat (mnv B s p)) (Int32.ofNat p) = some (Int32.ofNat (mxv s k), Int32.ofNat (mnv B s k)) := by
  intro d
  induction d with
  | zero =>
    intro p n hp hn
    obtain ⟨n, rfl⟩ : ∃ z, n = z + 1 := ⟨n - 1, by omega⟩
    have : p = k := by omega
    subst this
    rw [x0_shares_L86, if_pos (i_le.mpr (Int.le_refl _))]
  | succ d ih =>
    intro p n hp hn
    obtain ⟨n, rfl⟩ : ∃ z, n = z + 1 := ⟨n - 1, by omega⟩
    have e1 : Int32.ofNat p + 1 = Int32.ofNat (p + 1) := o_addr 1 p
    have a := hs p (by omega)
    have b1 := mxv_le (s := s) (B := 1000) p (fun q hq => (hs q (by omega)).1)
    have b2 := mnv_le (s := s) (B := B) p
    rw [x0_shares_L86, if_neg (by rw [o_le (by omega) (by omega)]; omega), gs_gd (o_inb (show p < 4 by omega) (by omega)), gs_let, gs_gd (o_inb (show p < 4 by omega) (by omega)), gs_let, o_nat (by omega), a.2, g_max (by omega) (by omega), g_min (by omega) (by omega), e1]
    exact ih (p + 1) (by omega) (by omega)
theorem m_mm {s : Nat → Nat} {B : Nat} (hk : k ≤ 4) (hB : B ≤ 100000000) (hs : ∀ p, p < k → s p ≤ 1000 ∧ M (2, 61, 0) p = Int32.ofNat (s p)) : ∀ (d p : Nat) {n : Nat}, p + d = k → d < n → m_sharingOf_L79 N M (Int32.ofNat k) n (Int32.ofNat (mxv s p)) (Int32.ofNat (mnv B s p)) (Int32.ofNat p) = some (Int32.ofNat (mxv s k), Int32.ofNat (mnv B s k)) := by
  intro d
  induction d with
  | zero =>
    intro p n hp hn
    obtain ⟨n, rfl⟩ : ∃ z, n = z + 1 := ⟨n - 1, by omega⟩
    have : p = k := by omega
    subst this
    rw [m_sharingOf_L79, if_pos (i_le.mpr (Int.le_refl _))]
  | succ d ih =>
    intro p n hp hn
    obtain ⟨n, rfl⟩ : ∃ z, n = z + 1 := ⟨n - 1, by omega⟩
    have e1 : Int32.ofNat p + 1 = Int32.ofNat (p + 1) := o_addr 1 p
    have a := hs p (by omega)
    have b1 := mxv_le (s := s) (B := 1000) p (fun q hq => (hs q (by omega)).1)
    have b2 := mnv_le (s := s) (B := B) p
    rw [m_sharingOf_L79, if_neg (by rw [o_le (by omega) (by omega)]; omega), gs_gd (o_inb (show p < 4 by omega) (by omega)), gs_let, gs_gd (o_inb (show p < 4 by omega) (by omega)), gs_let, o_nat (by omega), a.2, g_mgr (by omega) (by omega), g_mls (by omega) (by omega), e1]
    exact ih (p + 1) (by omega) (by omega)
/-- the best so far -/
def bp (V : gz_V) (E : Nat) : Prop := ∃ a b, V (10, 0, 0) 13 = Int32.ofNat a ∧ V (10, 0, 0) 14 = Int32.ofNat b ∧ E = 1000 * a + b ∧ ((a ≤ 1000 ∧ b < 1000) ∨ (a = 1000000 ∧ b = 1000000))
def bsP (Q : Nat → Prop) (f : Nat → Nat) (E E' : Nat) : Prop := (E' = E ∨ ∃ v, Q v ∧ E' = f v) ∧ E' ≤ E ∧ ∀ v, Q v → E' ≤ f v
theorem bsP.un {Q Q2 : Nat → Prop} {f : Nat → Nat} {E E1 E2 : Nat} (h1 : bsP Q f E E1) (h2 : bsP Q2 f E1 E2) : bsP (fun v => Q v ∨ Q2 v) f E E2 := by
  obtain ⟨a1, a2, a3⟩ := h1
  obtain ⟨b1, b2, b3⟩ := h2
  refine ⟨?_, by omega, fun v hv => ?_⟩
  · rcases b1 with rfl | ⟨v, hv, e⟩
    · rcases a1 with rfl | ⟨v, hv, e⟩
      · exact Or.inl rfl
      · exact Or.inr ⟨v, Or.inl hv, e⟩
    · exact Or.inr ⟨v, Or.inr hv, e⟩
  · rcases hv with hv | hv
    · have := a3 v hv; omega
    · exact b3 v hv
theorem bsP.cg {Q Q2 : Nat → Prop} {f : Nat → Nat} {E E1 : Nat} (h1 : bsP Q f E E1) (h : ∀ v, Q2 v ↔ Q v) : bsP Q2 f E E1 := by
  obtain ⟨a1, a2, a3⟩ := h1
  refine ⟨?_, a2, fun v hv => a3 v ((h v).mp hv)⟩
  rcases a1 with e | ⟨v, hv, e⟩
  · exact Or.inl e
  · exact Or.inr ⟨v, (h v).mpr hv, e⟩
/-- all but the two bests stays -/
def frB (V V' : gz_V) : Prop := ∀ n i, ¬ (n = (10, 0, 0) ∧ (i = 13 ∨ i = 14)) → V' n i = V n i
theorem x_leaf {s : Nat → Nat} {rc : gz_V → Int32 → Int32 → Option gz_V} {E i : Nat} (hN : 500 ≤ N) (t : hdT V M m h) (hk1 : 1 ≤ k) (hk : k ≤ 4) (hi : i = m) (hs : ∀ p, p < 4 → s p ≤ 210 ∧ V (11, 12, 0) p = Int32.ofNat (s p)) (hb : bp V E) : ∃ V' E', x0_shares_B N rc V (Int32.ofNat i) (Int32.ofNat k) = some V' ∧ frB V V' ∧ bp V' E' ∧ E' = min E (vl k s) := by
  obtain ⟨t1, t2, t3, t4⟩ := id t
  subst hi
  have mm := x_mm (N := N) (V := V) (rc := rc) (s := s) (B := 1000000) hk (by omega) (fun p hp => ⟨by have := (hs p (by omega)).1; omega, (hs p (by omega)).2⟩) k 0 (n := N) (by omega) (by omega)
  have b1 := mxv_le (s := s) (B := 210) k (fun q hq => (hs q (by omega)).1)
  have b2 : mnv 1000000 s k = mnv 1000 s k := mnv_eq k hk1 (fun q hq => ⟨by have := (hs q (by omega)).1; omega, by have := (hs q (by omega)).1; omega⟩)
  have b3 := mn_mx (s := s) (B := 1000) k hk1
  rw [b2] at mm
  obtain ⟨a, b, h1, h2, h3, h4⟩ := hb
  unfold x0_shares_B
  rw [t2, if_pos (i_le.mpr (Int.le_refl _)), show x0_shares_L86 N rc V (Int32.ofNat k) N 0 1000000 0 = _ from mm, gs_b2, h1, o_sub b3 (by omega), h2]
  have val : vl k s = 1000 * mxv s k + (mxv s k - mnv 1000 s k) := rfl
  generalize mxv s k = x at *
  generalize mnv 1000 s k = y at *
  have set : ∃ V' E', some (gz_up (gz_up V (10, 0, 0) 13 (Int32.ofNat x)) (10, 0, 0) 14 (Int32.ofNat (x - y))) = some V' ∧ frB V V' ∧ bp V' E' ∧ E' = vl k s := by
    refine ⟨_, _, rfl, fun n j hn => ?_, ⟨x, x - y, ?_, ?_, val, Or.inl ⟨by omega, by omega⟩⟩, rfl⟩
    · rw [up_at, if_neg (fun z => hn ⟨z.1, Or.inr z.2⟩), up_at, if_neg (fun z => hn ⟨z.1, Or.inl z.2⟩)]
    · rw [up_at, if_neg (by decide), up_at, if_pos ⟨rfl, rfl⟩]
    · rw [up_at, if_pos ⟨rfl, rfl⟩]
  have keep : ∃ V' E', some V = some V' ∧ frB V V' ∧ bp V' E' ∧ E' = E := ⟨V, E, rfl, fun _ _ _ => rfl, ⟨a, b, h1, h2, h3, h4⟩, rfl⟩
  by_cases c1 : a < x
  · rw [if_pos (by rw [o_lt (by omega) (by omega)]; exact c1)]
    obtain ⟨V', E', q1, q2, q3, q4⟩ := keep
    exact ⟨V', E', q1, q2, q3, by rw [q4]; omega⟩
  · rw [if_neg (by rw [o_lt (by omega) (by omega)]; exact c1)]
    by_cases c2 : x = a
    · rw [if_pos (by rw [c2])]
      by_cases c3 : x - y < b
      · rw [if_pos (by rw [o_lt (by omega) (by omega)]; exact c3), gs_let, gs_let]
        obtain ⟨V', E', q1, q2, q3, q4⟩ := set
        exact ⟨V', E', q1, q2, q3, by rw [q4]; omega⟩
      · rw [if_neg (by rw [o_lt (by omega) (by omega)]; exact c3)]
        obtain ⟨V', E', q1, q2, q3, q4⟩ := keep
        exact ⟨V', E', q1, q2, q3, by rw [q4]; omega⟩
    · rw [if_neg (by rw [o_eq (by omega) (by omega)]; exact c2), gs_let, gs_let]
      obtain ⟨V', E', q1, q2, q3, q4⟩ := set
      exact ⟨V', E', q1, q2, q3, by rw [q4]; omega⟩
end PENS
