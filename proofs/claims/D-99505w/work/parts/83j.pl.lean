/-! ALL TRAITS over, and back again -/
set_option maxRecDepth 100000
/-- the sum of what went, from a trait on -/
def sg (M : gz_V) : Int32 → Nat → Nat → Int32
  | s, _, 0 => s
  | s, t, d + 1 => sg M ((s + M (2, 45, 0) t) + M (2, 46, 0) t) (t + 1) d
section ALLT
variable {k P H b0 p q N : Nat} {F : Int32} {Ds : gz_S} {Df : gz_R}
theorem grR.mv {V M V2 M2 : gz_V} (h : grR k V M) (h1 : V2 (23, k, 0) = V (23, k, 0)) (h2 : ∀ i, i = 42 ∨ i = 43 ∨ i = 44 → M2 (1, 0, 0) i = M (1, 0, 0) i) (h3 : M2 (2, 8, 0) = M (2, 8, 0)) (h4 : M2 (2, 9, 0) = M (2, 9, 0)) : grR k V2 M2 := by
  unfold grR
  rw [h1, h2 42 (by simp), h2 43 (by simp), h2 44 (by simp), h3, h4]
  exact h
theorem z_overs (hN : 500 ≤ N) (hp : p < 12) (hq : q < 12) (hpq : p ≠ q) {x1 x2 : Nat} {a1 : Int32} : ∀ (d t : Nat) {V M : gz_V} {n m : Nat} {s : Int32}, t + d = 5 → d < n → d < m → cU k P H F b0 Ds Df V M → grR k V M → V (23, k, 0) 2 = Int32.ofNat p → V (23, k, 0) 3 = Int32.ofNat q → (∀ u, u < t → goR k p q u V M) →
    ∃ V' M', x1_shakes_L47 N Ds Df k x1 x2 a1 n V (Int32.ofNat t) = some V' ∧ m_passAll_L5 N (Int32.ofNat p) (Int32.ofNat q) m M s (Int32.ofNat t) = some (M', sg M' s t d) ∧ cU k P H F b0 Ds Df V' M' ∧ fr (fxb k) V V' ∧ fr fmb M M' ∧ (∀ u, u < 5 → goR k p q u V' M') ∧ ∀ u, u < t → M' (2, 45, 0) u = M (2, 45, 0) u ∧ M' (2, 46, 0) u = M (2, 46, 0) u := by
  intro d
  induction d with
  | zero =>
    intro t V M n m s ht hn hm h hg h2 h3 hgo
    obtain ⟨n, rfl⟩ : ∃ z, n = z + 1 := ⟨n - 1, by omega⟩
    obtain ⟨m, rfl⟩ : ∃ z, m = z + 1 := ⟨m - 1, by omega⟩
    have t5 : t = 5 := by omega
    subst t5
    refine ⟨V, M, ?_, ?_, h, fr.rf, fr.rf, fun u hu => hgo u hu, fun u _ => ⟨rfl, rfl⟩⟩
    · rw [x1_shakes_L47, if_pos (by decide)]
    · rw [m_passAll_L5, if_pos (by decide)]
      rfl
  | succ d ih =>
    intro t V M n m s ht hn hm h hg h2 h3 hgo
    obtain ⟨n, rfl⟩ : ∃ z, n = z + 1 := ⟨n - 1, by omega⟩
    obtain ⟨m, rfl⟩ : ∃ z, m = z + 1 := ⟨m - 1, by omega⟩
    obtain ⟨V1, M1, a1', a2, a3, a4, a5, a6, a7⟩ := z_over h hg hN hp hq hpq (t := t) (by omega) h2 h3
    have g1 : grR k V1 M1 := hg.mv (funext (fun i => a4 _ i (by simp [fxb, fxa]))) (fun i _ => a5 _ i rfl) (funext (fun i => a5 _ i rfl)) (funext (fun i => a5 _ i rfl))
    have e1 : Int32.ofNat t + 1 = Int32.ofNat (t + 1) := o_addr 1 t
    obtain ⟨V2, M2, b1, b2, b3, b4, b5, b6, b7⟩ := ih (t + 1) (V := V1) (M := M1) (n := n) (m := m) (s := (s + M1 (2, 45, 0) t) + M1 (2, 46, 0) t) (by omega) (by omega) (by omega) a3 g1 (by rw [a4 _ _ (by simp [fxb, fxa])]; exact h2) (by rw [a4 _ _ (by simp [fxb, fxa])]; exact h3) (fun u hu => by
      by_cases hut : u = t
      · rw [hut]; exact a6
      · exact (a7 u (by omega) hut).2 (hgo u (by omega)))
    have hw := b7 t (by omega)
    refine ⟨V2, M2, ?_, ?_, b3, a4.trans b4, a5.trans b5, b6, fun u hu => ?_⟩
    · rw [x1_shakes_L47, if_neg (by rw [o_lel (by decide) (by omega)]; show ¬ 5 ≤ t; omega), a1', gs_bd, e1]
      exact b1
    · rw [a2, b2]
      show some (M2, sg M2 ((s + M1 (2, 45, 0) t) + M1 (2, 46, 0) t) (t + 1) d) = some (M2, sg M2 ((s + M2 (2, 45, 0) t) + M2 (2, 46, 0) t) (t + 1) d)
      rw [hw.1, hw.2]
    · have q1 := b7 u (by omega)
      have q3 := (a7 u (by omega) (by omega)).1
      exact ⟨q1.1.trans q3.1, q1.2.trans q3.2⟩
/-- the sum, as the grip has it -/
theorem z_all {V M : gz_V} (hgo : ∀ u, u < 5 → goR k p q u V M) : ∀ (d t : Nat) {n : Nat} {s : Int32}, t + d = 5 → d < n → x2_all_L4 N V k n s (Int32.ofNat t) = some (sg M s t d) := by
  intro d
  induction d with
  | zero =>
    intro t n s ht hn
    obtain ⟨n, rfl⟩ : ∃ z, n = z + 1 := ⟨n - 1, by omega⟩
    have t5 : t = 5 := by omega
    subst t5
    rw [x2_all_L4, if_pos (by decide)]
    rfl
  | succ d ih =>
    intro t n s ht hn
    obtain ⟨n, rfl⟩ : ∃ z, n = z + 1 := ⟨n - 1, by omega⟩
    have e1 : Int32.ofNat t + 1 = Int32.ofNat (t + 1) := o_addr 1 t
    obtain ⟨g1, g2, -⟩ := hgo t (by omega)
    rw [x2_all_L4, if_neg (by rw [o_lel (by decide) (by omega)]; show ¬ 5 ≤ t; omega), gs_gd (o_inb (by omega) (by omega)), gs_gd (o_inb (by omega) (by omega)), gs_let, o_nat (by omega), e1, ih (t + 1) (by omega) (by omega), g1, g2, ← Int32.add_assoc]
    rfl
/-- back: a trait -/
theorem z_back1 {V M : gz_V} {t : Nat} (h : cU k P H F b0 Ds Df V M) (hp : p < 12) (hq : q < 12) (hpq : p ≠ q) (ht : t < 5) (h2 : V (23, k, 0) 2 = Int32.ofNat p) (h3 : V (23, k, 0) 3 = Int32.ofNat q) (hgo : goR k p q t V M) {s : Int32} :
    ∃ V' M', x1_shifts V k (Int32.ofNat t) (-1) = some V' ∧ (∀ n, m_putBack_L3 N (Int32.ofNat p) (Int32.ofNat q) s (n + 1) M (Int32.ofNat t) = m_putBack_L3 N (Int32.ofNat p) (Int32.ofNat q) s n M' (Int32.ofNat (t + 1))) ∧ cU k P H F b0 Ds Df V' M' ∧ fr (fxb k) V V' ∧ fr fmb M M' ∧ ∀ u, u < 5 → u ≠ t → goR k p q u V M → goR k p q u V' M' := by
  have tn : (Int32.ofNat t).toNatClampNeg = t := o_nat (by omega)
  have tb : gz_inb (Int32.ofNat t) 5 = true := o_inb ht (by omega)
  have pn : (Int32.ofNat p).toNatClampNeg = p := o_nat (by omega)
  have qn : (Int32.ofNat q).toNatClampNeg = q := o_nat (by omega)
  have pb : gz_inb (Int32.ofNat p) 12 = true := o_inb hp (by omega)
  have qb : gz_inb (Int32.ofNat q) 12 = true := o_inb hq (by omega)
  have Tp := h.2.1.trait hp ht
  have Tq := h.2.1.trait hq ht
  have Ro := h.2.2.1.1 (5 + 5 * p + t) (by omega) (by omega)
  have Rq := h.2.2.1.1 (5 + 5 * q + t) (by omega) (by omega)
  obtain ⟨g1, g2, g3, g4, g5⟩ := hgo
  obtain ⟨e1, e2, w1, w2, w3, w4⟩ := ar_back g3 Ro Rq g4 g5
  have c1 := h.two hp hq ht hpq ⟨w1, w2⟩ ⟨w3, w4⟩
  have n1 : 5 + 5 * p + t ≠ 5 + 5 * q + t := by omega
  refine ⟨_, _, ?_, fun n => ?_, c1, ?_, ?_, fun u hu hut hgo => ?_⟩
  · unfold x1_shifts
    rw [gs_gd tb, gs_gd tb, tn, gs_let, h2, gs_gd pb, gs_gd tb, gs_gd tb, pn, gs_let, g1, g2, Tp]
    have k3 : ∀ x, gz_up V (41, k, p) t x (23, k, 0) = V (23, k, 0) := fun x => up_ne (by simp)
    have k7 : ∀ x, gz_up V (41, k, p) t x (41, k, q) t = V (41, k, q) t := fun x => by rw [up_ne (by simp; omega)]
    rw [k3, h3, gs_gd qb, gs_gd tb, gs_gd tb, qn, gs_let, k7, Tq]
  · have e51 : Int32.ofNat t + 1 = Int32.ofNat (t + 1) := o_addr 1 t
    rw [m_putBack_L3, if_neg (by rw [o_lel (by decide) (by omega)]; show ¬ 5 ≤ t; omega), m_trait_ok hp ht, gs_bd, gs_gd tb, gs_gd tb, m_hasTrait_ok hp ht, gs_bd, m_trait_ok hq ht, gs_bd, gs_gd tb, gs_gd tb, m_hasTrait_ok hq ht, gs_bd, tn, e51]
    have k4 : ∀ x, gz_up M (2, 1, 0) (5 + 5 * p + t) x (2, 45, 0) = M (2, 45, 0) := fun x => up_ne (by decide)
    have k5 : ∀ x, gz_up M (2, 1, 0) (5 + 5 * p + t) x (2, 46, 0) = M (2, 46, 0) := fun x => up_ne (by decide)
    have k6 : ∀ x, gz_up M (2, 1, 0) (5 + 5 * p + t) x (2, 1, 0) (5 + 5 * q + t) = M (2, 1, 0) (5 + 5 * q + t) := fun x => by rw [up_at, if_neg (fun z => n1 z.2.symm)]
    rw [k4, k5, k6, e1, e2]
  · exact (fr.rf.up (by simp [fxb])).up (by simp [fxb])
  · exact (fr.rf.up (by simp [fmb]; omega)).up (by simp [fmb]; omega)
  · unfold goR at *
    have n1 : 5 + 5 * p + u ≠ 5 + 5 * p + t := by omega
    have n2 : 5 + 5 * p + u ≠ 5 + 5 * q + t := by omega
    have n3 : 5 + 5 * q + u ≠ 5 + 5 * p + t := by omega
    have n4 : 5 + 5 * q + u ≠ 5 + 5 * q + t := by omega
    have y1 : ∀ (a b : Int32) (j : Nat), gz_up (gz_up V (41, k, p) t a) (41, k, q) t b (24, k, j) = V (24, k, j) := fun a b j => by rw [up_ne (by simp), up_ne (by simp)]
    have y3 : ∀ a b : Int32, gz_up (gz_up M (2, 1, 0) (5 + 5 * p + t) a) (2, 1, 0) (5 + 5 * q + t) b (2, 45, 0) = M (2, 45, 0) := fun a b => by rw [up_ne (by decide), up_ne (by decide)]
    have y4 : ∀ a b : Int32, gz_up (gz_up M (2, 1, 0) (5 + 5 * p + t) a) (2, 1, 0) (5 + 5 * q + t) b (2, 46, 0) = M (2, 46, 0) := fun a b => by rw [up_ne (by decide), up_ne (by decide)]
    have y5 : ∀ a b : Int32, gz_up (gz_up M (2, 1, 0) (5 + 5 * p + t) a) (2, 1, 0) (5 + 5 * q + t) b (2, 1, 0) (5 + 5 * p + u) = M (2, 1, 0) (5 + 5 * p + u) := fun a b => by rw [up_at, if_neg (fun z => n2 z.2), up_at, if_neg (fun z => n1 z.2)]
    have y6 : ∀ a b : Int32, gz_up (gz_up M (2, 1, 0) (5 + 5 * p + t) a) (2, 1, 0) (5 + 5 * q + t) b (2, 1, 0) (5 + 5 * q + u) = M (2, 1, 0) (5 + 5 * q + u) := fun a b => by rw [up_at, if_neg (fun z => n4 z.2), up_at, if_neg (fun z => n3 z.2)]
    rw [y1, y1, y3, y4, y5, y6]
    exact hgo
theorem z_back (hp : p < 12) (hq : q < 12) (hpq : p ≠ q) {x1 x2 : Nat} {a1 r s : Int32} : ∀ (d t : Nat) {V M : gz_V} {n m : Nat}, t + d = 5 → d < n → d < m → cU k P H F b0 Ds Df V M → V (23, k, 0) 2 = Int32.ofNat p → V (23, k, 0) 3 = Int32.ofNat q → (∀ u, t ≤ u → u < 5 → goR k p q u V M) →
    ∃ V' M', x1_shakes_L165 N Ds Df k x1 x2 a1 r n V (Int32.ofNat t) = some V' ∧ m_putBack_L3 N (Int32.ofNat p) (Int32.ofNat q) s m M (Int32.ofNat t) = some M' ∧ cU k P H F b0 Ds Df V' M' ∧ fr (fxb k) V V' ∧ fr fmb M M' := by
  intro d
  induction d with
  | zero =>
    intro t V M n m ht hn hm h h2 h3 hgo
    obtain ⟨n, rfl⟩ : ∃ z, n = z + 1 := ⟨n - 1, by omega⟩
    obtain ⟨m, rfl⟩ : ∃ z, m = z + 1 := ⟨m - 1, by omega⟩
    have t5 : t = 5 := by omega
    subst t5
    refine ⟨V, M, ?_, ?_, h, fr.rf, fr.rf⟩
    · rw [x1_shakes_L165, if_pos (by decide)]
    · rw [m_putBack_L3, if_pos (by decide)]
  | succ d ih =>
    intro t V M n m ht hn hm h h2 h3 hgo
    obtain ⟨n, rfl⟩ : ∃ z, n = z + 1 := ⟨n - 1, by omega⟩
    obtain ⟨m, rfl⟩ : ∃ z, m = z + 1 := ⟨m - 1, by omega⟩
    obtain ⟨V1, M1, a1', a2, a3, a4, a5, a6⟩ := z_back1 (N := N) (s := s) h hp hq hpq (t := t) (by omega) h2 h3 (hgo t (Nat.le_refl _) (by omega))
    have e1 : Int32.ofNat t + 1 = Int32.ofNat (t + 1) := o_addr 1 t
    obtain ⟨V2, M2, b1, b2, b3, b4, b5⟩ := ih (t + 1) (V := V1) (M := M1) (n := n) (m := m) (by omega) (by omega) (by omega) a3 (by rw [a4 _ _ (by simp [fxb, fxa])]; exact h2) (by rw [a4 _ _ (by simp [fxb, fxa])]; exact h3) (fun u hu hu5 => a6 u hu5 (by omega) (hgo u (by omega) hu5))
    refine ⟨V2, M2, ?_, ?_, b3, a4.trans b4, a5.trans b5⟩
    · rw [x1_shakes_L165, if_neg (by rw [o_lel (by decide) (by omega)]; show ¬ 5 ≤ t; omega), a1', gs_bd, e1]
      exact b1
    · rw [a2]
      exact b2
end ALLT
