/-! COPYING a market -/
set_option maxRecDepth 100000
/-- what S names was copied from market k2 -/
def cpR (k2 : Nat) (S : gz_N → Nat → Prop) (V0 V : gz_V) : Prop := ∀ n i, (S n i → V n i = V0 (n.1, k2, n.2.2) i) ∧ (¬ S n i → V n i = V0 n i)
section CPY
variable {k1 k2 N : Nat} {S S2 : gz_N → Nat → Prop} {V0 V : gz_V}
theorem cpR.cg (h : cpR k2 S V0 V) (hs : ∀ n i, S2 n i ↔ S n i) : cpR k2 S2 V0 V := fun n i => ⟨fun q => (h n i).1 ((hs n i).mp q), fun q => (h n i).2 (fun z => q ((hs n i).mpr z))⟩
theorem cpR.st (h : cpR k2 S V0 V) (hS : ∀ n i, S n i → n.2.1 = k1) (hk : k1 ≠ k2) (a c j : Nat) : cpR k2 (fun n i => S n i ∨ (n = (a, k1, c) ∧ i = j)) V0 (gz_up V (a, k1, c) j (V (a, k2, c) j)) := fun n i => by
  have e : V (a, k2, c) j = V0 (a, k2, c) j := (h _ _).2 (fun z => hk (hS _ _ z).symm)
  constructor
  · rintro (q | ⟨rfl, rfl⟩)
    · rw [up_at]
      split
      · rename_i z
        rw [z.1, z.2, e]
      · exact (h n i).1 q
    · rw [up_at, if_pos ⟨rfl, rfl⟩]
      exact e
  · intro q
    rw [up_at, if_neg (fun z => q (Or.inr z))]
    exact (h n i).2 (fun z => q (Or.inl z))
theorem cp_traits {p : Nat} (hk : k1 ≠ k2) : ∀ (d t : Nat) {n : Nat} {V : gz_V} {S : gz_N → Nat → Prop}, t + d = 5 → d < n → cpR k2 S V0 V → (∀ n i, S n i → n.2.1 = k1) → ∃ V', x4_takes_L2 N k1 p k2 p n V (Int32.ofNat t) = some V' ∧ cpR k2 (fun n i => S n i ∨ (n = (41, k1, p) ∧ t ≤ i ∧ i < 5)) V0 V' := by
  intro d
  induction d with
  | zero =>
    intro t n V S ht hn h hS
    obtain ⟨n, rfl⟩ : ∃ z, n = z + 1 := ⟨n - 1, by omega⟩
    refine ⟨V, ?_, h.cg (fun n i => ⟨fun q => by rcases q with q | q; exact q; exfalso; omega, Or.inl⟩)⟩
    rw [x4_takes_L2, if_pos (by rw [o_lel (by decide) (by omega)]; show 5 ≤ t; omega)]
  | succ d ih =>
    intro t n V S ht hn h hS
    obtain ⟨n, rfl⟩ : ∃ z, n = z + 1 := ⟨n - 1, by omega⟩
    have e1 : Int32.ofNat t + 1 = Int32.ofNat (t + 1) := o_addr 1 t
    obtain ⟨V', a, b⟩ := ih (t + 1) (n := n) (by omega) (by omega) (h.st hS hk 41 p t) (fun n i q => by rcases q with q | ⟨rfl, -⟩; exact hS n i q; rfl)
    refine ⟨V', ?_, b.cg (fun n i => ?_)⟩
    · rw [x4_takes_L2, if_neg (by rw [o_lel (by decide) (by omega)]; show ¬ 5 ≤ t; omega), gs_gd (o_inb (by omega) (by omega)), gs_gd (o_inb (by omega) (by omega)), gs_let, o_nat (by omega), e1]
      exact a
    · constructor
      · rintro (q | ⟨q1, q2⟩)
        · exact Or.inl (Or.inl q)
        · by_cases hi : i = t
          · exact Or.inl (Or.inr ⟨q1, hi⟩)
          · exact Or.inr ⟨q1, by omega⟩
      · rintro ((q | ⟨q1, q2⟩) | ⟨q1, q2⟩)
        · exact Or.inl q
        · exact Or.inr ⟨q1, by omega⟩
        · exact Or.inr ⟨q1, by omega⟩
theorem cp_people (hN : 500 ≤ N) (hk : k1 ≠ k2) : ∀ (d p : Nat) {n : Nat} {V : gz_V} {S : gz_N → Nat → Prop}, p + d = 12 → d < n → cpR k2 S V0 V → (∀ n i, S n i → n.2.1 = k1) → ∃ V', x1_moves_L2 N k1 k2 n V (Int32.ofNat p) = some V' ∧ cpR k2 (fun n i => S n i ∨ (n.2.1 = k1 ∧ p ≤ n.2.2 ∧ n.2.2 < 12 ∧ ((n.1 = 41 ∧ i < 5) ∨ (n.1 = 40 ∧ 1 ≤ i ∧ i ≤ 3)))) V0 V' := by
  intro d
  induction d with
  | zero =>
    intro p n V S ht hn h hS
    obtain ⟨n, rfl⟩ : ∃ z, n = z + 1 := ⟨n - 1, by omega⟩
    refine ⟨V, ?_, h.cg (fun n i => ⟨fun q => by rcases q with q | q; exact q; exfalso; omega, Or.inl⟩)⟩
    rw [x1_moves_L2, if_pos (by rw [o_lel (by decide) (by omega)]; show 12 ≤ p; omega)]
  | succ d ih =>
    intro p n V S ht hn h hS
    obtain ⟨n, rfl⟩ : ∃ z, n = z + 1 := ⟨n - 1, by omega⟩
    have e1 : Int32.ofNat p + 1 = Int32.ofNat (p + 1) := o_addr 1 p
    obtain ⟨V1, a, b⟩ := cp_traits (N := N) (p := p) hk 5 0 (n := N) (by decide) (by omega) h hS
    have s1 : ∀ n i, (S n i ∨ (n = (41, k1, p) ∧ 0 ≤ i ∧ i < 5)) → n.2.1 = k1 := fun n i q => by rcases q with q | ⟨rfl, -⟩; exact hS n i q; rfl
    have c1 := b.st s1 hk 40 p 1
    have s2 : ∀ n i, ((S n i ∨ (n = (41, k1, p) ∧ 0 ≤ i ∧ i < 5)) ∨ n = (40, k1, p) ∧ i = 1) → n.2.1 = k1 := fun n i q => by rcases q with q | ⟨rfl, -⟩; exact s1 n i q; rfl
    have c2 := c1.st s2 hk 40 p 2
    have s3 : ∀ n i, (((S n i ∨ (n = (41, k1, p) ∧ 0 ≤ i ∧ i < 5)) ∨ n = (40, k1, p) ∧ i = 1) ∨ n = (40, k1, p) ∧ i = 2) → n.2.1 = k1 := fun n i q => by rcases q with q | ⟨rfl, -⟩; exact s2 n i q; rfl
    have c3 := c2.st s3 hk 40 p 3
    have s4 : ∀ n i, ((((S n i ∨ (n = (41, k1, p) ∧ 0 ≤ i ∧ i < 5)) ∨ n = (40, k1, p) ∧ i = 1) ∨ n = (40, k1, p) ∧ i = 2) ∨ n = (40, k1, p) ∧ i = 3) → n.2.1 = k1 := fun n i q => by rcases q with q | ⟨rfl, -⟩; exact s3 n i q; rfl
    obtain ⟨V', d1, d2⟩ := ih (p + 1) (n := n) (by omega) (by omega) c3 s4
    refine ⟨V', ?_, d2.cg (fun n i => ?_)⟩
    · rw [x1_moves_L2, if_neg (by rw [o_lel (by decide) (by omega)]; show ¬ 12 ≤ p; omega), gs_gd (o_inb (by omega) (by omega)), gs_gd (o_inb (by omega) (by omega)), o_nat (by omega), e1]
      unfold x4_takes
      rw [show x4_takes_L2 N k1 p k2 p N V 0 = some V1 from a]
      exact d1
    · obtain ⟨x, y, z⟩ := n
      simp only [Prod.mk.injEq]
      constructor
      · rintro (q | q)
        · exact Or.inl (Or.inl (Or.inl (Or.inl (Or.inl q))))
        · by_cases hz : z = p
          · have : ((x = 41 ∧ y = k1 ∧ z = p) ∧ 0 ≤ i ∧ i < 5) ∨ ((x = 40 ∧ y = k1 ∧ z = p) ∧ i = 1) ∨ ((x = 40 ∧ y = k1 ∧ z = p) ∧ i = 2) ∨ ((x = 40 ∧ y = k1 ∧ z = p) ∧ i = 3) := by omega
            rcases this with w | w | w | w
            · exact Or.inl (Or.inl (Or.inl (Or.inl (Or.inr w))))
            · exact Or.inl (Or.inl (Or.inl (Or.inr w)))
            · exact Or.inl (Or.inl (Or.inr w))
            · exact Or.inl (Or.inr w)
          · exact Or.inr (by omega)
      · rintro (((((q | q) | q) | q) | q) | q)
        · exact Or.inl q
        · exact Or.inr (by omega)
        · exact Or.inr (by omega)
        · exact Or.inr (by omega)
        · exact Or.inr (by omega)
        · exact Or.inr (by omega)
theorem cp_horses (hk : k1 ≠ k2) : ∀ (d p : Nat) {n : Nat} {V : gz_V} {S : gz_N → Nat → Prop}, p + d = 10 → d < n → cpR k2 S V0 V → (∀ n i, S n i → n.2.1 = k1) → ∃ V', x1_moves_L31 N k1 k2 n V (Int32.ofNat p) = some V' ∧ cpR k2 (fun n i => S n i ∨ (n.2.1 = k1 ∧ p ≤ n.2.2 ∧ n.2.2 < 10 ∧ n.1 = 42 ∧ i < 4)) V0 V' := by
  intro d
  induction d with
  | zero =>
    intro p n V S ht hn h hS
    obtain ⟨n, rfl⟩ : ∃ z, n = z + 1 := ⟨n - 1, by omega⟩
    refine ⟨V, ?_, h.cg (fun n i => ⟨fun q => by rcases q with q | q; exact q; exfalso; omega, Or.inl⟩)⟩
    rw [x1_moves_L31, if_pos (by rw [o_lel (by decide) (by omega)]; show 10 ≤ p; omega)]
  | succ d ih =>
    intro p n V S ht hn h hS
    obtain ⟨n, rfl⟩ : ∃ z, n = z + 1 := ⟨n - 1, by omega⟩
    have e1 : Int32.ofNat p + 1 = Int32.ofNat (p + 1) := o_addr 1 p
    have c1 := h.st hS hk 42 p 0
    have s1 : ∀ n i, (S n i ∨ n = (42, k1, p) ∧ i = 0) → n.2.1 = k1 := fun n i q => by rcases q with q | ⟨rfl, -⟩; exact hS n i q; rfl
    have c2 := c1.st s1 hk 42 p 1
    have s2 : ∀ n i, ((S n i ∨ n = (42, k1, p) ∧ i = 0) ∨ n = (42, k1, p) ∧ i = 1) → n.2.1 = k1 := fun n i q => by rcases q with q | ⟨rfl, -⟩; exact s1 n i q; rfl
    have c3 := c2.st s2 hk 42 p 2
    have s3 : ∀ n i, (((S n i ∨ n = (42, k1, p) ∧ i = 0) ∨ n = (42, k1, p) ∧ i = 1) ∨ n = (42, k1, p) ∧ i = 2) → n.2.1 = k1 := fun n i q => by rcases q with q | ⟨rfl, -⟩; exact s2 n i q; rfl
    have c4 := c3.st s3 hk 42 p 3
    have s4 : ∀ n i, ((((S n i ∨ n = (42, k1, p) ∧ i = 0) ∨ n = (42, k1, p) ∧ i = 1) ∨ n = (42, k1, p) ∧ i = 2) ∨ n = (42, k1, p) ∧ i = 3) → n.2.1 = k1 := fun n i q => by rcases q with q | ⟨rfl, -⟩; exact s3 n i q; rfl
    have w : ∀ (W : gz_V) (j : Nat) (x : Int32), gz_up W (42, k1, p) j x (42, k2, p) = W (42, k2, p) := fun W j x => up_ne (by simp; omega)
    simp only [w] at c2 c3 c4
    obtain ⟨V', d1, d2⟩ := ih (p + 1) (n := n) (by omega) (by omega) c4 s4
    refine ⟨V', ?_, d2.cg (fun n i => ?_)⟩
    · rw [x1_moves_L31, if_neg (by rw [o_lel (by decide) (by omega)]; show ¬ 10 ≤ p; omega), gs_gd (o_inb (by omega) (by omega)), gs_gd (o_inb (by omega) (by omega)), o_nat (by omega), e1]
      unfold x5_takes x5_begins
      simp only [gs_let, gs_bd, w]
      rw [← d1]
      congr 1
      funext m j
      simp only [up_at]
      by_cases z : m = (42, k1, p) ∧ j = 3
      · rw [if_pos z, if_pos z]
      · rw [if_neg z, if_neg z, if_neg z]
    · obtain ⟨x, y, z⟩ := n
      simp only [Prod.mk.injEq]
      constructor
      · rintro (q | q)
        · exact Or.inl (Or.inl (Or.inl (Or.inl (Or.inl q))))
        · by_cases hz : z = p
          · have : ((x = 42 ∧ y = k1 ∧ z = p) ∧ i = 0) ∨ ((x = 42 ∧ y = k1 ∧ z = p) ∧ i = 1) ∨ ((x = 42 ∧ y = k1 ∧ z = p) ∧ i = 2) ∨ ((x = 42 ∧ y = k1 ∧ z = p) ∧ i = 3) := by omega
            rcases this with w | w | w | w
            · exact Or.inl (Or.inl (Or.inl (Or.inl (Or.inr w))))
            · exact Or.inl (Or.inl (Or.inl (Or.inr w)))
            · exact Or.inl (Or.inl (Or.inr w))
            · exact Or.inl (Or.inr w)
          · exact Or.inr (by omega)
      · rintro (((((q | q) | q) | q) | q) | q)
        · exact Or.inl q
        · exact Or.inr (by omega)
        · exact Or.inr (by omega)
        · exact Or.inr (by omega)
        · exact Or.inr (by omega)
        · exact Or.inr (by omega)
/-- what deeds and days move -/
def mvS (k1 : Nat) (n : gz_N) (i : Nat) : Prop := n.2.1 = k1 ∧ ((n.2.2 < 12 ∧ ((n.1 = 41 ∧ i < 5) ∨ (n.1 = 40 ∧ 1 ≤ i ∧ i ≤ 3))) ∨ (n.2.2 < 10 ∧ n.1 = 42 ∧ i < 4) ∨ (n.1 = 20 ∧ n.2.2 = 0 ∧ 15 ≤ i ∧ i ≤ 19))
theorem x_moves (hN : 500 ≤ N) (hk : k1 ≠ k2) : ∃ V', x1_moves N V0 k1 k2 = some V' ∧ cpR k2 (mvS k1) V0 V' := by
  obtain ⟨V1, a1, b1⟩ := cp_people (N := N) (V0 := V0) hN hk 12 0 (n := N) (V := V0) (S := fun _ _ => False) (by decide) (by omega) (fun n i => ⟨fun q => q.elim, fun _ => rfl⟩) (fun n i q => q.elim)
  obtain ⟨V2, a2, b2⟩ := cp_horses (N := N) (V0 := V0) hk 10 0 (n := N) (by decide) (by omega) b1 (fun n i q => by rcases q with q | q; exact q.elim; exact q.1)
  have s0 : ∀ (n : gz_N) (i : Nat), ((False ∨ (n.2.1 = k1 ∧ 0 ≤ n.2.2 ∧ n.2.2 < 12 ∧ ((n.1 = 41 ∧ i < 5) ∨ (n.1 = 40 ∧ 1 ≤ i ∧ i ≤ 3)))) ∨ (n.2.1 = k1 ∧ 0 ≤ n.2.2 ∧ n.2.2 < 10 ∧ n.1 = 42 ∧ i < 4)) → n.2.1 = k1 := fun n i q => by rcases q with (q | q) | q; exact q.elim; exact q.1; exact q.1
  have c1 := b2.st s0 hk 20 0 15
  have c2 := c1.st (fun n i q => by rcases q with q | ⟨rfl, -⟩; exact s0 n i q; rfl) hk 20 0 16
  have c3 := c2.st (fun n i q => by rcases q with (q | ⟨rfl, -⟩) | ⟨rfl, -⟩; exact s0 n i q; rfl; rfl) hk 20 0 17
  have c4 := c3.st (fun n i q => by rcases q with ((q | ⟨rfl, -⟩) | ⟨rfl, -⟩) | ⟨rfl, -⟩; exact s0 n i q; rfl; rfl; rfl) hk 20 0 18
  have c5 := c4.st (fun n i q => by rcases q with (((q | ⟨rfl, -⟩) | ⟨rfl, -⟩) | ⟨rfl, -⟩) | ⟨rfl, -⟩; exact s0 n i q; rfl; rfl; rfl; rfl) hk 20 0 19
  refine ⟨_, ?_, c5.cg (fun n i => ?_)⟩
  · unfold x1_moves
    rw [show x1_moves_L2 N k1 k2 N V0 0 = some V1 from a1, gs_bd, show x1_moves_L31 N k1 k2 N V1 0 = some V2 from a2]
    rfl
  · obtain ⟨x, y, z⟩ := n
    unfold mvS
    constructor
    · rintro ⟨hy, h | h | ⟨h1, h2, h3, h4⟩⟩
      · exact Or.inl (Or.inl (Or.inl (Or.inl (Or.inl (Or.inl (Or.inr ⟨hy, Nat.zero_le _, h.1, h.2⟩))))))
      · exact Or.inl (Or.inl (Or.inl (Or.inl (Or.inl (Or.inr ⟨hy, Nat.zero_le _, h.1, h.2⟩)))))
      · have e : ((x, y, z) : gz_N) = (20, k1, 0) := Prod.ext h1 (Prod.ext hy h2)
        have : i = 15 ∨ i = 16 ∨ i = 17 ∨ i = 18 ∨ i = 19 := by omega
        rcases this with w | w | w | w | w
        · exact Or.inl (Or.inl (Or.inl (Or.inl (Or.inr ⟨e, w⟩))))
        · exact Or.inl (Or.inl (Or.inl (Or.inr ⟨e, w⟩)))
        · exact Or.inl (Or.inl (Or.inr ⟨e, w⟩))
        · exact Or.inl (Or.inr ⟨e, w⟩)
        · exact Or.inr ⟨e, w⟩
    · have fin : ∀ w, 15 ≤ w → w ≤ 19 → ((x, y, z) : gz_N) = (20, k1, 0) ∧ i = w → mvS k1 (x, y, z) i := fun w h1 h2 h3 => by
        obtain ⟨h3, rfl⟩ := h3
        rw [h3]
        exact ⟨rfl, Or.inr (Or.inr ⟨rfl, rfl, h1, h2⟩)⟩
      rintro ((((((( h | h) | h) | h) | h) | h) | h) | h)
      · exact h.elim
      · exact ⟨h.1, Or.inl ⟨h.2.2.1, h.2.2.2⟩⟩
      · exact ⟨h.1, Or.inr (Or.inl ⟨h.2.2.1, h.2.2.2⟩)⟩
      · exact fin 15 (by decide) (by decide) h
      · exact fin 16 (by decide) (by decide) h
      · exact fin 17 (by decide) (by decide) h
      · exact fin 18 (by decide) (by decide) h
      · exact fin 19 (by decide) (by decide) h
end CPY
