/-! A CLASP, both ways -/
set_option maxRecDepth 100000
/-- what was paid goes back -/
def pc (M : gz_V) (p q : Nat) (a : Int32) : gz_V := fun n i => if n = (2, 1, 0) ∧ i = 65 + p then M (2, 1, 0) (65 + p) - a else if n = (2, 1, 0) ∧ i = 65 + q then M (2, 1, 0) (65 + q) + a else M n i
theorem pc_up {M : gz_V} {p q j : Nat} {a x : Int32} {n : gz_N} (h : n ≠ (2, 1, 0) ∨ j < 65) : gz_up (pc M p q a) n j x = pc (gz_up M n j x) p q a := by
  funext m i
  unfold pc
  simp only [up_at]
  by_cases h1 : m = n ∧ i = j
  · obtain ⟨rfl, rfl⟩ := h1
    simp only [and_self, if_true]
    rw [if_neg, if_neg]
    · rintro ⟨rfl, h2⟩
      rcases h with h | h
      · exact h rfl
      · omega
    · rintro ⟨rfl, h2⟩
      rcases h with h | h
      · exact h rfl
      · omega
  · rw [if_neg h1]
    have e : ∀ u, ((2, 1, 0) : gz_N) = n ∧ 65 + u = j → False := fun u z => by
      rcases h with h | h
      · exact h z.1.symm
      · omega
    rw [if_neg (e p), if_neg (e q), if_neg h1]
theorem pc_ne {M : gz_V} {p q i : Nat} {a : Int32} {n : gz_N} (h : n ≠ (2, 1, 0) ∨ i < 65) : pc M p q a n i = M n i := by
  unfold pc
  rw [if_neg, if_neg]
  · rintro ⟨rfl, h2⟩
    rcases h with h | h
    · exact h rfl
    · omega
  · rintro ⟨rfl, h2⟩
    rcases h with h | h
    · exact h rfl
    · omega
theorem m_notes_pc {M : gz_V} {p q : Nat} {a x y z : Int32} : m_notes (pc M p q a) x y z = gz_bd (m_notes M x y z) (fun M' => some (pc M' p q a)) := by
  unfold m_notes
  rw [pc_ne (Or.inl (by decide)), pc_ne (Or.inr (by decide)), pc_ne (Or.inr (by decide))]
  by_cases h1 : M (1, 0, 0) 5 = 0
  · rw [if_pos h1, if_pos h1]
    by_cases h2 : M (2, 1, 0) (2 : Int32).toNatClampNeg = 150
    · rw [if_pos h2, if_pos h2]
      rfl
    · rw [if_neg h2, if_neg h2]
      simp only [gs_let]
      unfold gz_gd
      by_cases g1 : gz_inb (4 * M (2, 1, 0) (2 : Int32).toNatClampNeg) 600 = true
      · rw [if_pos g1, if_pos g1]
        by_cases g2 : gz_inb (4 * M (2, 1, 0) (2 : Int32).toNatClampNeg + 1) 600 = true
        · rw [if_pos g2, if_pos g2]
          by_cases g3 : gz_inb (4 * M (2, 1, 0) (2 : Int32).toNatClampNeg + 2) 600 = true
          · rw [if_pos g3, if_pos g3]
            by_cases g4 : gz_inb (4 * M (2, 1, 0) (2 : Int32).toNatClampNeg + 3) 600 = true
            · rw [if_pos g4, if_pos g4, pc_up (Or.inl (by decide)), pc_up (Or.inl (by decide)), pc_up (Or.inl (by decide)), pc_up (Or.inl (by decide)), pc_ne (Or.inr (by decide)), pc_up (Or.inr (by decide)), gs_bd]
            · rw [if_neg g4, if_neg g4]; rfl
          · rw [if_neg g3, if_neg g3]; rfl
        · rw [if_neg g2, if_neg g2]; rfl
      · rw [if_neg g1, if_neg g1]; rfl
  · rw [if_neg h1, if_neg h1]
    rfl
theorem goR.mv {k p q t : Nat} {V M V2 M2 : gz_V} (h : goR k p q t V M) (h1 : V2 (24, k, 0) t = V (24, k, 0) t) (h2 : V2 (24, k, 1) t = V (24, k, 1) t) (h3 : M2 (2, 45, 0) t = M (2, 45, 0) t) (h4 : M2 (2, 46, 0) t = M (2, 46, 0) t) (h5 : M2 (2, 1, 0) (5 + 5 * p + t) = M (2, 1, 0) (5 + 5 * p + t)) (h6 : M2 (2, 1, 0) (5 + 5 * q + t) = M (2, 1, 0) (5 + 5 * q + t)) : goR k p q t V2 M2 := by
  unfold goR at *
  rw [h1, h2, h3, h4, h5, h6]
  exact h
section CLASP
variable {k P H b0 p q N : Nat} {F : Int32} {Ds : gz_S} {Df : gz_R} {V M : gz_V}
theorem cU.slot (h : cU k P H F b0 Ds Df V M) {n : gz_N} {j i : Nat} {v : Int32} (hi : i < 121) (hi2 : i ≠ 2 ∧ ¬ (5 ≤ i ∧ i < 65) ∧ ¬ (101 ≤ i ∧ i < 111)) (hx : xr (gz_up V n j v) k = upd (xr V k) i v) (hf : fx k n j = true) (h26 : n.1 ≠ 26) : cU k P H F b0 Ds Df (gz_up V n j v) (gz_up M (2, 1, 0) i v) := by
  refine h.row (fr.rf.up hf) (fr.rf.up (by simp [fm])) (fun i' hi' => ?_) (fun i' h1 h2 => ?_) (fun j hj => ?_) ?_ (fun i => ?_) ?_
  · have := h.2.1 i' hi'
    rw [hx]
    simp only [upd_at, up_at, true_and, this]
  · have := h.2.2.1.1 i' h1 h2
    simp only [up_at, true_and]
    rw [if_neg (by omega)]
    exact this
  · have := h.2.2.1.2.1 j hj
    have hH := h.1.2.2.1
    simp only [up_at, true_and]
    rw [if_neg (by omega)]
    exact this
  · simp only [up_at, true_and]
    rw [if_neg (by omega)]
  · rw [up_ne (fun e => h26 (by rw [← e]))]
  · rw [up_ne (by decide)]
/-- the back road -/
theorem z_hold (h : cU k P H F b0 Ds Df V M) (hN : 500 ≤ N) (hp : p < 12) (hq : q < 12) (hpq : p ≠ q) (h2 : V (23, k, 0) 2 = Int32.ofNat p) (h3 : V (23, k, 0) 3 = Int32.ofNat q) (hgo : ∀ u, u < 5 → goR k p q u V M) {x1 x2 : Nat} {a1 r : Int32} :
    ∃ V30 V40 M16 M20, x1_shakes_L165 N Ds Df k x1 x2 a1 r N V 0 = some V30 ∧ x1_notes (gz_up (gz_up (gz_up (gz_up V30 (20, k, 0) 15 (V30 (20, k, 0) 15 - r)) (40, k, p) 1 (gz_up V30 (20, k, 0) 15 (V30 (20, k, 0) 15 - r) (40, k, p) 1 - a1)) (40, k, q) 1 (gz_up (gz_up V30 (20, k, 0) 15 (V30 (20, k, 0) 15 - r)) (40, k, p) 1 (gz_up V30 (20, k, 0) 15 (V30 (20, k, 0) 15 - r) (40, k, p) 1 - a1) (40, k, q) 1 + a1)) (20, k, 0) 16 (gz_up (gz_up (gz_up V30 (20, k, 0) 15 (V30 (20, k, 0) 15 - r)) (40, k, p) 1 (gz_up V30 (20, k, 0) 15 (V30 (20, k, 0) 15 - r) (40, k, p) 1 - a1)) (40, k, q) 1 (gz_up (gz_up V30 (20, k, 0) 15 (V30 (20, k, 0) 15 - r)) (40, k, p) 1 (gz_up V30 (20, k, 0) 15 (V30 (20, k, 0) 15 - r) (40, k, p) 1 - a1) (40, k, q) 1 + a1) (20, k, 0) 16 + 1)) k 3 (Int32.ofNat q) (Int32.ofNat p) = some V40
      ∧ V30 (23, k, 0) = V (23, k, 0) ∧ m_putBack N M (Int32.ofNat p) (Int32.ofNat q) r = some M16 ∧ m_notes (gz_up M16 (2, 1, 0) 4 (M16 (2, 1, 0) 4 + 1)) 3 (Int32.ofNat q) (Int32.ofNat p) = some M20 ∧ cU k P H F b0 Ds Df V40 (pc M20 p q a1) ∧ fr (fx k) V V40 ∧ fr fm M M20 ∧ M20 (1, 0, 0) = M (1, 0, 0) := by
  obtain ⟨V30, M14, a, b, c, d, e⟩ := z_back (N := N) (x1 := x1) (x2 := x2) (a1 := a1) (r := r) (s := r) hp hq hpq 5 0 (n := N) (m := N) (by decide) (by omega) (by omega) h h2 h3 (fun u _ hu => hgo u hu)
  have c1 := c.slot (n := (20, k, 0)) (j := 15) (i := 3) (v := V30 (20, k, 0) 15 - r) (by decide) (by decide) xu_passed (by simp [fx]) (show (20 : Nat) ≠ 26 by decide)
  generalize hV32 : gz_up V30 (20, k, 0) 15 (V30 (20, k, 0) 15 - r) = V32 at *
  rw [c.2.1.passed] at c1
  generalize hM16 : gz_up M14 (2, 1, 0) 3 (M14 (2, 1, 0) 3 - r) = M16 at *
  have c2 := c1.slot (n := (40, k, p)) (j := 1) (i := 65 + p) (v := V32 (40, k, p) 1 - a1) (by omega) (by omega) (xu_purse hp) (by simp [fx]) (show (40 : Nat) ≠ 26 by decide)
  have c3 := c2.slot (n := (40, k, q)) (j := 1) (i := 65 + q) (v := gz_up V32 (40, k, p) 1 (V32 (40, k, p) 1 - a1) (40, k, q) 1 + a1) (by omega) (by omega) (xu_purse hq) (by simp [fx]) (show (40 : Nat) ≠ 26 by decide)
  have c4 := c3.slot (n := (20, k, 0)) (j := 16) (i := 4) (v := gz_up (gz_up V32 (40, k, p) 1 (V32 (40, k, p) 1 - a1)) (40, k, q) 1 (gz_up V32 (40, k, p) 1 (V32 (40, k, p) 1 - a1) (40, k, q) 1 + a1) (20, k, 0) 16 + 1) (by decide) (by decide) xu_held (by simp [fx]) (show (20 : Nat) ≠ 26 by decide)
  have y1 : V32 (40, k, p) 1 = M16 (2, 1, 0) (65 + p) := c1.2.1.purse hp
  have y2 : gz_up V32 (40, k, p) 1 (V32 (40, k, p) 1 - a1) (40, k, q) 1 = M16 (2, 1, 0) (65 + q) := by rw [up_ne (by simp; omega)]; exact c1.2.1.purse hq
  have y3 : gz_up (gz_up V32 (40, k, p) 1 (V32 (40, k, p) 1 - a1)) (40, k, q) 1 (gz_up V32 (40, k, p) 1 (V32 (40, k, p) 1 - a1) (40, k, q) 1 + a1) (20, k, 0) 16 = M16 (2, 1, 0) 4 := by rw [up_ne (by simp), up_ne (by simp)]; exact c1.2.1.held
  have eM : gz_up (gz_up (gz_up M16 (2, 1, 0) (65 + p) (V32 (40, k, p) 1 - a1)) (2, 1, 0) (65 + q) (gz_up V32 (40, k, p) 1 (V32 (40, k, p) 1 - a1) (40, k, q) 1 + a1)) (2, 1, 0) 4 (gz_up (gz_up V32 (40, k, p) 1 (V32 (40, k, p) 1 - a1)) (40, k, q) 1 (gz_up V32 (40, k, p) 1 (V32 (40, k, p) 1 - a1) (40, k, q) 1 + a1) (20, k, 0) 16 + 1) = pc (gz_up M16 (2, 1, 0) 4 (M16 (2, 1, 0) 4 + 1)) p q a1 := by
    rw [← pc_up (Or.inr (by decide)), y3, y2, y1]
    congr 1
    funext n i
    unfold pc
    simp only [up_at]
    by_cases e1 : n = (2, 1, 0) ∧ i = 65 + q
    · rw [if_pos e1, if_neg (by omega), if_pos e1]
    · rw [if_neg e1]
      by_cases e2 : n = (2, 1, 0) ∧ i = 65 + p
      · rw [if_pos e2, if_pos e2]
      · rw [if_neg e2, if_neg e2, if_neg e1]
  rw [eM] at c4
  obtain ⟨V40, Mt, n1, n2, n3, n4, n5⟩ := z_notes c4 3 (Int32.ofNat q) (Int32.ofNat p)
  rw [m_notes_pc] at n2
  obtain ⟨M20, n6, n7⟩ := gz_bd_o n2
  cases n7
  have fM20 : fr fm (gz_up M16 (2, 1, 0) 4 (M16 (2, 1, 0) 4 + 1)) M20 := by
    intro n i hn
    have h1 : n ≠ (2, 1, 0) := fun e => by rw [e] at hn; cases hn
    have := n5 n i (fmn_fm n i hn)
    rw [pc_ne (Or.inl h1), pc_ne (Or.inl h1)] at this
    exact this
  have hput : m_putBack N M (Int32.ofNat p) (Int32.ofNat q) r = some M16 := by
    unfold m_putBack
    rw [show (0 : Int32) = Int32.ofNat 0 from rfl, b, gs_bd, gs_let]
    exact congrArg some hM16
  refine ⟨V30, V40, M16, M20, a, ?_, funext (fun i => d _ i (by simp [fxb, fxa])), hput, n6, n3, ?_, ?_, ?_⟩
  · rw [hV32]
    exact n1
  · refine (d.wk fxb_fx).trans (fr.trans ?_ (n4.wk fxn_fx))
    rw [← hV32]
    exact (((fr.rf.up (by simp [fx])).up (by simp [fx])).up (by simp [fx])).up (by simp [fx])
  · refine (e.wk fmb_fm).trans (fr.trans ?_ fM20)
    rw [← hM16]
    exact (fr.rf.up (by simp [fm])).up (by simp [fm])
  · funext i
    have h1 : ((1, 0, 0) : gz_N) ≠ (2, 1, 0) := by decide
    have := n5 (1, 0, 0) i rfl
    rw [pc_ne (Or.inl h1), pc_ne (Or.inl h1), up_ne (by decide), ← hM16, up_ne (by decide)] at this
    rw [this]
    exact e _ i rfl
end CLASP
