/-! FACTS, and the three words of the law -/
set_option maxRecDepth 100000
abbrev fA : gz_N → Nat → Bool := fun n _ => n == (2, 40, 0)
theorem m_trait_ok {M : gz_V} {p t : Nat} (hp : p < 12) (ht : t < 5) : m_traitOf M (Int32.ofNat p) (Int32.ofNat t) = some (M (2, 1, 0) (5 + 5 * p + t)) := by
  unfold m_traitOf
  rw [o_mull, o_addl, o_add, gs_gd (o_inb (by omega) (by omega)), o_nat (by omega)]
/-- what is looked at, by its places -/
noncomputable def lk (M : gz_V) (p q t : Nat) (a4 : Int32) (w s : Int32) : Nat → Int32 := fun i => if i = 0 then Int32.ofNat t else if i = 1 then (if a4 = 0 then 0 else M (2, 1, 0) (5 + 5 * p + t)) else if i = 2 then (if a4 = 0 then 0 else M (2, 1, 0) (5 + 5 * q + t)) else if i = 3 then M (1, 0, 0) 42 else if i = 4 then M (1, 0, 0) 43 else if i = 5 then w else if i = 6 then s else if i = 7 then M (2, 1, 0) (89 + p) else if i = 8 then M (2, 1, 0) (65 + p) else if i = 9 then (if m_has (M (2, 39, 0) p) (Int32.ofNat q) = 0 then 0 else 1) else M (2, 1, 0) 0
theorem m_looks_ok {M : gz_V} {p q t : Nat} (hp : p < 12) (hq : q < 12) (ht : t < 5) {a4 w s : Int32} (hg : (M (1, 0, 0) 44 = -1 ∧ w = 0 ∧ s = 0) ∨ ∃ h, h < 10 ∧ M (1, 0, 0) 44 = Int32.ofNat h ∧ w = M (2, 8, 0) h ∧ s = M (2, 9, 0) h) :
    ∃ M1, m_looks M (Int32.ofNat p) (Int32.ofNat q) (Int32.ofNat t) a4 = some M1 ∧ fr fA M M1 ∧ ∀ i, i < 11 → M1 (2, 40, 0) i = lk M p q t a4 w s i := by
  have z0 : (0 : Int32).toNatClampNeg = 0 := rfl
  have z1 : (1 : Int32).toNatClampNeg = 1 := rfl
  have z2 : (2 : Int32).toNatClampNeg = 2 := rfl
  have z3 : (3 : Int32).toNatClampNeg = 3 := rfl
  have z4 : (4 : Int32).toNatClampNeg = 4 := rfl
  have z5 : (5 : Int32).toNatClampNeg = 5 := rfl
  have z6 : (6 : Int32).toNatClampNeg = 6 := rfl
  have z7 : (7 : Int32).toNatClampNeg = 7 := rfl
  have z8 : (8 : Int32).toNatClampNeg = 8 := rfl
  have z9 : (9 : Int32).toNatClampNeg = 9 := rfl
  have z10 : (10 : Int32).toNatClampNeg = 10 := rfl
  have e1 : ∀ V : gz_V, (if a4 = 0 then some (0 : Int32) else gz_bd (m_traitOf V (Int32.ofNat p) (Int32.ofNat t)) (fun r7 => some r7)) = some (if a4 = 0 then 0 else V (2, 1, 0) (5 + 5 * p + t)) := fun V => by
    rw [m_trait_ok hp ht]
    split <;> rfl
  have e2 : ∀ V : gz_V, (if a4 = 0 then some (0 : Int32) else gz_bd (m_traitOf V (Int32.ofNat q) (Int32.ofNat t)) (fun r7 => some r7)) = some (if a4 = 0 then 0 else V (2, 1, 0) (5 + 5 * q + t)) := fun V => by
    rw [m_trait_ok hq ht]
    split <;> rfl
  have e3 : ∀ V : gz_V, V (1, 0, 0) 44 = M (1, 0, 0) 44 → V (2, 8, 0) = M (2, 8, 0) → (if (V (1, 0, 0) 44) = (-1) then some (0 : Int32) else gz_gd (gz_inb (V (1, 0, 0) 44) 10 = true) (some (V (2, 8, 0) (V (1, 0, 0) 44).toNatClampNeg))) = some w := fun V h1 h2 => by
    rw [h1, h2]
    rcases hg with ⟨g1, g2, g3⟩ | ⟨h, g0, g1, g2, g3⟩
    · rw [g1, if_pos rfl, g2]
    · rw [g1, if_neg (by rw [i_eq, i_of (by omega)]; show ¬ (h : Int) = -1; omega), gs_gd (o_inb g0 (by omega)), o_nat (by omega), g2]
  have e4 : ∀ V : gz_V, V (1, 0, 0) 44 = M (1, 0, 0) 44 → V (2, 9, 0) = M (2, 9, 0) → (if (V (1, 0, 0) 44) = (-1) then some (0 : Int32) else gz_gd (gz_inb (V (1, 0, 0) 44) 10 = true) (some (V (2, 9, 0) (V (1, 0, 0) 44).toNatClampNeg))) = some s := fun V h1 h2 => by
    rw [h1, h2]
    rcases hg with ⟨g1, g2, g3⟩ | ⟨h, g0, g1, g2, g3⟩
    · rw [g1, if_pos rfl, g3]
    · rw [g1, if_neg (by rw [i_eq, i_of (by omega)]; show ¬ (h : Int) = -1; omega), gs_gd (o_inb g0 (by omega)), o_nat (by omega), g3]
  have u1 : ∀ (V : gz_V) (j : Nat) (x : Int32), gz_up V (2, 40, 0) j x (1, 0, 0) = V (1, 0, 0) := fun V j x => up_ne (by decide)
  have u2 : ∀ (V : gz_V) (j : Nat) (x : Int32), gz_up V (2, 40, 0) j x (2, 1, 0) = V (2, 1, 0) := fun V j x => up_ne (by decide)
  have u3 : ∀ (V : gz_V) (j : Nat) (x : Int32), gz_up V (2, 40, 0) j x (2, 8, 0) = V (2, 8, 0) := fun V j x => up_ne (by decide)
  have u4 : ∀ (V : gz_V) (j : Nat) (x : Int32), gz_up V (2, 40, 0) j x (2, 9, 0) = V (2, 9, 0) := fun V j x => up_ne (by decide)
  have u5 : ∀ (V : gz_V) (j : Nat) (x : Int32), gz_up V (2, 40, 0) j x (2, 39, 0) = V (2, 39, 0) := fun V j x => up_ne (by decide)
  unfold m_looks
  simp only [gs_let, e1, gs_bd, e2]
  rw [e3 _ (by simp only [u1]) (by simp only [u3]), gs_bd, e4 _ (by simp only [u1]) (by simp only [u4]), gs_bd]
  rw [o_addl, gs_gd (o_inb (by omega) (by omega)), o_addl, gs_gd (o_inb (by omega) (by omega)), gs_gd (o_inb (by omega) (by omega))]
  refine ⟨_, rfl, ?_, fun i hi => ?_⟩
  · repeat (refine fr.up ?_ rfl)
    exact fr.rf
  · rw [o_nat (show p < 2147483648 by omega), o_nat (show 89 + p < 2147483648 by omega), o_nat (show 65 + p < 2147483648 by omega), z0, z1, z2, z3, z4, z5, z6, z7, z8, z9, z10]
    simp only [u1, u2, u5]
    have : i = 0 ∨ i = 1 ∨ i = 2 ∨ i = 3 ∨ i = 4 ∨ i = 5 ∨ i = 6 ∨ i = 7 ∨ i = 8 ∨ i = 9 ∨ i = 10 := by omega
    rcases this with rfl | rfl | rfl | rfl | rfl | rfl | rfl | rfl | rfl | rfl | rfl <;> simp [up_at, lk]
/-- the grip as the twin has it -/
def grR (k : Nat) (V M : gz_V) : Prop := V (23, k, 0) 4 = M (1, 0, 0) 42 ∧ V (23, k, 0) 5 = M (1, 0, 0) 43 ∧ ((M (1, 0, 0) 44 = -1 ∧ V (23, k, 0) 6 = 0 ∧ V (23, k, 0) 7 = 0) ∨ ∃ h, h < 10 ∧ M (1, 0, 0) 44 = Int32.ofNat h ∧ V (23, k, 0) 6 = M (2, 8, 0) h ∧ V (23, k, 0) 7 = M (2, 9, 0) h)
theorem h_kin {K q : Nat} (hK : K < 4096) (hq : q < 12) : ((Int32.ofNat K >>> (Int32.ofNat q &&& 31)) &&& 1) = if m_has (Int32.ofNat K) (Int32.ofNat q) = 0 then 0 else 1 := by
  have h01 : ∀ x : Int32, (x &&& 1) = 0 ∨ (x &&& 1) = 1 := fun x => by
    have e : (x &&& 1).toBitVec = x.toBitVec &&& 1#32 := rfl
    have hb : x.toBitVec &&& 1#32 = 0#32 ∨ x.toBitVec &&& 1#32 = 1#32 := by
      have hle : (x.toBitVec &&& 1#32).toNat ≤ 1 := by
        rw [BitVec.toNat_and]
        exact Nat.and_le_right
      rcases Nat.le_one_iff_eq_zero_or_eq_one.mp hle with h | h
      · exact Or.inl (BitVec.eq_of_toNat_eq h)
      · exact Or.inr (BitVec.eq_of_toNat_eq h)
    rcases hb with h | h
    · exact Or.inl (Int32.toBitVec_inj.mp (by rw [e, h]; rfl))
    · exact Or.inr (Int32.toBitVec_inj.mp (by rw [e, h]; rfl))
  unfold m_has
  rcases h01 (Int32.ofNat K >>> (Int32.ofNat q &&& 31)) with h | h
  · rw [h]; decide
  · rw [h]; decide
/-- facts, both ways -/
theorem l_fact {k P H p q t : Nat} {Ds : gz_S} {Df : gz_R} {V M : gz_V} {a4 tr w s : Int32} (hS : cS k P H Ds Df V M) (hr : rR k V M) (hg : V (23, k, 0) 4 = M (1, 0, 0) 42 ∧ V (23, k, 0) 5 = M (1, 0, 0) 43 ∧ V (23, k, 0) 6 = w ∧ V (23, k, 0) 7 = s) (hp : p < 12) (hq : q < 12) (ht : t < 5) (h22 : V (20, k, 0) 22 = Int32.ofNat p) (h23 : V (20, k, 0) 23 = Int32.ofNat q) (h24 : V (20, k, 0) 24 = tr) (htr : (tr = -1 ∧ a4 = 0 ∧ t = 0) ∨ (tr = Int32.ofNat t ∧ a4 = 1)) :
    ∀ x : Int32, 0 ≤ x.toInt → x.toInt < 11 → x1_fact Ds Df V k x = some (lk M p q t a4 w s x.toNatClampNeg) := by
  obtain ⟨n4, K, c1, c2, c3, c4, c5⟩ := hS.2.2.2.2.2.2.2.2.2.2.2
  have hP : P ≤ 12 := hS.2.1
  intro x hx0 hx
  obtain ⟨j, hj, rfl⟩ := o_ex (n := 11) hx0 hx
  rw [o_nat (by omega)]
  unfold x1_fact
  rw [h22, h23, h24, gs_gd (o_inb hp (by omega)), gs_let, o_nat (show p < 2147483648 by omega), o_nat (show q < 2147483648 by omega)]
  have T1 : V (41, k, p) t = M (2, 1, 0) (5 + 5 * p + t) := hr.trait hp ht
  have T2 : V (41, k, q) t = M (2, 1, 0) (5 + 5 * q + t) := hr.trait hq ht
  have T3 : V (40, k, p) 3 = M (2, 1, 0) (89 + p) := hr.shook hp
  have T4 : V (40, k, p) 1 = M (2, 1, 0) (65 + p) := hr.purse hp
  have T5 : V (20, k, 0) 17 = M (2, 1, 0) 0 := hr 0 (by decide)
  have hK : K p < 4096 := Nat.lt_of_lt_of_le (c4 p hp).2.2 (Nat.pow_le_pow_right (by decide) hP)
  have hj' : j = 0 ∨ j = 1 ∨ j = 2 ∨ j = 3 ∨ j = 4 ∨ j = 5 ∨ j = 6 ∨ j = 7 ∨ j = 8 ∨ j = 9 ∨ j = 10 := by omega
  have n24 : ∀ t : Nat, t < 5 → ¬ Int32.ofNat t = -1 := by decide
  rcases htr with ⟨rfl, rfl, rfl⟩ | ⟨rfl, rfl⟩
  · rcases hj' with rfl | rfl | rfl | rfl | rfl | rfl | rfl | rfl | rfl | rfl | rfl
    · rfl
    · rfl
    · rfl
    · rw [hg.1]; rfl
    · rw [hg.2.1]; rfl
    · rw [hg.2.2.1]; rfl
    · rw [hg.2.2.2]; rfl
    · rw [T3]; rfl
    · rw [T4]; rfl
    · rw [if_neg (by decide), if_neg (by decide), if_neg (by decide), if_neg (by decide), if_neg (by decide), if_neg (by decide), if_neg (by decide), if_neg (by decide), if_neg (by decide), if_pos (by decide), c1, gs_bd, gs_gd ⟨c2, c3⟩, gs_gd (o_inb hp (by omega)), (c4 p hp).1, h_kin hK hq]
      show some (if m_has (Int32.ofNat (K p)) (Int32.ofNat q) = 0 then (0 : Int32) else 1) = some (if m_has (M (2, 39, 0) p) (Int32.ofNat q) = 0 then 0 else 1)
      rw [(c4 p hp).2.1]
    · rw [T5]; rfl
  · have nt := n24 t ht
    have ib : gz_inb (Int32.ofNat t) 5 = true := o_inb ht (by omega)
    have tn : (Int32.ofNat t).toNatClampNeg = t := o_nat (by omega)
    rcases hj' with rfl | rfl | rfl | rfl | rfl | rfl | rfl | rfl | rfl | rfl | rfl
    · show some (gz_max 0 (Int32.ofNat t)) = some (Int32.ofNat t)
      have : ∀ t : Nat, t < 5 → gz_max 0 (Int32.ofNat t) = Int32.ofNat t := by unfold gz_max; decide
      rw [this t ht]
    · rw [if_neg nt, gs_gd ib, tn, T1]; rfl
    · rw [if_neg (by decide), if_neg (by decide), if_pos (by decide), if_neg nt, gs_gd (o_inb hq (by omega)), gs_gd ib, tn, T2]; rfl
    · rw [hg.1]; rfl
    · rw [hg.2.1]; rfl
    · rw [hg.2.2.1]; rfl
    · rw [hg.2.2.2]; rfl
    · rw [T3]; rfl
    · rw [T4]; rfl
    · rw [if_neg (by decide), if_neg (by decide), if_neg (by decide), if_neg (by decide), if_neg (by decide), if_neg (by decide), if_neg (by decide), if_neg (by decide), if_neg (by decide), if_pos (by decide), c1, gs_bd, gs_gd ⟨c2, c3⟩, gs_gd (o_inb hp (by omega)), (c4 p hp).1, h_kin hK hq]
      show some (if m_has (Int32.ofNat (K p)) (Int32.ofNat q) = 0 then (0 : Int32) else 1) = some (if m_has (M (2, 39, 0) p) (Int32.ofNat q) = 0 then 0 else 1)
      rw [(c4 p hp).2.1]
    · rw [T5]; rfl
