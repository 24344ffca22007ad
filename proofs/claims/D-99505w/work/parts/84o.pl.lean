/-! told -/
set_option maxRecDepth 100000
theorem J_told {N : Nat} : lo_told JJ N := by
  intro Ds Df V c M a1 a2 h
  have h0 := h.m0
  obtain ⟨P, H, b, ⟨-, -, -, -, -, t0, tc, t1, t2, t3, t4⟩, -⟩ := h.m0
  unfold x0_told m_told
  rw [gs_let, isIn_eq, isIn_eq]
  generalize gz_up M (1, 0, 0) 0 0 = M1 at *
  have fin : ∀ V2 M2, tdR 0 0 48 49 0 11 16 V2 M2 → tdC 0 V2 M2 → (∀ n i, ¬ (n = (27, 0, 0) ∧ i = 1) → ¬ (n.1 = 30 + 0 ∧ n.2.1 = 0) → V2 n i = V n i) → (∀ n i, ¬ (n = (1, 0, 0) ∧ i = 48) → n ≠ (2, 49, 0) → n ≠ (2, 50, 0) → M2 n i = M1 n i) → JJ Ds Df V2 c M2 := fun V2 M2 q qc hx hm => by
    have ot : ∀ {r' f' a' lo' hi' cap' : Nat}, r' ≠ 0 → f' ≠ 48 → a' ≠ 49 → a' ≠ 50 → tdR 0 r' f' a' lo' hi' cap' V M1 → tdR 0 r' f' a' lo' hi' cap' V2 M2 := by
      intro r' f' a' lo' hi' cap' hr hf ha ha2 ⟨m, h1, h2, h3, h4⟩
      have q : ∀ i j, V2 (30 + r', 0, i) j = V (30 + r', 0, i) j := fun i j => hx _ _ (by simp; omega) (by simp; omega)
      refine ⟨m, h1, by rw [hx _ _ (by simp [hr]) (by simp)]; exact h2, by rw [hm _ _ (by simp [hf]) (by simp) (by simp)]; exact h3, fun i hi => ?_⟩
      rw [q, hm (2, a', 0) i (by simp) (by simp [ha]) (by simp [ha2])]
      exact h4 i hi
    refine h0.rows (fun n i q1 q2 => hx n i (fun z => q1 (by rw [z.1]; exact ⟨rfl, rfl⟩)) (fun z => q2 ⟨by omega, by omega, z.2⟩)) (fun n i hn => hm n i ?_ ?_ ?_) ⟨q, qc, ot (by decide) (by decide) (by decide) (by decide) t1, ot (by decide) (by decide) (by decide) (by decide) t2, ot (by decide) (by decide) (by decide) (by decide) t3, ot (by decide) (by decide) (by decide) (by decide) t4⟩
    · rintro ⟨rfl, rfl⟩
      rcases hn with z | z
      · exact absurd z.2 (by decide)
      · exact absurd z.1 (by decide)
    · rintro rfl
      rcases hn with z | z
      · exact absurd z.1 (by decide)
      · exact absurd z.2 (by decide)
    · rintro rfl
      rcases hn with z | z
      · exact absurd z.1 (by decide)
      · exact absurd z.2 (by decide)
  by_cases ha : a1 = -1
  · rw [if_pos ha, if_pos ha]
    refine ⟨gz_up V (27, 0, 0) 1 0, gz_up M1 (1, 0, 0) 48 0, 0, rfl, rfl, fin _ _ (z_tend t0) (fun m q1 q2 i hi => ?_) (fun n i q1 q2 => by rw [up_at, if_neg q1]) (fun n i q1 q2 q3 => by rw [up_at, if_neg q1])⟩
    rw [up_at, if_pos ⟨rfl, rfl⟩, show (0 : Int32) = Int32.ofNat 0 from rfl, o_eq (by omega) (by omega)] at q1
    omega
  rw [if_neg ha, if_neg ha]
  rcases isIn_c (a := a1) (b := 0) (c := 11) with w | ⟨w, w1, w2⟩
  · rw [if_pos w, if_pos w]
    exact ⟨V, M1, -1, rfl, rfl, h0⟩
  rw [w, if_neg n10, if_neg n10]
  rcases isIn_c (a := a2) (b := 0) (c := 11) with w' | ⟨w', w1', w2'⟩
  · rw [if_pos w', if_pos w']
    exact ⟨V, M1, -1, rfl, rfl, h0⟩
  rw [w', if_neg n10, if_neg n10]
  by_cases hab : a1 = a2
  · rw [if_pos hab, if_pos hab]
    exact ⟨V, M1, -1, rfl, rfl, h0⟩
  rw [if_neg hab, if_neg hab]
  have z0 : (0 : Int32).toInt = 0 := rfl
  have z8 : (11 : Int32).toInt = 11 := rfl
  obtain ⟨v, hv, rfl⟩ := o_ex (a := a1) (n := 12) (by omega) (by omega)
  obtain ⟨y, hy, rfl⟩ := o_ex (a := a2) (n := 12) (by omega) (by omega)
  obtain ⟨m, h1, h2, h3, h4⟩ := t0
  have tc' := tc m h2 h1
  unfold x3_tells
  rw [show (xw_rl 0).toInt32 = (16 : Int32) from rfl, show xw_rl 0 = 16 from rfl, h2, h3]
  by_cases hm : m = 16
  · subst hm
    rw [if_pos (show Int32.ofNat 16 = 16 from rfl), if_pos (show Int32.ofNat 16 = 16 from rfl)]
    exact ⟨V, M1, -1, rfl, rfl, h0⟩
  have hne : ¬ Int32.ofNat m = 16 := by rw [show (16 : Int32) = Int32.ofNat 16 from rfl, o_eq (by omega) (by omega)]; exact hm
  have mn : (Int32.ofNat m).toNatClampNeg = m := o_nat (by omega)
  have mb : gz_inb (Int32.ofNat m) 16 = true := o_inb (by omega) (by omega)
  have e1 : Int32.ofNat m + 1 = Int32.ofNat (m + 1) := o_addr 1 m
  have w1 : ∀ (W : gz_V) (j : Nat) (x : Int32), gz_up W (30 + 0, 0, m) j x (27, 0, 0) = W (27, 0, 0) := fun W j x => up_ne (by simp)
  have w2 : ∀ (W : gz_V) (a j : Nat) (x : Int32), gz_up W (2, a, 0) j x (1, 0, 0) = W (1, 0, 0) := fun W a j x => up_ne (by simp)
  rw [if_neg hne, if_neg hne, gs_gd mb, gs_gd mb]
  simp only [gs_let, mn, w1, w2, h2, h3, gs_gd mb, e1, gs_b2]
  rw [show (0 : Int32).toNatClampNeg = 0 from rfl, show (1 : Int32).toNatClampNeg = 1 from rfl]
  have sx : ∀ W : gz_V, gz_up W (27, 0, 0) 1 (Int32.ofNat (m + 1)) (27, 0, 0) 1 = Int32.ofNat (m + 1) := fun W => by rw [up_at, if_pos ⟨rfl, rfl⟩]
  have sm : ∀ W : gz_V, gz_up W (1, 0, 0) 48 (Int32.ofNat (m + 1)) (1, 0, 0) 48 = Int32.ofNat (m + 1) := fun W => by rw [up_at, if_pos ⟨rfl, rfl⟩]
  rw [sx, sm]
  refine ⟨_, _, Int32.ofNat (m + 1), rfl, rfl, fin _ _ ⟨m + 1, by omega, by rw [up_at, if_pos ⟨rfl, rfl⟩], by rw [up_at, if_pos ⟨rfl, rfl⟩], fun i hi => ?_⟩ (fun m' q1 q2 i hi => ?_) (fun n i q1 q2 => ?_) (fun n i q1 q2 q3 => ?_)⟩
  · by_cases him : i = m
    · subst him
      exact ⟨v, by omega, by omega, by simp [up_at], by simp [up_at]⟩
    · obtain ⟨v', y1, y2, y3, y4⟩ := h4 i (by omega)
      exact ⟨v', y1, y2, by simp [up_at, him]; exact y3, by simp [up_at, him]; exact y4⟩
  · rw [up_at, if_pos ⟨rfl, rfl⟩, o_eq (by omega) (by omega)] at q1
    by_cases him : i = m
    · subst him
      exact ⟨y, by omega, by simp [up_at], by simp [up_at], by simp only [up_at]; simpa using hab⟩
    · obtain ⟨v', y1, y2, y3, y4⟩ := tc' i (by omega)
      exact ⟨v', y1, by simp [up_at, him]; exact y2, by simp [up_at, him]; exact y3, by simpa [up_at, him] using y4⟩
  · rw [up_at, if_neg q1, up_ne (fun e => q2 (by rw [e]; exact ⟨rfl, rfl⟩)), up_ne (fun e => q2 (by rw [e]; exact ⟨rfl, rfl⟩))]
  · rw [up_at, if_neg q1, up_ne q3, up_ne q2]
