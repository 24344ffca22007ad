/-! end; rows that are told -/
set_option maxRecDepth 100000
section TAPE
variable {Ds : gz_S} {Df : gz_R} {V M V2 M2 : gz_V} {c : Nat}
theorem JJ.tp (h : JJ Ds Df V c M) (hx : ∀ n i, ¬ (n = (10, 0, 0) ∧ i = 1) → n ≠ (11, 0, 0) → V2 n i = V n i) (hm : ∀ n i, ¬ (n = (1, 0, 0) ∧ i = 12) → n ≠ (2, 11, 0) → M2 n i = M n i) (ht : ∃ t, t ≤ 400 ∧ V2 (10, 0, 0) 1 = Int32.ofNat t ∧ M2 (1, 0, 0) 12 = Int32.ofNat t) (hb : ∀ i, i < 400 → tpR (V2 (11, 0, 0) i) (M2 (2, 11, 0) i)) : JJ Ds Df V2 c M2 := by
  obtain ⟨P, H, b, h1, h2, h3, h4, h5⟩ := h
  have rx : ∀ k n i, relX k n i → V2 n i = V n i := fun k n i hn => by
    refine hx n i ?_ ?_
    · rintro ⟨rfl, -⟩
      rcases hn with w | w
      · exact absurd w (by decide)
      · rcases w.2 with z | z | z | z | z | z | z <;> first | exact absurd z.1 (by decide) | exact absurd z (by decide)
    · rintro rfl
      rcases hn with w | w
      · exact absurd w (by decide)
      · rcases w.2 with z | z | z | z | z | z | z <;> first | exact absurd z.1 (by decide) | exact absurd z (by decide)
  have rm : ∀ n i, relM n i = true → M2 n i = M n i := fun n i hn => hm n i (by rintro ⟨rfl, rfl⟩; cases hn) (by rintro rfl; cases hn)
  have x10 : ∀ i, i ≠ 1 → V2 (10, 0, 0) i = V (10, 0, 0) i := fun i hi => hx _ _ (fun z => hi z.2) (by decide)
  have x20 : ∀ a k p i, 20 ≤ a → V2 (a, k, p) i = V (a, k, p) i := fun a k p i ha => hx _ _ (by simp; omega) (by simp; omega)
  have m1 : ∀ i, i ≠ 12 → M2 (1, 0, 0) i = M (1, 0, 0) i := fun i hi => hm _ _ (fun z => hi z.2) (by decide)
  have m2 : ∀ f i, f ≠ 11 → M2 (2, f, 0) i = M (2, f, 0) i := fun f i hf => hm _ _ (by simp) (by simp [hf])
  refine ⟨P, H, b, h1.eq (rx 0) rm, ?_, ⟨by rw [x10 9 (by decide), m1 66 (by decide)]; exact h3.1, ?_⟩, ?_, h5⟩
  · obtain ⟨u, κ, q1, q2, q3, q4, q5, q6⟩ := h2
    refine ⟨u, κ, q1, by rw [x10 8 (by decide)]; exact q2, by rw [m1 3 (by decide)]; exact q3, q4, q5, fun j hj => ?_⟩
    exact (q6 j hj).eq h1.1.2.2.1 (fun n i _ h1 _ => by obtain ⟨a, b, d⟩ := n; exact x20 a b d i h1) (fun i _ => m2 2 _ (by decide))
  · rw [x10 9 (by decide)]
    rcases h3.2 with q | ⟨q, P1, H1, b1, z⟩
    · exact Or.inl q
    · exact Or.inr ⟨q, P1, H1, b1, z.eq (rx 1) (fun n i _ => m2 68 _ (by decide))⟩
  · obtain ⟨g1, g2, g3, -, -, g8, g9, g10, g11, g12⟩ := h4
    have x11 : ∀ f i, f ≠ 0 → V2 (11, f, 0) i = V (11, f, 0) i := fun f i hf => hx _ _ (by simp) (by simp [hf])
    exact ⟨by rw [x20 _ _ _ _ (by decide)]; exact g1, by rw [x20 _ _ _ _ (by decide)]; exact g2, by rw [m1 5 (by decide)]; exact g3, ht, hb, by rw [x10 2 (by decide), m1 32 (by decide)]; exact g8, by rw [x10 3 (by decide), m1 33 (by decide)]; exact g9, fun p hp => by rw [x11 _ _ (by decide)]; exact g10 p hp, by rw [x11 _ _ (by decide)]; exact g11, fun i hi => by rw [m2 17 i (by decide)]; exact g12 i hi⟩
end TAPE
theorem J_end {N : Nat} : lo_end JJ N := by
  intro Ds Df V c M a h
  have h0 := h.m0
  obtain ⟨P, H, b, h1, h2, h3, ⟨g1, g2, g3, ⟨t, g4, g5, g6⟩, g7, -⟩, h5⟩ := h.m0
  unfold x0_end m_end
  simp only [gs_let]
  generalize gz_up M (1, 0, 0) 0 0 = M1 at *
  rw [g5, g6, isIn_eq]
  rcases isIn_c (a := a) (b := 0) (c := Int32.ofNat t) with w | ⟨w, w1, w2⟩
  · rw [if_pos w, if_pos w]
    exact ⟨V, M1, 0, rfl, rfl, h0⟩
  rw [w, if_neg n10, if_neg n10]
  rw [i_of (by omega)] at w2
  obtain ⟨s, hs, rfl⟩ := o_ex (a := a) (n := t + 1) w1 (by omega)
  refine ⟨_, _, 1, rfl, rfl, h0.tp (fun n i hn _ => by rw [up_at, if_neg hn]) (fun n i hn _ => by rw [up_at, if_neg hn]) ⟨s, by omega, by simp [up_at], by simp [up_at]⟩ (fun i hi => ?_)⟩
  rw [up_ne (by decide), up_ne (by decide)]
  exact g7 i hi
