/-! J AT THE START -/
set_option maxRecDepth 100000
theorem J_start : JJ st_Ds st_Df (cf_V st_z1) 0 ti_F := by
  have v0 : ∀ n i, ¬ (n = (10, 0, 0) ∧ i = 3) → ¬ (n = (20, 2, 0) ∧ i = 21) → cf_V st_z1 n i = 0 := fun n i h1 h2 => by
    unfold cf_V
    rw [up_at, if_neg h2, up_at, if_neg h1]
    rfl
  have m0 : ∀ n i, n ≠ (2, 17, 0) → ¬ (n = (1, 0, 0) ∧ i = 33) → ti_F n i = 0 := fun n i h1 h2 => by
    unfold ti_F
    rw [up_at, if_neg h2]
    unfold ti_V
    rw [if_neg (fun z => h1 z.1)]
  have vk : ∀ a k p i, a ≠ 10 → a ≠ 20 → cf_V st_z1 (a, k, p) i = 0 := fun a k p i h1 h2 => v0 _ _ (by simp [h1]) (by simp [h2])
  have v20 : ∀ i, cf_V st_z1 (20, 0, 0) i = 0 := fun i => v0 _ _ (by simp) (by simp)
  have v10 : ∀ i, i ≠ 3 → cf_V st_z1 (10, 0, 0) i = 0 := fun i hi => v0 _ _ (by simp [hi]) (by simp)
  have m1 : ∀ i, i ≠ 33 → ti_F (1, 0, 0) i = 0 := fun i hi => m0 _ _ (by decide) (by simp [hi])
  have m2 : ∀ f i, f ≠ 17 → ti_F (2, f, 0) i = 0 := fun f i hf => m0 _ _ (by simp [hf]) (by simp)
  have ls : ∀ j, j < 3 → lst st_Ds st_Df (cf_V st_z1) (90, 0, j) 0 (fun _ => (0, 0, 0)) := fun j hj => ⟨show 90 ≤ 90 by decide, by simp [st_Ds, hj], vk _ _ _ _ (by decide) (by decide), by omega, fun h => absurd h (by decide)⟩
  have td : ∀ r f a lo hi cap, f ≠ 33 → tdR 0 r f a lo hi cap (cf_V st_z1) ti_F := fun r f a lo hi cap hf => ⟨0, by omega, vk _ _ _ _ (by decide) (by decide), m1 f hf, fun i hi => absurd hi (by omega)⟩
  have z : (0 : Int32).toInt = 0 := rfl
  refine ⟨0, 0, 0, ⟨⟨by decide, by decide, by decide, v20 13, m1 6 (by decide), v20 14, m1 7 (by decide), fun h _ => ⟨by rw [vk _ _ _ _ (by decide) (by decide), m2 8 h (by decide)], by rw [vk _ _ _ _ (by decide) (by decide), m2 9 h (by decide)]⟩, ⟨(90, 0, 0), rfl, 0, _, ls 0 (by decide), m2 18 0 (by decide), fun i hi => absurd hi (by omega)⟩, ⟨(90, 0, 1), 0, _, rfl, ls 1 (by decide), m1 34 (by decide), fun i hi => absurd hi (by omega)⟩, ⟨(90, 0, 2), 0, _, rfl, ls 2 (by decide), m1 36 (by decide), fun i hi => absurd hi (by omega)⟩, ⟨(91, 0, 0), fun _ => 0, rfl, by decide, rfl, fun p _ => ⟨vk _ _ _ _ (by decide) (by decide), m2 39 p (by decide), show 0 < 2 ^ 0 by decide⟩, fun p q _ _ => by simp⟩⟩, fun i hi => ?_, ⟨fun i _ _ => by rw [m2 1 i (by decide), z]; decide, fun h hh => absurd hh (by omega), by rw [m2 1 2 (by decide), z]; decide⟩, ⟨by rw [m2 1 2 (by decide), z]; decide, by decide, fun i hi => absurd hi (by omega)⟩, by rw [v20, m1 38 (by decide)], td _ _ _ _ _ _ (by decide), fun m q1 _ i hi => ?_, td _ _ _ _ _ _ (by decide), td _ _ _ _ _ _ (by decide), td _ _ _ _ _ _ (by decide), td _ _ _ _ _ _ (by decide)⟩, ⟨0, fun j => 3 + j, by decide, v10 8 (by decide), m1 3 (by decide), fun j hj => ⟨show 3 ≤ 3 + j by omega, show 3 + j < 9 by omega, by simp [st_Df, hj]⟩, fun i j _ _ e => by have e : 3 + i = 3 + j := e; omega, fun j hj => absurd hj (by omega)⟩, ⟨by rw [v10 9 (by decide), m1 66 (by decide)], Or.inl (v10 9 (by decide))⟩, ⟨v20 21, rfl, m1 5 (by decide), ⟨0, by decide, v10 1 (by decide), m1 12 (by decide)⟩, fun i _ => ?_, by rw [v10 2 (by decide), m1 32 (by decide)], rfl, fun p _ => vk _ _ _ _ (by decide) (by decide), vk _ _ _ _ (by decide) (by decide), fun i hi => ?_⟩, fun n hn => ?_⟩
  · rw [m2 1 i (by decide)]
    unfold xr
    rw [v20, v20, v20, v20, v20, vk _ _ _ _ (by decide) (by decide), vk _ _ _ _ (by decide) (by decide), vk _ _ _ _ (by decide) (by decide), vk _ _ _ _ (by decide) (by decide), vk _ _ _ _ (by decide) (by decide), vk _ _ _ _ (by decide) (by decide)]
    repeat' split
    all_goals rfl
  · rename_i hm16
    rw [vk _ _ _ _ (by decide) (by decide), show (0 : Int32) = Int32.ofNat 0 from rfl, o_eq (by decide) (by omega)] at q1
    omega
  · rw [vk _ _ _ _ (by decide) (by decide), m2 11 i (by decide)]
    exact ⟨by decide, by decide, by decide⟩
  · unfold ti_F
    rw [up_ne (by decide)]
    unfold ti_V
    rw [if_pos ⟨rfl, hi⟩]
  · unfold st_Ds at hn
    by_cases q : n.1 = 90 ∧ n.2.1 < 9 ∧ n.2.2 < 3
    · exact Or.inl q.1
    · rw [if_neg q] at hn
      by_cases q2 : n.1 = 91 ∧ n.2.1 < 9 ∧ n.2.2 = 0
      · exact Or.inr (Or.inl q2.1)
      · rw [if_neg q2] at hn
        exact absurd rfl hn
