/-! WHAT THE CONSTRUCTOR LEAVES, as ClaspedFair's world -/
set_option maxRecDepth 100000
def st_Ds : gz_S := fun n => if n.1 = 90 ∧ n.2.1 < 9 ∧ n.2.2 < 3 then some (18, 3) else if n.1 = 91 ∧ n.2.1 < 9 ∧ n.2.2 = 0 then some (100, 12) else none
def st_Df : gz_R := fun n f =>
  if n.1 = 20 ∧ n.2.2 = 0 then (if 9 ≤ f ∧ f < 12 then some (90, n.2.1, f - 9) else if f = 12 then some (91, n.2.1, 0) else none)
  else if n = (11, 7, 0) then (if f < 6 then some (20, 3 + f, 0) else none)
  else if n.1 = 90 ∧ f = 1 then some (0, 0, 0) else none
def st_s1 : gz_S := gz_us (fun _ => none) (10, 0, 0) (0, 16)
def st_n1 : gz_R := fun _ _ => none
def st_z1 : gz_V := fun _ _ => 0
theorem st_mS {k c : Nat} {sh : gz_S} : (mk_S k sh (21, k, 0) = some (110, 12)) ∧ (mk_S k sh (22, k, 0) = some (111, 10)) ∧ (mk_S k sh (23, k, 0) = some (2, 8)) ∧ (c < 2 → mk_S k sh (24, k, c) = some (100, 5)) ∧ (mk_S k sh (25, k, 0) = some (112, 150)) ∧ (c < 150 → mk_S k sh (26, k, c) = some (100, 4)) ∧ (c < 5 → mk_S k sh (27, k, c) = some (3, 2)) ∧ (c < 5 → mk_S k sh (28, k, c) = some (112, xw_rl c)) ∧ (c < 12 → mk_S k sh (40, k, c) = some (4, 4)) ∧ (c < 12 → mk_S k sh (41, k, c) = some (100, 5)) ∧ (c < 10 → mk_S k sh (42, k, c) = some (5, 4)) ∧ (c < 3 → mk_S k sh (90, k, c) = some (18, 3)) ∧ (mk_S k sh (91, k, 0) = some (100, 12)) := by
  refine ⟨?_, ?_, ?_, fun h => ?_, ?_, fun h => ?_, fun h => ?_, fun h => ?_, fun h => ?_, fun h => ?_, fun h => ?_, fun h => ?_, ?_⟩
  · simp [mk_S, mk_h, mk_p, mk_S0, gz_us, gz_gs]
  · simp [mk_S, mk_h, mk_p, mk_S0, gz_us, gz_gs]
  · simp [mk_S, mk_h, mk_p, mk_S0, gz_us, gz_gs]
  · have : c = 0 ∨ c = 1 := by omega
    rcases this with rfl | rfl <;> simp [mk_S, mk_h, mk_p, mk_S0, gz_us, gz_gs]
  · simp [mk_S, mk_h, mk_p, mk_S0, gz_us, gz_gs]
  · simp [mk_S, mk_h, mk_p, mk_S0, gz_us, gz_gs, h]
  · have : c = 0 ∨ c = 1 ∨ c = 2 ∨ c = 3 ∨ c = 4 := by omega
    rcases this with rfl | rfl | rfl | rfl | rfl <;> simp [mk_S, mk_h, mk_p, mk_S0, gz_us, gz_gs]
  · have : c = 0 ∨ c = 1 ∨ c = 2 ∨ c = 3 ∨ c = 4 := by omega
    rcases this with rfl | rfl | rfl | rfl | rfl <;> simp [mk_S, mk_h, mk_p, mk_S0, gz_us, gz_gs, xw_rl]
  · simp [mk_S, mk_h, mk_p, h]
  · simp [mk_S, mk_h, mk_p, h]
  · simp [mk_S, mk_h, mk_p, h]
  · have : c = 0 ∨ c = 1 ∨ c = 2 := by omega
    rcases this with rfl | rfl | rfl <;> simp [mk_S, mk_h, mk_p, mk_S0, gz_us, gz_gs]
  · simp [mk_S, mk_h, mk_p, mk_S0, gz_us, gz_gs]
theorem st_mS30 {k r c : Nat} {sh : gz_S} (hr : r < 5) (h : c < xw_rl r) : mk_S k sh (30 + r, k, c) = some (100, 2) := by
  have : r = 0 ∨ r = 1 ∨ r = 2 ∨ r = 3 ∨ r = 4 := by omega
  rcases this with rfl | rfl | rfl | rfl | rfl <;> (simp only [xw_rl] at h; simp [mk_S, mk_h, mk_p, mk_S0, gz_us, gz_gs, h])
/-- a market's part of the whole -/
theorem st_cS {a c k : Nat} {sh : gz_S} {t : Nat × Nat} (hk : k < 9) (h0 : a ≠ 20) (h1 : a ≠ 11) (h10 : a ≠ 10) (h : ∀ sh, mk_S k sh (a, k, c) = some t) : cf_S sh (a, k, c) = some t := by
  have e : ∀ x b d, a ≠ x → ((a, k, c) : gz_N) ≠ (x, b, d) := fun x b d h e => h (congrArg Prod.fst e)
  have m : ∀ j sh, k ≠ j → mk_S j sh (a, k, c) = sh (a, k, c) := fun j sh h => mk_S_out (Or.inl h)
  unfold cf_S
  rw [gz_us_ne (e _ _ _ h1), gz_us_ne (e _ _ _ h1), gz_us_ne (e _ _ _ h1), gz_us_ne (e _ _ _ h1)]
  have hb : ∀ j, 3 + j ≤ k ∨ k < 3 → cf_bS j (cf_S0 sh) (a, k, c) = cf_S0 sh (a, k, c) := by
    intro j
    induction j with
    | zero => intro _; rfl
    | succ j ih =>
      intro hj
      unfold cf_bS
      rw [m _ _ (by omega), gz_us_ne (e _ _ _ h0)]
      exact ih (by omega)
  by_cases h3 : k < 3
  · rw [hb 6 (Or.inr h3)]
    unfold cf_S0
    rw [gz_us_ne (e _ _ _ h1)]
    have : k = 0 ∨ k = 1 ∨ k = 2 := by omega
    rcases this with rfl | rfl | rfl
    · rw [m 2 _ (by decide), gz_us_ne (e _ _ _ h0), m 1 _ (by decide), gz_us_ne (e _ _ _ h0)]
      exact h _
    · rw [m 2 _ (by decide), gz_us_ne (e _ _ _ h0)]
      exact h _
    · exact h _
  · have up : ∀ j, k < 3 + j → cf_bS j (cf_S0 sh) (a, k, c) = some t := by
      intro j
      induction j with
      | zero => intro hj; omega
      | succ j ih =>
        intro hj
        unfold cf_bS
        by_cases hj2 : k = 3 + j
        · rw [← hj2]
          exact h _
        · rw [m _ _ hj2, gz_us_ne (e _ _ _ h0)]
          exact ih (by omega)
    exact up 6 (by omega)
theorem st_20 {k : Nat} (hk : k < 9) {sh : gz_S} : cf_S sh (20, k, 0) = some (1, 25) := by
  have e : ∀ x b d, x ≠ 20 → ((20, k, 0) : gz_N) ≠ (x, b, d) := fun x b d h e => h (congrArg Prod.fst e).symm
  unfold cf_S
  rw [gz_us_ne (e _ _ _ (by decide)), gz_us_ne (e _ _ _ (by decide)), gz_us_ne (e _ _ _ (by decide)), gz_us_ne (e _ _ _ (by decide))]
  have : k = 0 ∨ k = 1 ∨ k = 2 ∨ k = 3 ∨ k = 4 ∨ k = 5 ∨ k = 6 ∨ k = 7 ∨ k = 8 := by omega
  rcases this with rfl | rfl | rfl | rfl | rfl | rfl | rfl | rfl | rfl <;> simp [cf_bS, cf_S0, mk_S_20, gz_us]
theorem st_S {n : gz_N} {t : Nat × Nat} (h : xw_s st_Ds n = some t) : cf_S st_s1 n = some t := by
  obtain ⟨a, b, c⟩ := n
  unfold xw_s at h
  dsimp only at h
  by_cases q : a = 10
  · subst q
    rw [if_pos rfl] at h
    by_cases q2 : b = 0 ∧ c = 0
    · rw [if_pos q2] at h
      cases h
      obtain ⟨rfl, rfl⟩ := q2
      unfold cf_S
      rw [gz_us_ne (by decide), gz_us_ne (by decide), gz_us_ne (by decide), gz_us_ne (by decide), cf_b_out (by decide) rfl]
      unfold cf_S0
      rw [gz_us_ne (by decide), mk_S_out (Or.inr rfl), gz_us_ne (by decide), mk_S_out (Or.inr rfl), gz_us_ne (by decide), mk_S_out (Or.inr rfl), gz_us_ne (by decide), gz_us_ne (by decide)]
      exact gz_us_eq
    · rw [if_neg q2] at h
      cases h
  rw [if_neg q] at h
  by_cases q11 : a = 11
  · subst q11
    rw [if_pos rfl] at h
    by_cases q2 : c = 0
    · subst q2
      rw [if_pos rfl] at h
      unfold cf_S
      have hb : ∀ S, cf_bS 6 S (11, b, 0) = S (11, b, 0) := fun S => cf_b_out (show (11 : Nat) ≠ 20 by decide) (by unfold mk_st; simp) 6
      have hm : ∀ k S, mk_S k S (11, b, 0) = S (11, b, 0) := fun k S => mk_S_out (Or.inr (by unfold mk_st; simp))
      unfold xw_a0 at h
      split at h <;> cases h
      · simp [gz_us, hb, hm, cf_S0]
      · simp [gz_us, hb, hm, cf_S0]
      · simp [gz_us]
      · simp [gz_us]
      · simp [gz_us]
      · simp [gz_us]
    · rw [if_neg q2] at h
      cases h
  rw [if_neg q11] at h
  by_cases q20 : a = 20
  · subst q20
    rw [if_pos rfl] at h
    by_cases q2 : b < 9 ∧ c = 0
    · rw [if_pos q2] at h
      cases h
      obtain ⟨q2, rfl⟩ := q2
      exact st_20 q2
    · rw [if_neg q2] at h
      cases h
  rw [if_neg q20] at h
  have go : ∀ (P : Prop) [Decidable P] (x : Nat × Nat) (r : Option (Nat × Nat)), (if a = a then (if P then some x else none) else r) = some t → P ∧ x = t := fun P _ x r h => by
    rw [if_pos rfl] at h
    by_cases p : P
    · rw [if_pos p] at h
      exact ⟨p, Option.some.inj h⟩
    · rw [if_neg p] at h
      cases h
  by_cases q1 : a = 21
  · subst q1
    obtain ⟨⟨hb, rfl⟩, rfl⟩ := go _ _ _ h
    exact st_cS hb q20 q11 q (fun sh => (st_mS (c := 0) (sh := sh)).1)
  rw [if_neg q1] at h
  by_cases q2 : a = 22
  · subst q2
    obtain ⟨⟨hb, rfl⟩, rfl⟩ := go _ _ _ h
    exact st_cS hb q20 q11 q (fun sh => (st_mS (c := 0) (sh := sh)).2.1)
  rw [if_neg q2] at h
  by_cases q3 : a = 23
  · subst q3
    obtain ⟨⟨hb, rfl⟩, rfl⟩ := go _ _ _ h
    exact st_cS hb q20 q11 q (fun sh => (st_mS (c := 0) (sh := sh)).2.2.1)
  rw [if_neg q3] at h
  by_cases q4 : a = 24
  · subst q4
    obtain ⟨⟨hb, hc⟩, rfl⟩ := go _ _ _ h
    exact st_cS hb q20 q11 q (fun sh => (st_mS (c := c) (sh := sh)).2.2.2.1 hc)
  rw [if_neg q4] at h
  by_cases q5 : a = 25
  · subst q5
    obtain ⟨⟨hb, rfl⟩, rfl⟩ := go _ _ _ h
    exact st_cS hb q20 q11 q (fun sh => (st_mS (c := 0) (sh := sh)).2.2.2.2.1)
  rw [if_neg q5] at h
  by_cases q6 : a = 26
  · subst q6
    obtain ⟨⟨hb, hc⟩, rfl⟩ := go _ _ _ h
    exact st_cS hb q20 q11 q (fun sh => (st_mS (c := c) (sh := sh)).2.2.2.2.2.1 hc)
  rw [if_neg q6] at h
  by_cases q7 : a = 27
  · subst q7
    obtain ⟨⟨hb, hc⟩, rfl⟩ := go _ _ _ h
    exact st_cS hb q20 q11 q (fun sh => (st_mS (c := c) (sh := sh)).2.2.2.2.2.2.1 hc)
  rw [if_neg q7] at h
  by_cases q8 : a = 28
  · subst q8
    obtain ⟨⟨hb, hc⟩, rfl⟩ := go _ _ _ h
    exact st_cS hb q20 q11 q (fun sh => (st_mS (c := c) (sh := sh)).2.2.2.2.2.2.2.1 hc)
  rw [if_neg q8] at h
  by_cases q9 : a = 40
  · subst q9
    obtain ⟨⟨hb, hc⟩, rfl⟩ := go _ _ _ h
    exact st_cS hb q20 q11 q (fun sh => (st_mS (c := c) (sh := sh)).2.2.2.2.2.2.2.2.1 hc)
  rw [if_neg q9] at h
  by_cases q41 : a = 41
  · subst q41
    obtain ⟨⟨hb, hc⟩, rfl⟩ := go _ _ _ h
    exact st_cS hb q20 q11 q (fun sh => (st_mS (c := c) (sh := sh)).2.2.2.2.2.2.2.2.2.1 hc)
  rw [if_neg q41] at h
  by_cases q42 : a = 42
  · subst q42
    obtain ⟨⟨hb, hc⟩, rfl⟩ := go _ _ _ h
    exact st_cS hb q20 q11 q (fun sh => (st_mS (c := c) (sh := sh)).2.2.2.2.2.2.2.2.2.2.1 hc)
  rw [if_neg q42] at h
  by_cases q30 : 30 ≤ a ∧ a < 35
  · rw [if_pos q30] at h
    obtain ⟨r, rfl⟩ : ∃ r, a = 30 + r := ⟨a - 30, by omega⟩
    rw [show 30 + r - 30 = r by omega] at h
    by_cases p : b < 9 ∧ c < xw_rl r
    · rw [if_pos p] at h
      cases h
      exact st_cS p.1 q20 q11 q (fun sh => st_mS30 (by omega) p.2)
    · rw [if_neg p] at h
      cases h
  rw [if_neg q30] at h
  by_cases q0 : a ≠ 0 ∧ a < 90
  · rw [if_pos q0] at h
    cases h
  rw [if_neg q0] at h
  unfold st_Ds at h
  dsimp only at h
  by_cases p1 : a = 90 ∧ b < 9 ∧ c < 3
  · rw [if_pos p1] at h
    cases h
    obtain ⟨rfl, hb, hc⟩ := p1
    exact st_cS hb q20 q11 q (fun sh => (st_mS (c := c) (sh := sh)).2.2.2.2.2.2.2.2.2.2.2.1 hc)
  · rw [if_neg p1] at h
    by_cases p2 : a = 91 ∧ b < 9 ∧ c = 0
    · rw [if_pos p2] at h
      cases h
      obtain ⟨rfl, hb, rfl⟩ := p2
      exact st_cS hb q20 q11 q (fun sh => (st_mS (c := 0) (sh := sh)).2.2.2.2.2.2.2.2.2.2.2.2)
    · rw [if_neg p2] at h
      cases h
