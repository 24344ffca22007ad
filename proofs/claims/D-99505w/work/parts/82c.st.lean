/-! WHAT THE CONSTRUCTOR LEAVES: the references -/
set_option maxRecDepth 100000
theorem st_cR {a c k : Nat} {t : Nat → Option gz_N} (hk : k < 9) (h1 : a ≠ 11) (h10 : a ≠ 10) (h : ∀ Rf : gz_R, Rf (a, k, c) = (fun _ => none) → mk_R k Rf (a, k, c) = t) : cf_R st_n1 (a, k, c) = t := by
  have e : ∀ x b d, a ≠ x → ((a, k, c) : gz_N) ≠ (x, b, d) := fun x b d h e => h (congrArg Prod.fst e)
  have m : ∀ j Rf, k ≠ j → mk_R j Rf (a, k, c) = Rf (a, k, c) := fun j Rf h => mk_R_out (Or.inl h)
  unfold cf_R
  rw [gz_ur_ne (e _ _ _ h10), gz_ur_ne (e _ _ _ h10), gz_ur_ne (e _ _ _ h10), gz_ur_ne (e _ _ _ h10)]
  have hb : ∀ j, 3 + j ≤ k ∨ k < 3 → cf_bR j (cf_R0 st_n1) (a, k, c) = cf_R0 st_n1 (a, k, c) := by
    intro j
    induction j with
    | zero => intro _; rfl
    | succ j ih =>
      intro hj
      unfold cf_bR
      rw [gz_ur_ne (e _ _ _ h1), m _ _ (by omega)]
      exact ih (by omega)
  by_cases h3 : k < 3
  · rw [hb 6 (Or.inr h3)]
    unfold cf_R0
    rw [gz_ur_ne (e _ _ _ h10), gz_ur_ne (e _ _ _ h10)]
    have : k = 0 ∨ k = 1 ∨ k = 2 := by omega
    rcases this with rfl | rfl | rfl
    · rw [m 2 _ (by decide), gz_ur_ne (e _ _ _ h10), m 1 _ (by decide), gz_ur_ne (e _ _ _ h10)]
      exact h _ (by rw [gz_ur_ne (e _ _ _ h10)]; rfl)
    · rw [m 2 _ (by decide), gz_ur_ne (e _ _ _ h10)]
      exact h _ (by rw [gz_ur_ne (e _ _ _ h10), m 0 _ (by decide), gz_ur_ne (e _ _ _ h10)]; rfl)
    · exact h _ (by rw [gz_ur_ne (e _ _ _ h10), m 1 _ (by decide), gz_ur_ne (e _ _ _ h10), m 0 _ (by decide), gz_ur_ne (e _ _ _ h10)]; rfl)
  · have h0 : cf_R0 st_n1 (a, k, c) = fun _ => none := by
      unfold cf_R0
      rw [gz_ur_ne (e _ _ _ h10), gz_ur_ne (e _ _ _ h10), m 2 _ (by omega), gz_ur_ne (e _ _ _ h10), m 1 _ (by omega), gz_ur_ne (e _ _ _ h10), m 0 _ (by omega), gz_ur_ne (e _ _ _ h10)]
      rfl
    have up : ∀ j, k < 3 + j → cf_bR j (cf_R0 st_n1) (a, k, c) = t := by
      intro j
      induction j with
      | zero => intro hj; omega
      | succ j ih =>
        intro hj
        unfold cf_bR
        rw [gz_ur_ne (e _ _ _ h1)]
        by_cases hj2 : k = 3 + j
        · rw [← hj2]
          exact h _ (by rw [hb j (by omega), h0])
        · rw [m _ _ hj2]
          exact ih (by omega)
    exact up 6 (by omega)
theorem st_R20 {k : Nat} {Rf : gz_R} (h : Rf (20, k, 0) = fun _ => none) : mk_R k Rf (20, k, 0) = xw_c st_Df (20, k, 0) := by
  funext f
  by_cases hf : f < 13
  · have : f = 0 ∨ f = 1 ∨ f = 2 ∨ f = 3 ∨ f = 4 ∨ f = 5 ∨ f = 6 ∨ f = 7 ∨ f = 8 ∨ f = 9 ∨ f = 10 ∨ f = 11 ∨ f = 12 := by omega
    rcases this with rfl | rfl | rfl | rfl | rfl | rfl | rfl | rfl | rfl | rfl | rfl | rfl | rfl <;> simp [mk_R, mk_hr, mk_pr, mk_R0, gz_ur, gz_gr, xw_c, xw_mk, st_Df]
  · have q : f ≠ 0 ∧ f ≠ 1 ∧ f ≠ 2 ∧ f ≠ 3 ∧ f ≠ 4 ∧ f ≠ 5 ∧ f ≠ 6 ∧ f ≠ 7 ∧ f ≠ 8 ∧ f ≠ 9 ∧ f ≠ 10 ∧ f ≠ 11 ∧ f ≠ 12 ∧ ¬ f < 9 ∧ ¬ f < 12 := by omega
    simp [mk_R, mk_hr, mk_pr, mk_R0, gz_ur, gz_gr, xw_c, st_Df, q, h]
theorem st_R24 {a k c : Nat} {Rf : gz_R} (ha : a = 24 ∨ a = 26 ∨ a = 41 ∨ a = 42 ∨ a = 91 ∨ (30 ≤ a ∧ a < 35)) (h : Rf (a, k, c) = fun _ => none) : mk_R k Rf (a, k, c) = xw_c st_Df (a, k, c) := by
  have q : a ≠ 20 ∧ a ≠ 21 ∧ a ≠ 22 ∧ a ≠ 23 ∧ a ≠ 25 ∧ a ≠ 27 ∧ a ≠ 28 ∧ a ≠ 40 ∧ a ≠ 90 ∧ a ≠ 10 ∧ a ≠ 11 := by omega
  funext f
  simp [mk_R, mk_hr, mk_pr, mk_R0, gz_ur, gz_gr, xw_c, st_Df, q, h]
theorem st_R21 {k : Nat} {Rf : gz_R} (h : Rf (21, k, 0) = fun _ => none) : mk_R k Rf (21, k, 0) = xw_c st_Df (21, k, 0) := by
  funext f
  simp [mk_R, mk_hr, mk_pr, mk_R0, gz_ur, gz_gr, xw_c, h]
theorem st_R22 {k : Nat} {Rf : gz_R} (h : Rf (22, k, 0) = fun _ => none) : mk_R k Rf (22, k, 0) = xw_c st_Df (22, k, 0) := by
  funext f
  simp [mk_R, mk_hr, mk_pr, mk_R0, gz_ur, gz_gr, xw_c, h]
theorem st_R23 {k : Nat} {Rf : gz_R} (h : Rf (23, k, 0) = fun _ => none) : mk_R k Rf (23, k, 0) = xw_c st_Df (23, k, 0) := by
  funext f
  by_cases h0 : f = 0
  · subst h0; simp [mk_R, mk_hr, mk_pr, mk_R0, gz_ur, gz_gr, xw_c]
  by_cases h1 : f = 1
  · subst h1; simp [mk_R, mk_hr, mk_pr, mk_R0, gz_ur, gz_gr, xw_c]
  simp [mk_R, mk_hr, mk_pr, mk_R0, gz_ur, gz_gr, xw_c, h, h0, h1, show ¬ f < 2 by omega]
theorem st_R25 {k : Nat} {Rf : gz_R} (h : Rf (25, k, 0) = fun _ => none) : mk_R k Rf (25, k, 0) = xw_c st_Df (25, k, 0) := by
  funext f
  simp [mk_R, mk_hr, mk_pr, mk_R0, gz_ur, gz_gr, xw_c]
theorem st_R27 {k c : Nat} {Rf : gz_R} (hc : c < 5) (h : Rf (27, k, c) = fun _ => none) : mk_R k Rf (27, k, c) = xw_c st_Df (27, k, c) := by
  funext f
  have : c = 0 ∨ c = 1 ∨ c = 2 ∨ c = 3 ∨ c = 4 := by omega
  rcases this with rfl | rfl | rfl | rfl | rfl <;> simp [mk_R, mk_hr, mk_pr, mk_R0, gz_ur, gz_gr, xw_c, h]
theorem st_R28 {k c : Nat} {Rf : gz_R} (hc : c < 5) (h : Rf (28, k, c) = fun _ => none) : mk_R k Rf (28, k, c) = xw_c st_Df (28, k, c) := by
  funext f
  have : c = 0 ∨ c = 1 ∨ c = 2 ∨ c = 3 ∨ c = 4 := by omega
  rcases this with rfl | rfl | rfl | rfl | rfl <;> simp [mk_R, mk_hr, mk_pr, mk_R0, gz_ur, gz_gr, xw_c, xw_rl]
theorem st_R40 {k c : Nat} {Rf : gz_R} (hc : c < 12) (h : Rf (40, k, c) = fun _ => none) : mk_R k Rf (40, k, c) = xw_c st_Df (40, k, c) := by
  funext f
  simp [mk_R, mk_hr, mk_pr, mk_R0, gz_ur, gz_gr, xw_c, h, hc]
theorem st_R90 {k c : Nat} {Rf : gz_R} (hc : c < 3) (h : Rf (90, k, c) = fun _ => none) : mk_R k Rf (90, k, c) = xw_c st_Df (90, k, c) := by
  funext f
  have : c = 0 ∨ c = 1 ∨ c = 2 := by omega
  rcases this with rfl | rfl | rfl <;> simp [mk_R, mk_hr, mk_pr, mk_R0, gz_ur, gz_gr, xw_c, st_Df, h]
theorem st_R10 : cf_R st_n1 (10, 0, 0) = xw_c st_Df (10, 0, 0) := by
  funext f
  have hm : ∀ k Rf, mk_R k Rf (10, 0, 0) = Rf (10, 0, 0) := fun k Rf => mk_R_out (Or.inr ⟨rfl, by decide⟩)
  have hb : ∀ R, cf_bR 6 R (10, 0, 0) = R (10, 0, 0) := fun R => cf_bR_out (by decide) rfl (by decide) 6
  by_cases hf : f < 16
  · have : f = 0 ∨ f = 1 ∨ f = 2 ∨ f = 3 ∨ f = 4 ∨ f = 5 ∨ f = 6 ∨ f = 7 ∨ f = 8 ∨ f = 9 ∨ f = 10 ∨ f = 11 ∨ f = 12 ∨ f = 13 ∨ f = 14 ∨ f = 15 := by omega
    rcases this with rfl | rfl | rfl | rfl | rfl | rfl | rfl | rfl | rfl | rfl | rfl | rfl | rfl | rfl | rfl | rfl <;> simp [cf_R, hb, hm, cf_R0, gz_ur, st_n1, xw_c, xw_m0]
  · have q : f ≠ 0 ∧ f ≠ 4 ∧ f ≠ 5 ∧ f ≠ 6 ∧ f ≠ 7 ∧ f ≠ 10 ∧ f ≠ 11 ∧ f ≠ 12 ∧ f ≠ 15 := by omega
    simp [cf_R, hb, hm, cf_R0, gz_ur, st_n1, xw_c, xw_m0, q]
theorem st_R11 {b : Nat} : cf_R st_n1 (11, b, 0) = xw_c st_Df (11, b, 0) := by
  funext f
  have hm : ∀ k Rf, mk_R k Rf (11, b, 0) = Rf (11, b, 0) := fun k Rf => mk_R_out (Or.inr ⟨by unfold mk_st; simp, by simp⟩)
  by_cases h7 : b = 7
  · subst h7
    by_cases hf : f < 6
    · have : f = 0 ∨ f = 1 ∨ f = 2 ∨ f = 3 ∨ f = 4 ∨ f = 5 := by omega
      rcases this with rfl | rfl | rfl | rfl | rfl | rfl <;> simp [cf_R, cf_bR, hm, cf_R0, gz_ur, st_n1, xw_c, st_Df]
    · have q : f ≠ 0 ∧ f ≠ 1 ∧ f ≠ 2 ∧ f ≠ 3 ∧ f ≠ 4 ∧ f ≠ 5 := by omega
      simp [cf_R, cf_bR, hm, cf_R0, gz_ur, st_n1, xw_c, st_Df, q, hf]
  · have hb : ∀ R, cf_bR 6 R (11, b, 0) = R (11, b, 0) := fun R => cf_bR_out (by simp) (by unfold mk_st; simp) (by simp [h7]) 6
    simp [cf_R, hb, hm, cf_R0, gz_ur, st_n1, xw_c, st_Df, h7]
theorem st_R {n : gz_N} {t : Nat × Nat} (h : xw_s st_Ds n = some t) : cf_R st_n1 n = xw_c st_Df n := by
  obtain ⟨a, b, c⟩ := n
  unfold xw_s at h
  dsimp only at h
  have go : ∀ (P : Prop) [Decidable P] (x : Option (Nat × Nat)), (if P then x else none) = some t → P := fun P _ x h => by
    by_cases p : P
    · exact p
    · rw [if_neg p] at h
      cases h
  by_cases q : a = 10
  · subst q
    rw [if_pos rfl] at h
    obtain ⟨rfl, rfl⟩ := go _ _ h
    exact st_R10
  rw [if_neg q] at h
  by_cases q11 : a = 11
  · subst q11
    rw [if_pos rfl] at h
    obtain rfl := go _ _ h
    exact st_R11
  rw [if_neg q11] at h
  by_cases q20 : a = 20
  · subst q20
    rw [if_pos rfl] at h
    obtain ⟨hb, rfl⟩ := go _ _ h
    exact st_cR hb q11 q (fun Rf => st_R20)
  rw [if_neg q20] at h
  by_cases q1 : a = 21
  · subst q1
    rw [if_pos rfl] at h
    obtain ⟨hb, rfl⟩ := go _ _ h
    exact st_cR hb q11 q (fun Rf => st_R21)
  rw [if_neg q1] at h
  by_cases q2 : a = 22
  · subst q2
    rw [if_pos rfl] at h
    obtain ⟨hb, rfl⟩ := go _ _ h
    exact st_cR hb q11 q (fun Rf => st_R22)
  rw [if_neg q2] at h
  by_cases q3 : a = 23
  · subst q3
    rw [if_pos rfl] at h
    obtain ⟨hb, rfl⟩ := go _ _ h
    exact st_cR hb q11 q (fun Rf => st_R23)
  rw [if_neg q3] at h
  by_cases q4 : a = 24
  · subst q4
    rw [if_pos rfl] at h
    obtain ⟨hb, hc⟩ := go _ _ h
    exact st_cR hb q11 q (fun Rf => st_R24 (by simp))
  rw [if_neg q4] at h
  by_cases q5 : a = 25
  · subst q5
    rw [if_pos rfl] at h
    obtain ⟨hb, rfl⟩ := go _ _ h
    exact st_cR hb q11 q (fun Rf => st_R25)
  rw [if_neg q5] at h
  by_cases q6 : a = 26
  · subst q6
    rw [if_pos rfl] at h
    obtain ⟨hb, hc⟩ := go _ _ h
    exact st_cR hb q11 q (fun Rf => st_R24 (by simp))
  rw [if_neg q6] at h
  by_cases q7 : a = 27
  · subst q7
    rw [if_pos rfl] at h
    obtain ⟨hb, hc⟩ := go _ _ h
    exact st_cR hb q11 q (fun Rf => st_R27 hc)
  rw [if_neg q7] at h
  by_cases q8 : a = 28
  · subst q8
    rw [if_pos rfl] at h
    obtain ⟨hb, hc⟩ := go _ _ h
    exact st_cR hb q11 q (fun Rf => st_R28 hc)
  rw [if_neg q8] at h
  by_cases q9 : a = 40
  · subst q9
    rw [if_pos rfl] at h
    obtain ⟨hb, hc⟩ := go _ _ h
    exact st_cR hb q11 q (fun Rf => st_R40 hc)
  rw [if_neg q9] at h
  by_cases q41 : a = 41
  · subst q41
    rw [if_pos rfl] at h
    obtain ⟨hb, hc⟩ := go _ _ h
    exact st_cR hb q11 q (fun Rf => st_R24 (by simp))
  rw [if_neg q41] at h
  by_cases q42 : a = 42
  · subst q42
    rw [if_pos rfl] at h
    obtain ⟨hb, hc⟩ := go _ _ h
    exact st_cR hb q11 q (fun Rf => st_R24 (by simp))
  rw [if_neg q42] at h
  by_cases q30 : 30 ≤ a ∧ a < 35
  · rw [if_pos q30] at h
    obtain ⟨hb, hc⟩ := go _ _ h
    exact st_cR hb q11 q (fun Rf => st_R24 (by simp [q30]))
  rw [if_neg q30] at h
  by_cases q0 : a ≠ 0 ∧ a < 90
  · rw [if_pos q0] at h
    cases h
  rw [if_neg q0] at h
  unfold st_Ds at h
  dsimp only at h
  by_cases p1 : a = 90 ∧ b < 9 ∧ c < 3
  · obtain ⟨rfl, hb, hc⟩ := p1
    exact st_cR hb q11 q (fun Rf => st_R90 hc)
  · rw [if_neg p1] at h
    obtain ⟨rfl, hb, rfl⟩ := go _ _ h
    exact st_cR hb q11 q (fun Rf => st_R24 (by simp))
