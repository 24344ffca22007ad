/-! set -/
set_option maxRecDepth 100000
section SET
variable {Ds : gz_S} {Df : gz_R} {V M V2 M2 : gz_V} {c P H b : Nat}
theorem set_c (hS : cS 0 P H Ds Df V M) (a1 a2 a3 : Int32) : x0_canSet V a1 a2 a3 = m_canSet M a1 a2 a3 ∧ (m_canSet M a1 a2 a3 = 0 ∨ (m_canSet M a1 a2 a3 = 1 ∧ ((∃ w p, w < 6 ∧ a1 = Int32.ofNat w ∧ p < P ∧ a2 = Int32.ofNat p ∧ 0 ≤ a3.toInt ∧ (w < 5 → a3.toInt ≤ 999)) ∨ ∃ p, p < H ∧ a2 = Int32.ofNat p ∧ (a1 = 6 ∨ a1 = 7)))) := by
  obtain ⟨e1, q1⟩ := hS.isP a2
  obtain ⟨e2, q2⟩ := hS.isH a2
  unfold x0_canSet m_canSet
  rw [e1, e2]
  simp only [gs_let, isIn_eq]
  refine ⟨rfl, ?_⟩
  rcases isIn_c (a := a1) (b := 0) (c := 5) with w | ⟨w, w1, w2⟩
  · rw [if_pos w]
    rcases isIn_c (a := a1) (b := 6) (c := 7) with x | ⟨x, x1, x2⟩
    · rw [if_pos x]; exact Or.inl rfl
    rw [x, if_neg n10]
    rcases q2 with q2 | ⟨q2, p, hp, rfl⟩
    · rw [if_pos q2]; exact Or.inl rfl
    rw [q2, if_neg n10]
    have h67 : a1 = 6 ∨ a1 = 7 := by
      have z6 : (6 : Int32).toInt = 6 := rfl
      have z7 : (7 : Int32).toInt = 7 := rfl
      by_cases h : a1.toInt = 6
      · exact Or.inl (i_eq.mpr (by omega))
      · exact Or.inr (i_eq.mpr (by omega))
    generalize (if a1 = 6 then (999 : Int32) else (9 : Int32)) = y4
    rcases isIn_c (a := a3) (b := 0) (c := y4) with y | ⟨y, -⟩
    · rw [if_pos y]; exact Or.inl rfl
    · rw [y, if_neg n10]
      exact Or.inr ⟨rfl, Or.inr ⟨p, hp, rfl, h67⟩⟩
  rw [w, if_neg n10]
  have z0 : (0 : Int32).toInt = 0 := rfl
  have z5 : (5 : Int32).toInt = 5 := rfl
  obtain ⟨k, hk, rfl⟩ := o_ex (a := a1) (n := 6) (by omega) (by omega)
  rcases q1 with q1 | ⟨q1, p, hp, rfl⟩
  · rw [if_pos q1]; exact Or.inl rfl
  rw [q1, if_neg n10]
  by_cases h5 : Int32.ofNat k = 5
  · rw [if_pos h5]
    rcases isIn_c (a := a3) (b := 0) (c := 9999) with y | ⟨y, y1, y2⟩
    · rw [if_pos y]; exact Or.inl rfl
    rw [y, if_neg n10]
    refine Or.inr ⟨rfl, Or.inl ⟨k, p, hk, rfl, hp, rfl, y1, fun h => ?_⟩⟩
    rw [show (5 : Int32) = Int32.ofNat 5 from rfl, o_eq (by omega) (by omega)] at h5
    omega
  · rw [if_neg h5]
    rcases isIn_c (a := a3) (b := 0) (c := 999) with y | ⟨y, y1, y2⟩
    · rw [if_pos y]; exact Or.inl rfl
    rw [y, if_neg n10]
    exact Or.inr ⟨rfl, Or.inl ⟨k, p, hk, rfl, hp, rfl, y1, fun _ => y2⟩⟩
end SET
