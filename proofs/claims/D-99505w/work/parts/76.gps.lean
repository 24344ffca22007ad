/-! READER's PARSER: small rows about names -/
set_option maxRecDepth 100000
def gp_pH : gz_S → gz_N → Prop := fun Ds r => r.1 = 98 ∧ (Ds r = some (15, 3) ∨ Ds r = some (16, 4) ∨ Ds r = some (17, 3))
def gp_pL : gz_S → gz_N → Prop := fun Ds r => r.1 = 98 ∧ Ds r = some (18, 3)
def gp_pK : gz_S → gz_N → Prop := fun Ds r => 90 ≤ r.1 ∧ Ds r = some (100, 12)
/-- what may lie in a list -/
def gp_el (Ds : gz_S) (r : gz_N) : Prop := r.1 = 98 ∧ (Ds r = some (13, 3) ∨ Ds r = some (14, 5) ∨ Ds r = some (15, 3) ∨ Ds r = some (16, 4) ∨ Ds r = some (17, 3))
section GPS
variable {B : gp_B} {Ds Ds2 : gz_S} {n : gz_N} {t : Nat × Nat}
theorem gp_90 (h : gp_nn B n) : 90 ≤ n.1 := by have := h.1; omega
theorem gp_n0 (h : gp_nn B n) : n.1 ≠ 0 := by have := h.1; omega
theorem gp_up (g : gp_gr Ds Ds2) (h : 90 ≤ n.1 ∧ Ds n = some t) : 90 ≤ n.1 ∧ Ds2 n = some t := ⟨h.1, g n t h.2⟩
theorem gp_upT (g : gp_gr Ds Ds2) (h : gp_pT Ds n) : gp_pT Ds2 n := ⟨h.1, g.nn h.2⟩
theorem gp_upH (g : gp_gr Ds Ds2) (h : gp_pH Ds n) : gp_pH Ds2 n := ⟨h.1, h.2.imp (g n _) (fun h => h.imp (g n _) (g n _))⟩
theorem gp_nnT (h : gp_pT Ds n) : xw_s Ds n ≠ none := by
  rw [gp_xs (by have := h.1; omega)]
  exact h.2
theorem gp_nnH (h : gp_pH Ds n) : xw_s Ds n ≠ none := by
  rw [gp_xs (by have := h.1; omega)]
  rcases h.2 with h | h | h <;> (rw [h]; exact fun z => by cases z)
theorem gp_tOf (h : gp_nn B n) (h2 : Ds n = some t) : gp_pT Ds n := ⟨h.1, by rw [h2]; exact fun z => by cases z⟩
theorem gp_lOf (h : gp_nn B n) (h2 : Ds n = some (18, 3)) : gp_pL Ds n := ⟨h.1, h2⟩
theorem gp_hX17 (h : gp_nn B n) (h2 : Ds n = some (15, 3)) : gp_pH Ds n := ⟨h.1, Or.inl h2⟩
theorem gp_hX18 (h : gp_nn B n) (h2 : Ds n = some (16, 4)) : gp_pH Ds n := ⟨h.1, Or.inr (Or.inl h2)⟩
theorem gp_hX19 (h : gp_nn B n) (h2 : Ds n = some (17, 3)) : gp_pH Ds n := ⟨h.1, Or.inr (Or.inr h2)⟩
theorem gp_elX14 (h : gp_nn B n) (h2 : Ds n = some (13, 3)) : gp_el Ds n := ⟨h.1, Or.inl h2⟩
theorem gp_elX15 (h : gp_nn B n) (h2 : Ds n = some (14, 5)) : gp_el Ds n := ⟨h.1, Or.inr (Or.inl h2)⟩
theorem gp_elH (h : gp_pH Ds n) : gp_el Ds n := ⟨h.1, Or.inr (Or.inr h.2)⟩
end GPS
