/-! THE INVARIANT J -/
set_option maxRecDepth 100000
/-- where the image keeps a slot -/
def miX (n : gz_N) (i : Nat) : Nat := if n = (1, 0, 0) then (match i with
    | 6 => 121 | 7 => 122 | 34 => 123 | 36 => 124 | 38 => 125 | 48 => 126 | 51 => 127 | 57 => 128 | 59 => 129 | 62 => 130 | _ => 2399)
  else (match n.2.1 with
    | 1 => i | 8 => 131 + 2 * i | 9 => 132 + 2 * i | 39 => 151 + i | 49 => 163 + 2 * i | 50 => 164 + 2 * i | 52 => 195 + i | 58 => 204 + i | 60 => 209 + i | 63 => 216 + i | 35 => 222 + i | 37 => 302 + i
    | 10 => 382 + i | 18 => 982 | 19 => 983 + 4 * i | 20 => 984 + 4 * i | 21 => 985 + 4 * i | 22 => 986 + 4 * i | 23 => 1047 + 2 * i | 24 => 1048 + 2 * i | _ => 2399)
/-- the world that the image keeps -/
def MI (M : gz_V) : gz_V := fun n i => M (2, 68, 0) (miX n i)
/-- a byte of the tape -/
def tpR (x m : Int32) : Prop := 0 ≤ m.toInt ∧ m.toInt ≤ 255 ∧ x.toInt = if m.toInt < 128 then m.toInt else m.toInt - 256
def jM (V M : gz_V) : Prop := V (20, 0, 0) 21 = 0 ∧ V (20, 2, 0) 21 = 1 ∧ M (1, 0, 0) 5 = 0 ∧ (∃ t, t ≤ 400 ∧ V (10, 0, 0) 1 = Int32.ofNat t ∧ M (1, 0, 0) 12 = Int32.ofNat t) ∧ (∀ i, i < 400 → tpR (V (11, 0, 0) i) (M (2, 11, 0) i)) ∧ V (10, 0, 0) 2 = M (1, 0, 0) 32 ∧ V (10, 0, 0) 3 = M (1, 0, 0) 33 ∧ (∀ p, p < 4 → V (11, 12, 0) p = 0) ∧ V (11, 15, 0) 0 = 0 ∧ ∀ i, i < 140 → M (2, 17, 0) i = ti_w.getD i 0
def jI (Ds : gz_S) (Df : gz_R) (V M : gz_V) : Prop := V (10, 0, 0) 9 = M (1, 0, 0) 66 ∧ (V (10, 0, 0) 9 = 0 ∨ (V (10, 0, 0) 9 = 1 ∧ ∃ P H b, mR 1 P H b Ds Df V (MI M)))
def jS (Ds : gz_S) (c : Nat) : Prop := ∀ n : gz_N, Ds n ≠ none → n.1 = 90 ∨ n.1 = 91 ∨ (n.1 = 98 ∧ n.2.1 < c)
def JJ (Ds : gz_S) (Df : gz_R) (V : gz_V) (c : Nat) (M : gz_V) : Prop := ∃ P H b, mR 0 P H b Ds Df V M ∧ bR P H b Df V M ∧ jI Ds Df V M ∧ jM V M ∧ jS Ds c
theorem J_S : lo_S JJ := by
  rintro Ds Df V c M ⟨P, H, b, -, -, -, -, h⟩
  have no : ∀ n : gz_N, n.1 ≠ 90 → n.1 ≠ 91 → n.1 ≠ 98 → Ds n = none := fun n h1 h2 h3 => Classical.byContradiction (fun z => by
    rcases h n z with q | q | q
    · exact h1 q
    · exact h2 q
    · exact h3 q.1)
  refine ⟨no _ (by decide) (by decide) (by decide), no _ (by decide) (by decide) (by decide), no _ (by decide) (by decide) (by decide), fun n h1 h2 => Classical.byContradiction (fun z => ?_), fun n h1 h2 => ?_⟩
  · rcases h n z with q | q | q <;> omega
  · exfalso
    apply h1
    unfold xw_s
    rw [h2]
    simp only [show (0 : Nat) ≠ 10 by decide, show (0 : Nat) ≠ 11 by decide, show (0 : Nat) ≠ 20 by decide, show (0 : Nat) ≠ 21 by decide, show (0 : Nat) ≠ 22 by decide, show (0 : Nat) ≠ 23 by decide, show (0 : Nat) ≠ 24 by decide, show (0 : Nat) ≠ 25 by decide, show (0 : Nat) ≠ 26 by decide, show (0 : Nat) ≠ 27 by decide, show (0 : Nat) ≠ 28 by decide, show (0 : Nat) ≠ 40 by decide, show (0 : Nat) ≠ 41 by decide, show (0 : Nat) ≠ 42 by decide, if_false]
    rw [if_neg (by omega), if_neg (by omega)]
    exact no n (by omega) (by omega) (by omega)
/-- slots that J reads -/
def jx (n : gz_N) (i : Nat) : Prop := 90 ≤ n.1 ∨ (20 ≤ n.1 ∧ n.1 < 90 ∧ n.1 ≠ 23 ∧ n.1 ≠ 24 ∧ n.2.1 ≠ 2 ∧ ¬ (n.1 = 20 ∧ 22 ≤ i)) ∨ (n = (20, 2, 0) ∧ i = 21) ∨ (n = (10, 0, 0) ∧ (i = 1 ∨ i = 2 ∨ i = 3 ∨ i = 8 ∨ i = 9)) ∨ n = (11, 0, 0) ∨ n = (11, 12, 0) ∨ (n = (11, 15, 0) ∧ i = 0)
def jm (n : gz_N) (i : Nat) : Prop := relM n i = true ∨ (n = (1, 0, 0) ∧ (i = 3 ∨ i = 5 ∨ i = 12 ∨ i = 32 ∨ i = 33 ∨ i = 66)) ∨ n = (2, 2, 0) ∨ n = (2, 11, 0) ∨ n = (2, 17, 0) ∨ n = (2, 68, 0)
section JEQ
variable {Ds : gz_S} {Df : gz_R} {V M V2 M2 : gz_V} {c P H b : Nat}
theorem relX_jx {k : Nat} (hk : k ≠ 2) {n : gz_N} {i : Nat} (h : relX k n i) : jx n i := by
  rcases h with h | ⟨h1, h2⟩
  · exact Or.inl h
  · refine Or.inr (Or.inl ?_)
    rcases h2 with q | q | q | q | q | q | q <;> omega
theorem bR.eq (h : bR P H b Df V M) (hH : H ≤ 10) (hx : ∀ n i, jx n i → V2 n i = V n i) (hm : ∀ n i, jm n i → M2 n i = M n i) : bR P H b Df V2 M2 := by
  obtain ⟨u, κ, h1, h2, h3, h4, h5, h6⟩ := h
  refine ⟨u, κ, h1, by rw [hx _ _ (Or.inr (Or.inr (Or.inr (Or.inl ⟨rfl, by decide⟩))))]; exact h2, by rw [hm _ _ (Or.inr (Or.inl ⟨rfl, by decide⟩))]; exact h3, h4, h5, fun j hj => ?_⟩
  have k3 := (h4 j (by omega)).1
  have m22 : ∀ i, M2 (2, 2, 0) i = M (2, 2, 0) i := fun i => hm _ _ (Or.inr (Or.inr (Or.inl rfl)))
  obtain ⟨b1, b2, b3, b4⟩ := h6 j hj
  have w : ∀ k, k ≠ 2 → ∀ h f, f < 4 → V2 (42, k, h) f = V (42, k, h) f := fun k hk h f _ => hx _ _ (relX_jx hk (Or.inr ⟨rfl, by simp⟩))
  refine ⟨fun i hi => ?_, rg_row hH b2 (fun i _ => by rw [MB_row, MB_row]; exact m22 _), by rw [m22]; exact b3, fun h hh => ?_⟩
  · have e := b1 i hi
    rw [MB_row] at e ⊢
    rw [m22, ← e]
    refine congrFun (xr_rel (fun n i hn => hx n i (relX_jx (show κ j ≠ 2 by omega) hn))) i
  · rw [w _ (by omega) h 1 (by decide), w _ (by omega) h 2 (by decide), w 0 (by decide) h 1 (by decide), w 0 (by decide) h 2 (by decide)]
    exact b4 h hh
theorem jI.eq (h : jI Ds Df V M) (hx : ∀ n i, jx n i → V2 n i = V n i) (hm : ∀ n i, jm n i → M2 n i = M n i) : jI Ds Df V2 M2 := by
  have e9 : V2 (10, 0, 0) 9 = V (10, 0, 0) 9 := hx _ _ (Or.inr (Or.inr (Or.inr (Or.inl ⟨rfl, by decide⟩))))
  refine ⟨by rw [e9, hm _ _ (Or.inr (Or.inl ⟨rfl, by decide⟩))]; exact h.1, ?_⟩
  rw [e9]
  rcases h.2 with q | ⟨q, P, H, b, q2⟩
  · exact Or.inl q
  · exact Or.inr ⟨q, P, H, b, q2.eq (fun n i hn => hx n i (relX_jx (by decide) hn)) (fun n i _ => hm _ _ (Or.inr (Or.inr (Or.inr (Or.inr (Or.inr rfl))))))⟩
theorem jM.eq (h : jM V M) (hx : ∀ n i, jx n i → V2 n i = V n i) (hm : ∀ n i, jm n i → M2 n i = M n i) : jM V2 M2 := by
  obtain ⟨h1, h2, h3, ⟨t, h4, h5, h6⟩, h7, h8, h9, h10, h11, h12⟩ := h
  have x10 : ∀ i, (i = 1 ∨ i = 2 ∨ i = 3 ∨ i = 8 ∨ i = 9) → V2 (10, 0, 0) i = V (10, 0, 0) i := fun i hi => hx _ _ (Or.inr (Or.inr (Or.inr (Or.inl ⟨rfl, hi⟩))))
  have m1 : ∀ i, (i = 3 ∨ i = 5 ∨ i = 12 ∨ i = 32 ∨ i = 33 ∨ i = 66) → M2 (1, 0, 0) i = M (1, 0, 0) i := fun i hi => hm _ _ (Or.inr (Or.inl ⟨rfl, hi⟩))
  refine ⟨by rw [hx _ _ (Or.inr (Or.inl ⟨by decide, by decide, by decide, by decide, by decide, by decide⟩))]; exact h1, by rw [hx _ _ (Or.inr (Or.inr (Or.inl ⟨rfl, rfl⟩)))]; exact h2, by rw [m1 5 (by decide)]; exact h3, ⟨t, h4, by rw [x10 1 (by decide)]; exact h5, by rw [m1 12 (by decide)]; exact h6⟩, fun i hi => ?_, by rw [x10 2 (by decide), m1 32 (by decide)]; exact h8, by rw [x10 3 (by decide), m1 33 (by decide)]; exact h9, fun p hp => ?_, ?_, fun i hi => ?_⟩
  · rw [hx _ _ (Or.inr (Or.inr (Or.inr (Or.inr (Or.inl rfl))))), hm _ _ (Or.inr (Or.inr (Or.inr (Or.inl rfl))))]
    exact h7 i hi
  · rw [hx _ _ (Or.inr (Or.inr (Or.inr (Or.inr (Or.inr (Or.inl rfl))))))]
    exact h10 p hp
  · rw [hx _ _ (Or.inr (Or.inr (Or.inr (Or.inr (Or.inr (Or.inr ⟨rfl, rfl⟩))))))]
    exact h11
  · rw [hm _ _ (Or.inr (Or.inr (Or.inr (Or.inr (Or.inl rfl)))))]
    exact h12 i hi
theorem JJ.eq (h : JJ Ds Df V c M) (hx : ∀ n i, jx n i → V2 n i = V n i) (hm : ∀ n i, jm n i → M2 n i = M n i) : JJ Ds Df V2 c M2 := by
  obtain ⟨P, H, b, h1, h2, h3, h4, h5⟩ := h
  exact ⟨P, H, b, h1.eq (fun n i hn => hx n i (relX_jx (by decide) hn)) (fun n i hn => hm n i (Or.inl hn)), h2.eq h1.1.2.2.1 hx hm, h3.eq hx hm, h4.eq hx hm, h5⟩
/-- the twin's first act -/
theorem JJ.m0 (h : JJ Ds Df V c M) : JJ Ds Df V c (gz_up M (1, 0, 0) 0 0) := h.eq (fun _ _ _ => rfl) (fun n i hn => by
  rw [up_at, if_neg]
  rintro ⟨rfl, rfl⟩
  rcases hn with q | q | q | q | q | q
  · exact absurd q (by decide)
  · exact absurd q.2 (by decide)
  · exact absurd q (by decide)
  · exact absurd q (by decide)
  · exact absurd q (by decide)
  · exact absurd q (by decide))
end JEQ
