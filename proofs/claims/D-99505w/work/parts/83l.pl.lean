/-! SHAKES and CLASPS -/
set_option maxRecDepth 100000
section SHK
variable {k P H b0 p q N : Nat} {F : Int32} {Ds : gz_S} {Df : gz_R} {V M : gz_V}
theorem z_pass (h : cU k P H F b0 Ds Df V M) (hg : grR k V M) (hN : 500 ≤ N) (hp : p < 12) (hq : q < 12) (hpq : p ≠ q) (h2 : V (23, k, 0) 2 = Int32.ofNat p) (h3 : V (23, k, 0) 3 = Int32.ofNat q) {x1 x2 : Nat} {a1 : Int32} :
    ∃ V9 V15 M15 r, x1_shakes_L47 N Ds Df k x1 x2 a1 N V 0 = some V9 ∧ x2_all N V9 k = some r ∧ (if r ≤ 0 then some (gz_up V9 (20, k, 0) 15 (V9 (20, k, 0) 15 + r)) else gz_bd (x1_notes (gz_up V9 (20, k, 0) 15 (V9 (20, k, 0) 15 + r)) k 2 (gz_up V9 (20, k, 0) 15 (V9 (20, k, 0) 15 + r) (23, k, 0) 2) r) (fun V19 => some V19)) = some V15 ∧ m_passAll N M (Int32.ofNat p) (Int32.ofNat q) = some (M15, r)
      ∧ cU k P H F b0 Ds Df V15 M15 ∧ (∀ u, u < 5 → goR k p q u V15 M15) ∧ V15 (23, k, 0) = V (23, k, 0) ∧ M15 (1, 0, 0) = M (1, 0, 0) ∧ fr (fx k) V V15 ∧ fr fm M M15 := by
  obtain ⟨V9, M9, a, b, c, d, e, f, -⟩ := z_overs hN hp hq hpq (x1 := x1) (x2 := x2) (a1 := a1) 5 0 (n := N) (m := N) (s := 0) (by decide) (by omega) (by omega) h hg h2 h3 (fun u hu => absurd hu (by omega))
  have hall : x2_all N V9 k = some (sg M9 0 0 5) := by
    unfold x2_all
    rw [show x2_all_L4 N V9 k N 0 0 = some (sg M9 0 0 5) from z_all f 5 0 (by decide) (by omega)]
    rfl
  generalize hr : sg M9 0 0 5 = r at *
  have v9 : V9 (23, k, 0) = V (23, k, 0) := funext (fun i => d _ i (by simp [fxb, fxa]))
  have c1 := c.slot (n := (20, k, 0)) (j := 15) (i := 3) (v := V9 (20, k, 0) 15 + r) (by decide) (by decide) xu_passed (by simp [fx]) (show (20 : Nat) ≠ 26 by decide)
  have e3 : V9 (20, k, 0) 15 = M9 (2, 1, 0) 3 := c.2.1.passed
  have f13 : fr (fx k) V (gz_up V9 (20, k, 0) 15 (V9 (20, k, 0) 15 + r)) := (d.wk fxb_fx).up (by simp [fx])
  have g13 : fr fm M (gz_up M9 (2, 1, 0) 3 (M9 (2, 1, 0) 3 + r)) := (e.wk fmb_fm).up (by simp [fm])
  have w13 : gz_up V9 (20, k, 0) 15 (V9 (20, k, 0) 15 + r) (23, k, 0) = V (23, k, 0) := by rw [up_ne (by simp), v9]
  have m13 : gz_up M9 (2, 1, 0) 3 (M9 (2, 1, 0) 3 + r) (1, 0, 0) = M (1, 0, 0) := by rw [up_ne (by decide)]; exact funext (fun i => e _ i rfl)
  have go13 : ∀ u, u < 5 → goR k p q u (gz_up V9 (20, k, 0) 15 (V9 (20, k, 0) 15 + r)) (gz_up M9 (2, 1, 0) 3 (M9 (2, 1, 0) 3 + r)) := fun u hu => (f u hu).mv (by rw [up_ne (by simp)]) (by rw [up_ne (by simp)]) (by rw [up_ne (by decide)]) (by rw [up_ne (by decide)]) (by rw [up_at, if_neg (by omega)]) (by rw [up_at, if_neg (by omega)])
  have hm : m_passAll N M (Int32.ofNat p) (Int32.ofNat q) = gz_bd (if r ≤ 0 then some (gz_up M9 (2, 1, 0) 3 (M9 (2, 1, 0) 3 + r)) else gz_bd (m_notes (gz_up M9 (2, 1, 0) 3 (M9 (2, 1, 0) 3 + r)) 2 (Int32.ofNat p) r) (fun V11 => some V11)) (fun V6 => some (V6, r)) := by
    unfold m_passAll
    rw [show m_passAll_L5 N (Int32.ofNat p) (Int32.ofNat q) N M 0 0 = some (M9, r) from b]
    rfl
  rw [e3] at c1
  rw [hm]
  by_cases hr0 : r ≤ 0
  · rw [if_pos hr0]
    rw [e3] at f13 w13 go13
    exact ⟨V9, _, _, r, a, hall, by rw [if_pos hr0, e3], rfl, c1, go13, w13, m13, f13, g13⟩
  · rw [if_neg hr0]
    rw [e3] at f13 w13 go13
    obtain ⟨V15, M15, n1, n2, n3, n4, n5⟩ := z_notes c1 2 (Int32.ofNat p) r
    refine ⟨V9, V15, M15, r, a, hall, ?_, ?_, n3, fun u hu => (go13 u hu).mv (n4 _ _ (by simp [fxn])) (n4 _ _ (by simp [fxn])) (n5 _ _ rfl) (n5 _ _ rfl) (n5 _ _ (by simp [fmn]; omega)) (n5 _ _ (by simp [fmn]; omega)), ?_, ?_, f13.trans (n4.wk fxn_fx), g13.trans (n5.wk fmn_fm)⟩
    · rw [if_neg hr0, e3, w13, h2, n1]
      rfl
    · rw [n2]
      rfl
    · rw [← w13]
      exact funext (fun i => n4 _ i (by simp [fxn]))
    · rw [← m13]
      exact funext (fun i => n5 _ i rfl)
end SHK
