/-! SHAKES and CLASPS, whole -/
set_option maxRecDepth 100000
section SHK2
variable {k P H b0 p q N : Nat} {F : Int32} {Ds : gz_S} {Df : gz_R} {V M : gz_V}
theorem z_draw (h : cU k P H F b0 Ds Df V M) : ∃ V' M' r, x1_draw V k 1000 = some (V', r) ∧ m_draw M 1000 = some (M', r) ∧ cU k P H F b0 Ds Df V' M' ∧ (∀ n i, n ≠ (20, k, 0) → V' n i = V n i) ∧ (∀ n i, n ≠ (2, 1, 0) ∨ i ≠ 1 → M' n i = M n i) ∧ fr (fx k) V V' ∧ fr fm M M' := by
  have e := h.2.1.state
  have c1 := h.slot (n := (20, k, 0)) (j := 18) (i := 1) (v := (1664525 * V (20, k, 0) 18) + 1013904223) (by decide) (by decide) xu_state (by simp [fx]) (show (20 : Nat) ≠ 26 by decide)
  unfold x1_draw m_draw
  simp only [gs_let]
  rw [gs_gd (by decide), gs_gd (by decide)]
  rw [show (1 : Int32).toNatClampNeg = 1 from rfl]
  rw [e] at c1 ⊢
  refine ⟨_, _, _, rfl, ?_, c1, fun n i hn => by rw [up_ne hn], fun n i hn => ?_, fr.rf.up (by simp [fx]), fr.rf.up (by simp [fm])⟩
  · rw [c1.2.1.state]
  · rw [up_at, if_neg]
    rintro ⟨rfl, rfl⟩
    rcases hn with hn | hn <;> exact hn rfl
theorem z_shakes (h : cU k P H F b0 Ds Df V M) (hg : grR k V M) (hN : 500 ≤ N) (hp : p < 12) (hq : q < 12) (hpq : p ≠ q) (h2 : V (23, k, 0) 2 = Int32.ofNat p) (h3 : V (23, k, 0) 3 = Int32.ofNat q) (a1 : Int32) :
    ∃ V' M' r, x1_shakes N Ds Df V k a1 = some (V', r) ∧ m_clasps N M (Int32.ofNat p) (Int32.ofNat q) = some (M', r) ∧ fr (fx k) V V' ∧ fr fm M M' ∧ ((M' (1, 0, 0) 47 = 0 ∧ cU k P H F b0 Ds Df V' M') ∨ (M' (1, 0, 0) 47 = 1 ∧ r = 0 ∧ cU k P H F b0 Ds Df V' (pc M' p q a1))) := by
  have pb : gz_inb (Int32.ofNat p) 12 = true := o_inb hp (by omega)
  have qb : gz_inb (Int32.ofNat q) 12 = true := o_inb hq (by omega)
  have pn : (Int32.ofNat p).toNatClampNeg = p := o_nat (by omega)
  have qn : (Int32.ofNat q).toNatClampNeg = q := o_nat (by omega)
  have u0 : cU k P H F b0 Ds Df V (gz_up M (1, 0, 0) 47 0) := h.sc fr.rf (fr.rf.up (by simp [fm])) rfl (by rw [up_ne (by decide)]) (fun _ => rfl) (by rw [up_ne (by decide)])
  have f0 : fr fm M (gz_up M (1, 0, 0) 47 0) := fr.rf.up (by simp [fm])
  have z47 : gz_up M (1, 0, 0) 47 0 (1, 0, 0) 47 = 0 := by simp [up_at]
  have g0 : grR k V (gz_up M (1, 0, 0) 47 0) := hg.mv rfl (fun i hi => by rw [up_at, if_neg (by omega)]) (by rw [up_ne (by decide)]) (by rw [up_ne (by decide)])
  unfold x1_shakes m_clasps m_areBare
  rw [h2, h3, gs_gd pb, pn, gs_let, gs_gd qb, qn, gs_let, gs_let, o_addl, gs_gd (o_inb (by omega) (by omega)), o_nat (by omega), o_addl, gs_gd (o_inb (by omega) (by omega)), o_nat (by omega), ← u0.2.1.hand hp, ← u0.2.1.hand hq]
  generalize hM1 : gz_up M (1, 0, 0) 47 0 = M1 at *
  by_cases hp1 : V (40, k, p) 2 = 1
  · rw [if_pos hp1, if_pos hp1, gs_bd, if_pos rfl]
    exact ⟨V, M1, 0, rfl, rfl, fr.rf, f0, Or.inl ⟨z47, u0⟩⟩
  rw [if_neg hp1, if_neg hp1]
  by_cases hq1 : V (40, k, q) 2 = 1
  · rw [if_pos hq1, if_pos hq1, gs_bd, if_pos rfl]
    exact ⟨V, M1, 0, rfl, rfl, fr.rf, f0, Or.inl ⟨z47, u0⟩⟩
  rw [if_neg hq1, if_neg hq1, gs_bd, if_neg (by decide)]
  obtain ⟨V9, V15, M15, r, a, b, c, d, e, f, g, i, j, l⟩ := z_pass u0 g0 hN hp hq hpq h2 h3 (x1 := p) (x2 := q) (a1 := a1)
  rw [a, gs_bd, b, gs_bd, gs_let, c, gs_bd, d, gs_b2, g, h2, h3]
  have g15 : grR k V15 M15 := g0.mv g (fun x _ => by rw [i]) (funext (fun x => l _ x rfl)) (funext (fun x => l _ x rfl))
  obtain ⟨V21, M21, s, a', b', c', d', e', f', g'⟩ := z_holds e g15 hN hq hp
  rw [a', gs_b2]
  unfold m_doesHold
  rw [b', gs_b2, e'.2.2.2.1, e'.2.2.2.2.1]
  have fx21 : fr (fx k) V V21 := j.trans (f'.wk fxa_fx)
  have fm21 : fr fm M M21 := (f0.trans l).trans (g'.wk fma_fm)
  have go21 : ∀ u, u < 5 → goR k p q u V21 M21 := fun u hu => (f u hu).mv (f' _ _ (by simp [fxa])) (f' _ _ (by simp [fxa])) (g' _ _ rfl) (g' _ _ rfl) (g' _ _ rfl) (g' _ _ rfl)
  have v21 : V21 (23, k, 0) = V (23, k, 0) := by rw [← g]; exact funext (fun x => f' _ x (by simp [fxa]))
  have m47 : M21 (1, 0, 0) 47 = 0 := by rw [g' _ _ rfl, i]; exact z47
  have hold : ∀ Vh Mh : gz_V, cU k P H F b0 Ds Df Vh Mh → (∀ u, u < 5 → goR k p q u Vh Mh) → Vh (23, k, 0) = V (23, k, 0) → fr (fx k) V Vh → fr fm M Mh → ∃ V' M', gz_bd (x1_shakes_L165 N Ds Df k p q a1 r N Vh 0) (fun V30 => gz_let (gz_up V30 (20, k, 0) 15 ((V30 (20, k, 0) 15) - r)) (fun V32 => gz_let (gz_up V32 (40, k, p) 1 ((V32 (40, k, p) 1) - a1)) (fun V34 => gz_let (gz_up V34 (40, k, q) 1 ((V34 (40, k, q) 1) + a1)) (fun V36 => gz_let (gz_up V36 (20, k, 0) 16 ((V36 (20, k, 0) 16) + 1)) (fun V38 => gz_bd (x1_notes V38 k 3 (V38 (23, k, 0) 3) (V38 (23, k, 0) 2)) (fun V40 => some (V40, (0 : Int32)))))))) = some (V', 0)
      ∧ gz_let (gz_up Mh (1, 0, 0) 47 1) (fun V13 => gz_bd (m_putBack N V13 (Int32.ofNat p) (Int32.ofNat q) r) (fun V16 => gz_let (gz_up V16 (2, 1, 0) (4 : Int32).toNatClampNeg ((V16 (2, 1, 0) (4 : Int32).toNatClampNeg) + 1)) (fun V17 => gz_bd (m_notes V17 3 (Int32.ofNat q) (Int32.ofNat p)) (fun V20 => some (V20, (0 : Int32)))))) = some (M', 0) ∧ fr (fx k) V V' ∧ fr fm M M' ∧ M' (1, 0, 0) 47 = 1 ∧ cU k P H F b0 Ds Df V' (pc M' p q a1) := by
    intro Vh Mh hc hgo hv hfx hfm
    have uh : cU k P H F b0 Ds Df Vh (gz_up Mh (1, 0, 0) 47 1) := hc.sc fr.rf (fr.rf.up (by simp [fm])) rfl (by rw [up_ne (by decide)]) (fun _ => rfl) (by rw [up_ne (by decide)])
    obtain ⟨V30, V40, M16, M20, y1, y2, y3, y4, y5, y6, y7, y8, y9⟩ := z_hold uh hN hp hq hpq (by rw [hv]; exact h2) (by rw [hv]; exact h3) (fun u hu => (hgo u hu).mv rfl rfl (by rw [up_ne (by decide)]) (by rw [up_ne (by decide)]) (by rw [up_ne (by decide)]) (by rw [up_ne (by decide)])) (x1 := p) (x2 := q) (a1 := a1) (r := r)
    refine ⟨V40, M20, ?_, ?_, hfx.trans y7, hfm.trans ((fr.rf.up (by simp [fm])).trans y8), by rw [y9]; simp [up_at], y6⟩
    · rw [y1, gs_bd]
      simp only [gs_let]
      have w : ∀ (A B C D : Int32), gz_up (gz_up (gz_up (gz_up V30 (20, k, 0) 15 A) (40, k, p) 1 B) (40, k, q) 1 C) (20, k, 0) 16 D (23, k, 0) = V (23, k, 0) := fun A B C D => by rw [up_ne (by simp), up_ne (by simp), up_ne (by simp), up_ne (by simp), y3, hv]
      rw [w, h2, h3, y2]
      rfl
    · rw [gs_let, y4, gs_bd, gs_let, show (4 : Int32).toNatClampNeg = 4 from rfl, y5]
      rfl
  have s0 : (0 : Int32).toInt = 0 := rfl
  by_cases hs0 : s = 0
  · have hm : (if F = 0 then (if s ≤ 0 then some (M21, (0 : Int32)) else gz_b2 (m_draw M21 1000) (fun V8 r6 => (if s ≤ r6 then some (V8, 0) else some (V8, 1)))) else (if (2 * s) < 1000 then some (M21, 0) else some (M21, 1))) = some (M21, 0) := by
      subst hs0
      rw [if_pos (show (0 : Int32) ≤ 0 by decide), if_pos (show (2 * (0 : Int32)) < 1000 by decide)]
      split <;> rfl
    rw [if_pos hs0, hm, gs_b2, if_pos rfl]
    exact ⟨V21, M21, r, rfl, rfl, fx21, fm21, Or.inl ⟨m47, e'⟩⟩
  rw [if_neg hs0]
  have hs1 : ¬ s ≤ 0 := by
    rw [i_le, s0]
    intro z
    exact hs0 (by rw [i_eq, s0]; omega)
  by_cases hF : F = 0
  · rw [if_pos hF, if_pos hF, if_neg hs1]
    obtain ⟨V26, M26, w, d1, d2, d3, d4, d5, d6, d7⟩ := z_draw e'
    rw [d1, gs_b2, d2, gs_b2]
    by_cases hw : w < s
    · have hw2 : ¬ s ≤ w := by rw [i_le]; rw [i_lt] at hw; omega
      rw [if_pos hw, if_neg hw2, gs_b2, if_neg (by decide)]
      obtain ⟨V', M', q1, q2, q3, q4, q5, q6⟩ := hold V26 M26 d3 (fun u hu => (go21 u hu).mv (d4 _ _ (by simp)) (d4 _ _ (by simp)) (d5 _ _ (by simp)) (d5 _ _ (by simp)) (d5 _ _ (by omega)) (d5 _ _ (by omega))) (by rw [← v21]; exact funext (fun x => d4 _ x (by simp))) (fx21.trans d6) (fm21.trans d7)
      exact ⟨V', M', 0, q1, q2, q3, q4, Or.inr ⟨q5, rfl, q6⟩⟩
    · have hw2 : s ≤ w := by rw [i_le]; rw [i_lt] at hw; omega
      rw [if_neg hw, if_pos hw2, gs_b2, if_pos rfl]
      exact ⟨V26, M26, r, rfl, rfl, fx21.trans d6, fm21.trans d7, Or.inl ⟨by rw [d5 _ _ (by simp)]; exact m47, d3⟩⟩
  · rw [if_neg hF, if_neg hF]
    have k5 : (500 : Int32).toInt = 500 := rfl
    have k2 : (2 : Int32).toInt = 2 := rfl
    have k1000 : (1000 : Int32).toInt = 1000 := rfl
    have e2 : (2 * s).toInt = 2 * s.toInt := by rw [i_mul, k2] <;> rw [k2] <;> omega
    by_cases hw : (500 : Int32) ≤ s
    · have hw2 : ¬ (2 * s) < 1000 := by rw [i_lt, e2, k1000]; rw [i_le, k5] at hw; omega
      rw [if_pos hw, if_neg hw2, gs_b2, if_neg (by decide)]
      obtain ⟨V', M', q1, q2, q3, q4, q5, q6⟩ := hold V21 M21 e' go21 v21 fx21 fm21
      exact ⟨V', M', 0, q1, q2, q3, q4, Or.inr ⟨q5, rfl, q6⟩⟩
    · have hw2 : (2 * s) < 1000 := by rw [i_lt, e2, k1000]; rw [i_le, k5] at hw; omega
      rw [if_neg hw, if_pos hw2, gs_b2, if_pos rfl]
      exact ⟨V21, M21, r, rfl, rfl, fx21, fm21, Or.inl ⟨m47, e'⟩⟩
end SHK2
