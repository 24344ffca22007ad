/-! set, whole -/
set_option maxRecDepth 100000
/-- worth or spirit of a horse -/
theorem JJ.hs {Ds : gz_S} {Df : gz_R} {V M : gz_V} {c p f g : Nat} {a : Int32} (h : JJ Ds Df V c M) (hfg : (f = 1 ∧ g = 8) ∨ (f = 2 ∧ g = 9)) : JJ Ds Df (gz_up (gz_up V (42, 0, p) f a) (10, 0, 0) 8 0) c (gz_up (gz_up M (2, g, 0) p a) (1, 0, 0) 3 0) := by
  obtain ⟨P, H, b, mr, -⟩ := id h
  obtain ⟨hS, hr, hg, hb, hk, htd⟩ := mr
  have g89 : g = 8 ∨ g = 9 := by omega
  have f12 : f = 1 ∨ f = 2 := by omega
  generalize hV8 : gz_up V (42, 0, p) f a = V8
  generalize hM8 : gz_up M (2, g, 0) p a = M8
  have vno : ∀ n i, n ≠ (42, 0, p) → V8 n i = V n i := fun n i q => by rw [← hV8, up_ne q]
  have mno : ∀ n i, n ≠ (2, g, 0) → M8 n i = M n i := fun n i q => by rw [← hM8, up_ne q]
  have m1 : ∀ i, M8 (2, 1, 0) i = M (2, 1, 0) i := fun i => mno _ i (by simp; omega)
  have rowV : xr V8 0 = xr V 0 := by rw [← hV8, xr_no]; rcases f12 with rfl | rfl <;> simp [xsl]
  have ws := hS.2.2.2.2.2.2.2.1
  have mr8 : mR 0 P H b Ds Df V8 M8 := by
    refine ⟨hS.more (Nat.le_refl _) hS.2.1 (Nat.le_refl _) hS.2.2.1 ?_ ?_ ?_ ?_ (fun j hj => ?_) (fun n hn => funext (fun i => vno n i (by rintro rfl; exact absurd hn (by show ¬ 90 ≤ 42; decide)))) (fun f hf => funext (fun i => mno _ i (by simp; omega))) (mno _ _ (by simp)) (mno _ _ (by simp)), fun i hi => ?_, ⟨fun i h1 h2 => ?_, fun j hj => ?_, ?_⟩, ⟨?_, hb.2.1, fun i hi j hj => ?_⟩, ?_, td5.kp htd (fun n i hn => vno n i ?_) (fun f h1 h2 => mno _ _ (by simp)) (fun a h1 h2 => funext (fun i => mno _ i (by simp; omega)))⟩
    · rw [vno _ _ (by simp)]; exact hS.2.2.2.1
    · rw [mno _ _ (by simp)]; exact hS.2.2.2.2.1
    · rw [vno _ _ (by simp)]; exact hS.2.2.2.2.2.1
    · rw [mno _ _ (by simp)]; exact hS.2.2.2.2.2.2.1
    · have w := ws j hj
      rw [← hV8, ← hM8]
      simp only [up_at, Prod.mk.injEq, true_and, and_true]
      by_cases q : j = p
      · subst q
        rcases hfg with ⟨rfl, rfl⟩ | ⟨rfl, rfl⟩ <;> simp [w.1, w.2]
      · simp [q, w.1, w.2]
    · rw [rowV, m1]; exact hr i hi
    · rw [m1]; exact hg.1 i h1 h2
    · rw [m1]; exact hg.2.1 j hj
    · rw [m1]; exact hg.2.2
    · rw [m1]; exact hb.1
    · rw [vno _ _ (by simp), mno _ _ (by simp; omega)]; exact hb.2.2 i hi j hj
    · rw [vno _ _ (by simp), mno _ _ (by simp)]; exact hk
    · rintro rfl
      rcases hn with q | q
      · exact absurd q (by show ¬ 42 = 27; decide)
      · exact absurd q (by show ¬ (30 ≤ 42 ∧ 42 < 35); decide)
  refine h.fg mr8.fz (by rw [up_at, if_pos ⟨rfl, rfl⟩]) (by rw [up_at, if_pos ⟨rfl, rfl⟩]) (fun n i hn hn2 => ?_) (fun n i hn => ?_)
  · rw [up_at, if_neg hn2]
    refine vno n i ?_
    rintro rfl
    rcases hn with q | q | q | q
    · exact absurd q (by show ¬ 42 < 20; decide)
    · exact absurd q (by show ¬ 90 ≤ 42; decide)
    · exact q rfl
    · exact absurd q.1 (by simp)
  · rw [up_at, if_neg]
    · refine mno n i ?_
      rintro rfl
      rcases hn with q | q | q | q <;> simp at q <;> omega
    · rintro ⟨rfl, rfl⟩
      rcases hn with q | q | q | q <;> first | exact absurd q (by decide) | exact absurd q.2 (by decide)
theorem J_set {N : Nat} : lo_set JJ N := by
  intro Ds Df V c M a1 a2 a3 h
  have h0 := h.m0
  obtain ⟨P, H, b, u, mr, -, -⟩ := h.m0.deeds
  have hP := u.1.2.1
  have hH := u.1.2.2.1
  obtain ⟨e, q⟩ := set_c u.1 a1 a2 a3
  unfold x0_set m_set x0_forgets
  simp only [gs_let, gs_b2]
  rw [e]
  generalize gz_up M (1, 0, 0) 0 0 = M1 at *
  rcases q with q | ⟨q, ⟨w, p, hw, rfl, hp, rfl, y1, y2⟩ | ⟨p, hp, rfl, h67⟩⟩
  · rw [if_pos q, if_pos q]
    exact ⟨V, M1, 0, rfl, rfl, h0⟩
  · rw [q, if_neg n10, if_neg n10, at_ok (show p < 12 by omega), gs_bd, gs_bd]
    simp only [o_addl]
    by_cases h5 : w = 5
    · subst h5
      rw [if_pos (show Int32.ofNat 5 = 5 from rfl), if_pos (show (5 : Int32) ≤ Int32.ofNat 5 by decide), gs_bd, gs_bd, if_pos (show Int32.ofNat 5 = 5 from rfl), gs_gd (o_inb (show 65 + p < 121 by omega) (by omega)), o_nat (show 65 + p < 2147483648 by omega), gs_bd, if_neg (show ¬ Int32.ofNat 5 = 6 by decide), gs_bd, if_neg (show ¬ Int32.ofNat 5 = 7 by decide), gs_bd]
      have c1 := u.slot (n := (40, 0, p)) (j := 1) (i := 65 + p) (v := a3) (by omega) (by omega) (xu_purse (by omega)) (by simp [fx]) (show (40 : Nat) ≠ 26 by decide)
      exact ⟨_, _, 1, rfl, rfl, h0.df mr c1 (fr.rf.up (by simp [fx])) (fr.rf.up (by simp [fm]))⟩
    · have w5 : w < 5 := by omega
      have nn : ∀ t, t < 5 → ¬ Int32.ofNat t = 5 ∧ ¬ Int32.ofNat t = 6 ∧ ¬ Int32.ofNat t = 7 ∧ ¬ (5 : Int32) ≤ Int32.ofNat t := by decide
      obtain ⟨n5, n6, n7, n8⟩ := nn w w5
      rw [if_neg n5, if_neg n6, if_neg n7, gs_gd (o_inb w5 (by omega)), gs_bd, o_nat (show w < 2147483648 by omega), if_neg n8, m_hasTrait_ok (show p < 12 by omega) w5, held_id y1 (y2 w5), gs_bd, gs_bd, if_neg n5, gs_bd, if_neg n6, gs_bd, if_neg n7, gs_bd]
      have c1 := u.tr1 (p := p) (t := w) (a := a3) (by omega) w5 ⟨y1, y2 w5⟩
      exact ⟨_, _, 1, rfl, rfl, h0.df mr c1 (fr.rf.up (by simp [fx])) (fr.rf.up (by simp [fm]))⟩
  · have p10 : p < 10 := by omega
    have pn : (Int32.ofNat p).toNatClampNeg = p := o_nat (by omega)
    have pb : gz_inb (Int32.ofNat p) 10 = true := o_inb p10 (by omega)
    rcases h67 with rfl | rfl
    · rw [q, if_neg n10, if_neg n10, if_neg (show ¬ (6 : Int32) = 5 by decide), if_pos (show (6 : Int32) = 6 from rfl), gs_gd pb, gs_bd, pn, if_pos (show (5 : Int32) ≤ 6 by decide), gs_bd, if_neg (show ¬ (6 : Int32) = 5 by decide), gs_bd, if_pos (show (6 : Int32) = 6 from rfl), gs_gd pb, gs_bd, if_neg (show ¬ (6 : Int32) = 7 by decide), gs_bd]
      exact ⟨_, _, 1, rfl, rfl, h0.hs (Or.inl ⟨rfl, rfl⟩)⟩
    · rw [q, if_neg n10, if_neg n10, if_neg (show ¬ (7 : Int32) = 5 by decide), if_neg (show ¬ (7 : Int32) = 6 by decide), if_pos (show (7 : Int32) = 7 from rfl), gs_gd pb, gs_bd, pn, if_pos (show (5 : Int32) ≤ 7 by decide), gs_bd, if_neg (show ¬ (7 : Int32) = 5 by decide), gs_bd, if_neg (show ¬ (7 : Int32) = 6 by decide), gs_bd, if_pos (show (7 : Int32) = 7 from rfl), gs_gd pb, gs_bd]
      exact ⟨_, _, 1, rfl, rfl, h0.hs (Or.inr ⟨rfl, rfl⟩)⟩
