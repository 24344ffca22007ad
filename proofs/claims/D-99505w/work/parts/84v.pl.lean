/-! horse -/
set_option maxRecDepth 100000
section TDK
variable {V M V2 M2 : gz_V}
/-- all rows that are told -/
def td5 (V M : gz_V) : Prop := tdR 0 0 48 49 0 11 16 V M ∧ tdC 0 V M ∧ tdR 0 1 51 52 0 8 9 V M ∧ tdR 0 2 57 58 1 200 5 V M ∧ tdR 0 3 59 60 1 30 7 V M ∧ tdR 0 4 62 63 1 20 6 V M
theorem td5.kp (h : td5 V M) (hx : ∀ n i, n.1 = 27 ∨ (30 ≤ n.1 ∧ n.1 < 35) → V2 n i = V n i) (hf : ∀ f, 48 ≤ f → f ≤ 62 → M2 (1, 0, 0) f = M (1, 0, 0) f) (ha : ∀ a, 49 ≤ a → a ≤ 63 → M2 (2, a, 0) = M (2, a, 0)) : td5 V2 M2 := by
  have go : ∀ {r f a lo hi cap : Nat}, r < 5 → 48 ≤ f → f ≤ 62 → 49 ≤ a → a ≤ 63 → tdR 0 r f a lo hi cap V M → tdR 0 r f a lo hi cap V2 M2 := by
    intro r f a lo hi cap hr h1 h2 h3 h4 ⟨m, q1, q2, q3, q4⟩
    refine ⟨m, q1, by rw [hx _ _ (Or.inl rfl)]; exact q2, by rw [hf f h1 h2]; exact q3, fun i hi => ?_⟩
    rw [hx (30 + r, 0, i) 0 (Or.inr (by show 30 ≤ 30 + r ∧ 30 + r < 35; omega)), ha a h3 h4]
    exact q4 i hi
  obtain ⟨t0, tc, t1, t2, t3, t4⟩ := h
  refine ⟨go (by decide) (by decide) (by decide) (by decide) (by decide) t0, fun m q1 q2 i hi => ?_, go (by decide) (by decide) (by decide) (by decide) (by decide) t1, go (by decide) (by decide) (by decide) (by decide) (by decide) t2, go (by decide) (by decide) (by decide) (by decide) (by decide) t3, go (by decide) (by decide) (by decide) (by decide) (by decide) t4⟩
  rw [hx _ _ (Or.inl rfl)] at q1
  rw [hx (30, 0, i) 1 (Or.inr (by show 30 ≤ 30 ∧ 30 < 35; decide)), hx (30, 0, i) 0 (Or.inr (by show 30 ≤ 30 ∧ 30 < 35; decide)), ha 50 (by decide) (by decide)]
  exact tc m q1 q2 i hi
end TDK
theorem J_horse {N : Nat} : lo_horse JJ N := by
  intro Ds Df V c M a1 a2 a3 h
  have h0 := h.m0
  obtain ⟨P, H, b, mr, -⟩ := h.m0
  obtain ⟨hS, hr, hg, hb, hk, htd⟩ := mr
  have hP := hS.2.1
  have hH := hS.2.2.1
  obtain ⟨e1, q1⟩ := hS.isP a1
  have p14 : V (20, 0, 0) 14 = Int32.ofNat H := hS.2.2.2.2.2.1
  have p7 := hS.2.2.2.2.2.2.1
  unfold x0_horse m_horse x5_begins x0_forgets
  simp only [gs_let, gs_bd, gs_b2]
  rw [e1, isIn_eq, isIn_eq]
  generalize gz_up M (1, 0, 0) 0 0 = M1 at *
  rcases q1 with q1 | ⟨q1, p, hp, rfl⟩
  · rw [if_pos q1, if_pos q1]
    exact ⟨V, M1, -1, rfl, rfl, h0⟩
  rw [q1, if_neg n10, if_neg n10]
  rcases isIn_c (a := a2) (b := 0) (c := 999) with w | ⟨w, w1, w2⟩
  · rw [if_pos w, if_pos w]
    exact ⟨V, M1, -1, rfl, rfl, h0⟩
  rw [w, if_neg n10, if_neg n10]
  rcases isIn_c (a := a3) (b := 0) (c := 9) with x | ⟨x, x1, x2⟩
  · rw [if_pos x, if_pos x]
    exact ⟨V, M1, -1, rfl, rfl, h0⟩
  rw [x, if_neg n10, if_neg n10, p14, p7]
  by_cases h10 : H = 10
  · subst h10
    rw [if_pos (show Int32.ofNat 10 = 10 from rfl), if_pos (show Int32.ofNat 10 = 10 from rfl)]
    exact ⟨V, M1, -1, rfl, rfl, h0⟩
  have hne : ¬ Int32.ofNat H = 10 := by rw [show (10 : Int32) = Int32.ofNat 10 from rfl, o_eq (by omega) (by omega)]; exact h10
  have hlt : H < 10 := by omega
  have Hn : (Int32.ofNat H).toNatClampNeg = H := o_nat (by omega)
  have w1' : ∀ (W : gz_V) (f j : Nat) (x : Int32), gz_up W (2, f, 0) j x (1, 0, 0) = W (1, 0, 0) := fun W f j x => up_ne (by simp)
  have w2' : ∀ (W : gz_V) (j : Nat) (x : Int32), gz_up W (42, 0, H) j x (20, 0, 0) = W (20, 0, 0) := fun W j x => up_ne (by simp)
  have e1' : Int32.ofNat H + 1 = Int32.ofNat (H + 1) := o_addr 1 H
  rw [if_neg hne, if_neg hne, gs_gd (o_inb hlt (by omega))]
  simp only [Hn, w1', w2', p14, p7, o_addl, gs_gd (o_inb hlt (show H < 2147483648 by omega)), gs_gd (o_inb (show 101 + H < 121 by omega) (show 101 + H < 2147483648 by omega)), gs_gd (o_inb (show 111 + H < 121 by omega) (show 111 + H < 2147483648 by omega)), o_nat (show 101 + H < 2147483648 by omega), o_nat (show 111 + H < 2147483648 by omega), e1']
  generalize hV8 : gz_up (gz_up (gz_up (gz_up (gz_up V (42, 0, H) 0 (Int32.ofNat p)) (42, 0, H) 1 a2) (42, 0, H) 2 a3) (42, 0, H) 3 0) (20, 0, 0) 14 (Int32.ofNat (H + 1)) = V8
  generalize hM8 : gz_up (gz_up (gz_up (gz_up (gz_up M1 (2, 1, 0) (101 + H) (Int32.ofNat p)) (2, 1, 0) (111 + H) 0) (2, 8, 0) H a2) (2, 9, 0) H a3) (1, 0, 0) 7 (Int32.ofNat (H + 1)) = M8
  have v14 : V8 (20, 0, 0) 14 = Int32.ofNat (H + 1) := by rw [← hV8, up_at, if_pos ⟨rfl, rfl⟩]
  have m7 : M8 (1, 0, 0) 7 = Int32.ofNat (H + 1) := by rw [← hM8, up_at, if_pos ⟨rfl, rfl⟩]
  have vno : ∀ n i, n ≠ (42, 0, H) → ¬ (n = (20, 0, 0) ∧ i = 14) → V8 n i = V n i := fun n i q1 q2 => by rw [← hV8, up_at, if_neg q2, up_ne q1, up_ne q1, up_ne q1, up_ne q1]
  have mno : ∀ n i, ¬ (n = (1, 0, 0) ∧ i = 7) → n ≠ (2, 1, 0) → n ≠ (2, 8, 0) → n ≠ (2, 9, 0) → M8 n i = M1 n i := fun n i q1 q2 q3 q4 => by rw [← hM8, up_at, if_neg q1, up_ne q4, up_ne q3, up_ne q2, up_ne q2]
  have rowM : ∀ i, M8 (2, 1, 0) i = if i = 111 + H then 0 else if i = 101 + H then Int32.ofNat p else M1 (2, 1, 0) i := fun i => by rw [← hM8, up_ne (by decide), up_ne (by decide), up_ne (by decide), up_at, up_at]; simp only [true_and]
  have rowV : xr V8 0 = upd (upd (xr V 0) (101 + H) (Int32.ofNat p)) (111 + H) 0 := by
    rw [← hV8, xr_no (by simp [xsl]), xu_sold, xr_no (by simp [xsl]), xr_no (by simp [xsl]), xu_owner hlt]
  have r2 : rR 0 V8 M8 := fun i hi => by
    rw [rowV, rowM]
    simp only [upd_at]
    split
    · rfl
    · split
      · rfl
      · exact hr i hi
  have ws := hS.2.2.2.2.2.2.2.1
  have mr8 : mR 0 P (H + 1) b Ds Df V8 M8 := by
    refine ⟨hS.more (Nat.le_refl _) hP (by omega) (by omega) ?_ ?_ v14 m7 (fun j hj => ?_) (fun n hn => funext (fun i => vno n i (by rintro rfl; exact absurd hn (by show ¬ 90 ≤ 42; decide)) (by rintro ⟨rfl, -⟩; exact absurd hn (by decide)))) (fun f hf => funext (fun i => mno _ i (by simp) (by simp; omega) (by simp; omega) (by simp; omega))) (mno _ _ (by decide) (by decide) (by decide) (by decide)) (mno _ _ (by decide) (by decide) (by decide) (by decide)), r2, ⟨fun i h1 h2 => ?_, fun j hj => ?_, ?_⟩, ⟨?_, hb.2.1, fun i hi j hj => ?_⟩, ?_, td5.kp htd (fun n i hn => vno n i ?_ ?_) (fun f h1 h2 => mno _ _ (by simp; omega) (by simp) (by simp) (by simp)) (fun a h1 h2 => funext (fun i => mno _ i (by simp) (by simp; omega) (by simp; omega) (by simp; omega)))⟩
    · rw [vno _ _ (by simp) (by simp)]; exact hS.2.2.2.1
    · rw [mno _ _ (by decide) (by decide) (by decide) (by decide)]; exact hS.2.2.2.2.1
    · have q8 : ∀ i, M8 (2, 8, 0) i = if i = H then a2 else M1 (2, 8, 0) i := fun i => by rw [← hM8, up_ne (by decide), up_ne (by decide), up_at, up_ne (by decide), up_ne (by decide)]; simp only [true_and]
      have q9 : ∀ i, M8 (2, 9, 0) i = if i = H then a3 else M1 (2, 9, 0) i := fun i => by rw [← hM8, up_ne (by decide), up_at, up_ne (by decide), up_ne (by decide), up_ne (by decide)]; simp only [true_and]
      rw [q8, q9]
      by_cases hjH : j = H
      · subst hjH
        rw [if_pos rfl, if_pos rfl, ← hV8]
        simp [up_at]
      · rw [if_neg hjH, if_neg hjH, vno _ _ (by simp [hjH]) (by simp), vno _ _ (by simp [hjH]) (by simp)]
        exact ws j hj
    · rw [rowM, if_neg (by omega), if_neg (by omega)]; exact hg.1 i h1 h2
    · rw [rowM, if_neg (by omega)]
      by_cases hjH : j = H
      · rw [if_pos (by omega), i_of (by omega)]
        omega
      · rw [if_neg (by omega)]
        exact hg.2.1 j (by omega)
    · rw [rowM, if_neg (by omega), if_neg (by omega)]; exact hg.2.2
    · rw [rowM, if_neg (by omega), if_neg (by omega)]; exact hb.1
    · rw [vno _ _ (by simp) (by simp), mno _ _ (by simp) (by simp) (by simp) (by simp)]; exact hb.2.2 i hi j hj
    · rw [vno _ _ (by simp) (by simp), mno _ _ (by decide) (by decide) (by decide) (by decide)]; exact hk
    · rintro rfl
      rcases hn with q | q
      · exact absurd q (by show ¬ 42 = 27; decide)
      · exact absurd q (by show ¬ (30 ≤ 42 ∧ 42 < 35); decide)
    · rintro ⟨rfl, -⟩
      rcases hn with q | q
      · exact absurd q (by show ¬ 20 = 27; decide)
      · exact absurd q (by show ¬ (30 ≤ 20 ∧ 20 < 35); decide)
  have v14' : gz_up V8 (10, 0, 0) 8 0 (20, 0, 0) 14 = Int32.ofNat (H + 1) := by rw [up_ne (by decide)]; exact v14
  have m7' : gz_up M8 (1, 0, 0) 3 0 (1, 0, 0) 7 = Int32.ofNat (H + 1) := by rw [up_at, if_neg (by decide)]; exact m7
  rw [v14', m7']
  refine ⟨_, _, _, rfl, rfl, h0.fg mr8.fz (by rw [up_at, if_pos ⟨rfl, rfl⟩]) (by rw [up_at, if_pos ⟨rfl, rfl⟩]) (fun n i hn hn2 => ?_) (fun n i hn => ?_)⟩
  · rw [up_at, if_neg hn2]
    refine vno n i ?_ ?_
    · rintro rfl
      rcases hn with q | q | q | q
      · exact absurd q (by show ¬ 42 < 20; decide)
      · exact absurd q (by show ¬ 90 ≤ 42; decide)
      · exact q rfl
      · exact absurd q.1 (by simp)
    · rintro ⟨rfl, rfl⟩
      rcases hn with q | q | q | q
      · exact absurd q (by decide)
      · exact absurd q (by decide)
      · exact q rfl
      · exact absurd q.2 (by decide)
  · rw [up_at, if_neg]
    · refine mno n i ?_ ?_ ?_ ?_
      · rintro ⟨rfl, rfl⟩
        rcases hn with q | q | q | q <;> first | exact absurd q (by decide) | exact absurd q.2 (by decide)
      · rintro rfl
        rcases hn with q | q | q | q <;> first | exact absurd q (by decide) | exact absurd q.1 (by decide)
      · rintro rfl
        rcases hn with q | q | q | q <;> first | exact absurd q (by decide) | exact absurd q.1 (by decide)
      · rintro rfl
        rcases hn with q | q | q | q <;> first | exact absurd q (by decide) | exact absurd q.1 (by decide)
    · rintro ⟨rfl, rfl⟩
      rcases hn with q | q | q | q <;> first | exact absurd q (by decide) | exact absurd q.2 (by decide)
