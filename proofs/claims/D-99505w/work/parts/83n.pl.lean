/-! BUYS, both ways -/
set_option maxRecDepth 100000
theorem up_comm {V : gz_V} {n n' : gz_N} {j j' : Nat} {x y : Int32} (h : n ≠ n' ∨ j ≠ j') : gz_up (gz_up V n j x) n' j' y = gz_up (gz_up V n' j' y) n j x := by
  funext a i
  simp only [up_at]
  by_cases h1 : a = n' ∧ i = j'
  · rw [if_pos h1, if_neg, if_pos h1]
    rintro ⟨e1, e2⟩
    rcases h with h | h
    · exact h (e1.symm.trans h1.1)
    · exact h (e2.symm.trans h1.2)
  · rw [if_neg h1]
    by_cases h2 : a = n ∧ i = j
    · rw [if_pos h2, if_pos h2]
    · rw [if_neg h2, if_neg h2, if_neg h1]
section BUYS
variable {k P H b0 p q h N : Nat} {F : Int32} {Ds : gz_S} {Df : gz_R} {V M : gz_V}
theorem cU.own (u : cU k P H F b0 Ds Df V M) (hh : h < H) (hq : q < P) : cU k P H F b0 Ds Df (gz_up V (42, k, h) 0 (Int32.ofNat q)) (gz_up M (2, 1, 0) (101 + h) (Int32.ofNat q)) := by
  have hH := u.1.2.2.1
  have hP := u.1.2.1
  refine u.row (fr.rf.up (by simp [fx])) (fr.rf.up (by simp [fm])) (fun i' hi' => ?_) (fun i' h1 h2 => ?_) (fun j hj => ?_) ?_ (fun i => ?_) ?_
  · have := u.2.1 i' hi'
    rw [xu_owner (by omega)]
    simp only [upd_at, up_at, true_and, this]
  · have := u.2.2.1.1 i' h1 h2
    simp only [up_at, true_and]
    rw [if_neg (by omega)]
    exact this
  · have := u.2.2.1.2.1 j hj
    simp only [up_at, true_and]
    split
    · rw [i_of (by omega)]
      omega
    · exact this
  · simp only [up_at, true_and]
    rw [if_neg (by omega)]
  · rw [up_ne (by simp)]
  · rw [up_ne (by decide)]
theorem cU.pp (u : cU k P H F b0 Ds Df V M) : V (20, k, 0) 13 = Int32.ofNat P ∧ M (1, 0, 0) 6 = Int32.ofNat P ∧ V (20, k, 0) 14 = Int32.ofNat H ∧ M (1, 0, 0) 7 = Int32.ofNat H := ⟨u.1.2.2.2.1, u.1.2.2.2.2.1, u.1.2.2.2.2.2.1, u.1.2.2.2.2.2.2.1⟩
theorem m_isP {P p : Nat} (h : M (1, 0, 0) 6 = Int32.ofNat P) (hP : P ≤ 12) (hp : p < P) : m_isPerson M (Int32.ofNat p) = 1 := by
  unfold m_isPerson
  rw [if_neg (by rw [i_lt, i_of (by omega)]; show ¬ (p : Int) < 0; omega), h, if_neg (by rw [o_le (by omega) (by omega)]; omega)]
theorem m_isH {H h : Nat} (hM : M (1, 0, 0) 7 = Int32.ofNat H) (hH : H ≤ 10) (hh : h < H) : m_isHorse M (Int32.ofNat h) = 1 := by
  unfold m_isHorse
  rw [if_neg (by rw [i_lt, i_of (by omega)]; show ¬ (h : Int) < 0; omega), hM, if_neg (by rw [o_le (by omega) (by omega)]; omega)]
theorem m_isIn1 {a l m : Int32} (h1 : l.toInt ≤ a.toInt) (h2 : a.toInt ≤ m.toInt) : m_isIn a l m = 1 := by
  unfold m_isIn
  rw [if_neg (by rw [i_lt]; omega), if_neg (by rw [i_lt]; omega)]
/-- who owns a horse -/
theorem cU.ow (u : cU k P H F b0 Ds Df V M) (hh : h < H) : ∃ p, p < P ∧ M (2, 1, 0) (101 + h) = Int32.ofNat p ∧ V (42, k, h) 0 = Int32.ofNat p := by
  have hH := u.1.2.2.1
  obtain ⟨h1, h2⟩ := u.2.2.1.2.1 h hh
  obtain ⟨p, hp, e⟩ := o_ex (n := P) h1 h2
  exact ⟨p, hp, e, (u.2.1.owner (by omega)).trans e⟩
/-- as the grip lies when it can be bought -/
def byR (k p q h : Nat) (a3 a4 : Int32) (V M : gz_V) : Prop := p ≠ q ∧ V (23, k, 0) 2 = Int32.ofNat p ∧ V (23, k, 0) 3 = Int32.ofNat q ∧ V (23, k, 0) 4 = a4 ∧ V (23, k, 0) 5 = a3 ∧ V (23, k, 0) 6 = M (2, 8, 0) h ∧ V (23, k, 0) 7 = M (2, 9, 0) h ∧ M (2, 1, 0) (101 + h) = Int32.ofNat p
theorem z_canBuy (u : cU k P H F b0 Ds Df V M) (hN : 500 ≤ N) (hq : q < P) (hh : h < H) {a3 a4 : Int32} (h31 : 0 ≤ a3.toInt) (h32 : a3.toInt ≤ 9999) (h41 : 1 ≤ a4.toInt) (h42 : a4.toInt ≤ 9) :
    ∃ V' M' r, x1_canBuy N Ds Df V k (Int32.ofNat q) (Int32.ofNat h) a3 a4 = some (V', r) ∧ m_canBuy N M (Int32.ofNat q) (Int32.ofNat h) a3 a4 = some (M', r) ∧ cU k P H F b0 Ds Df V' M' ∧ fr (fx k) V V' ∧ fr fm M M' ∧ (r = 0 ∨ (r = 1 ∧ ∃ p, p < P ∧ byR k p q h a3 a4 V' M')) := by
  have hP : P ≤ 12 := u.1.2.1
  have hH : H ≤ 10 := u.1.2.2.1
  obtain ⟨p, hp, o1, o2⟩ := u.ow hh
  obtain ⟨p1, p2, p3, p4⟩ := u.pp
  have hn : (Int32.ofNat h).toNatClampNeg = h := o_nat (by omega)
  have qn : (Int32.ofNat q).toNatClampNeg = q := o_nat (by omega)
  have pn : (Int32.ofNat p).toNatClampNeg = p := o_nat (by omega)
  have hb : gz_inb (Int32.ofNat h) 10 = true := o_inb (by omega) (by omega)
  have qb : gz_inb (Int32.ofNat q) 12 = true := o_inb (by omega) (by omega)
  have pb : gz_inb (Int32.ofNat p) 12 = true := o_inb (by omega) (by omega)
  have n10 : ¬ (1 : Int32) = 0 := by decide
  have b101 : gz_inb (Int32.ofNat (101 + h)) 121 = true := o_inb (by omega) (by omega)
  have b77p : gz_inb (Int32.ofNat (77 + p)) 121 = true := o_inb (by omega) (by omega)
  have b77q : gz_inb (Int32.ofNat (77 + q)) 121 = true := o_inb (by omega) (by omega)
  have b65q : gz_inb (Int32.ofNat (65 + q)) 121 = true := o_inb (by omega) (by omega)
  unfold x1_canBuy m_canBuy m_canShake x1_isSlung
  simp only [gs_let]
  rw [m_isH p4 hH hh, if_neg n10, m_isIn1 (show (0 : Int32).toInt ≤ _ from h31) (show _ ≤ (9999 : Int32).toInt from h32), if_neg n10, m_isIn1 (show (1 : Int32).toInt ≤ _ from h41) (show _ ≤ (9 : Int32).toInt from h42), if_neg n10, o_addl, gs_gd b101, o_nat (show 101 + h < 2147483648 by omega), o1, m_isP p2 hP hp, if_neg n10, m_isP p2 hP hq, if_neg n10, gs_gd hb, hn, o2]
  by_cases hpq : p = q
  · subst hpq
    rw [if_pos rfl, if_pos rfl, gs_bd, if_pos rfl]
    exact ⟨V, M, 0, rfl, rfl, u, fr.rf, fr.rf, Or.inl rfl⟩
  have hpq' : ¬ Int32.ofNat p = Int32.ofNat q := by rw [o_eq (by omega) (by omega)]; exact hpq
  rw [if_neg hpq', if_neg hpq', gs_gd pb, pn, o_addl, gs_gd b77p, o_nat (show 77 + p < 2147483648 by omega), ← u.2.1.hand (show p < 12 by omega)]
  by_cases hp2 : V (40, k, p) 2 = 2
  · rw [if_pos hp2, if_pos hp2, gs_bd, if_neg (by decide), gs_bd, if_pos rfl]
    exact ⟨V, M, 0, rfl, rfl, u, fr.rf, fr.rf, Or.inl rfl⟩
  rw [if_neg hp2, if_neg hp2, gs_gd qb, qn, o_addl, gs_gd b77q, o_nat (show 77 + q < 2147483648 by omega), ← u.2.1.hand (show q < 12 by omega)]
  by_cases hq2 : V (40, k, q) 2 = 2
  · rw [if_pos hq2, if_pos hq2, gs_bd, if_neg (by decide), gs_bd, if_pos rfl]
    exact ⟨V, M, 0, rfl, rfl, u, fr.rf, fr.rf, Or.inl rfl⟩
  rw [if_neg hq2, if_neg hq2, gs_bd, if_pos rfl, gs_bd, if_neg n10, gs_gd qb, o_addl, gs_gd b65q, o_nat (show 65 + q < 2147483648 by omega), ← u.2.1.purse (show q < 12 by omega)]
  by_cases h3 : a3 ≤ V (40, k, q) 1
  · rw [if_pos h3, if_pos h3]
    unfold x2_begins m_isBy
    simp only [gs_let, gs_bd]
    have w42 : ∀ (W : gz_V) (j : Nat) (x : Int32), gz_up W (23, k, 0) j x (42, k, h) = W (42, k, h) := fun W j x => up_ne (by simp)
    simp only [w42]
    rw [o2]
    generalize hV1 : gz_up (gz_up (gz_up (gz_up (gz_up (gz_up V (23, k, 0) 2 (Int32.ofNat p)) (23, k, 0) 3 (Int32.ofNat q)) (23, k, 0) 4 a4) (23, k, 0) 5 a3) (23, k, 0) 6 (V (42, k, h) 1)) (23, k, 0) 7 (V (42, k, h) 2) = V1
    generalize hM1 : gz_up (gz_up (gz_up M (1, 0, 0) 42 a4) (1, 0, 0) 43 a3) (1, 0, 0) 44 (Int32.ofNat h) = M1
    have fx1 : fr (fx k) V V1 := by rw [← hV1]; exact (((((fr.rf.up (by simp [fx])).up (by simp [fx])).up (by simp [fx])).up (by simp [fx])).up (by simp [fx])).up (by simp [fx])
    have fm1 : fr fm M M1 := by rw [← hM1]; exact ((fr.rf.up (by simp [fm])).up (by simp [fm])).up (by simp [fm])
    have u1 : cU k P H F b0 Ds Df V1 M1 := u.sc fx1 fm1 (by rw [← hV1, xr_no (by simp [xsl]), xr_no (by simp [xsl]), xr_no (by simp [xsl]), xr_no (by simp [xsl]), xr_no (by simp [xsl]), xr_no (by simp [xsl])]) (by rw [← hM1, up_ne (by decide), up_ne (by decide), up_ne (by decide)]) (fun i => by rw [← hV1, up_ne (by simp), up_ne (by simp), up_ne (by simp), up_ne (by simp), up_ne (by simp), up_ne (by simp)]) (by rw [← hM1, up_ne (by decide), up_ne (by decide), up_ne (by decide)])
    have ws := u.1.2.2.2.2.2.2.2.1 h (by omega)
    have m8 : M1 (2, 8, 0) = M (2, 8, 0) := funext (fun i => fm1 _ i rfl)
    have m9 : M1 (2, 9, 0) = M (2, 9, 0) := funext (fun i => fm1 _ i rfl)
    have e2 : V1 (23, k, 0) 2 = Int32.ofNat p := by rw [← hV1]; simp [up_at]
    have e3 : V1 (23, k, 0) 3 = Int32.ofNat q := by rw [← hV1]; simp [up_at]
    have e4 : V1 (23, k, 0) 4 = a4 := by rw [← hV1]; simp [up_at]
    have e5 : V1 (23, k, 0) 5 = a3 := by rw [← hV1]; simp [up_at]
    have e6 : V1 (23, k, 0) 6 = M (2, 8, 0) h := by rw [← hV1, ← ws.1]; simp [up_at]
    have e7 : V1 (23, k, 0) 7 = M (2, 9, 0) h := by rw [← hV1, ← ws.2]; simp [up_at]
    have g1 : grR k V1 M1 := ⟨by rw [e4, ← hM1]; simp [up_at], by rw [e5, ← hM1]; simp [up_at], Or.inr ⟨h, by omega, by rw [← hM1]; simp [up_at], by rw [e6, m8], by rw [e7, m9]⟩⟩
    obtain ⟨V2, M2, r, a, b, c, d, e, f, g⟩ := z_asks u1 g1 hN (show p < 12 by omega) (show q < 12 by omega)
    rw [a, gs_b2, b, gs_b2]
    have v2 : V2 (23, k, 0) = V1 (23, k, 0) := funext (fun i => f _ i (by simp [fxa]))
    have by1 : byR k p q h a3 a4 V2 M2 := by
      unfold byR
      rw [v2, show M2 (2, 8, 0) = M (2, 8, 0) by rw [← m8]; exact funext (fun i => g _ i rfl), show M2 (2, 9, 0) = M (2, 9, 0) by rw [← m9]; exact funext (fun i => g _ i rfl), g (2, 1, 0) _ rfl, ← hM1, up_ne (by decide), up_ne (by decide), up_ne (by decide)]
      exact ⟨hpq, e2, e3, e4, e5, e6, e7, o1⟩
    by_cases hr : a3 < r
    · rw [if_pos hr, if_pos hr]
      exact ⟨V2, M2, 0, rfl, rfl, e, fx1.trans (f.wk fxa_fx), fm1.trans (g.wk fma_fm), Or.inl rfl⟩
    · rw [if_neg hr, if_neg hr]
      exact ⟨V2, M2, 1, rfl, rfl, e, fx1.trans (f.wk fxa_fx), fm1.trans (g.wk fma_fm), Or.inr ⟨rfl, p, hp, by1⟩⟩
  · rw [if_neg h3, if_neg h3]
    exact ⟨V, M, 0, rfl, rfl, u, fr.rf, fr.rf, Or.inl rfl⟩
end BUYS
