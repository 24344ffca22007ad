/-! BUYS, whole -/
set_option maxRecDepth 100000
section BUY2
variable {k P H b0 p q h N : Nat} {F : Int32} {Ds : gz_S} {Df : gz_R} {V M : gz_V}
/-- both have shaken -/
theorem z_shook (u : cU k P H F b0 Ds Df V M) (hp : p < 12) (hq : q < 12) (hpq : p ≠ q) : ∃ V' M', gz_up (gz_up V (40, k, p) 3 (V (40, k, p) 3 + 1)) (40, k, q) 3 (gz_up V (40, k, p) 3 (V (40, k, p) 3 + 1) (40, k, q) 3 + 1) = V' ∧ m_shake M (Int32.ofNat p) (Int32.ofNat q) = some M' ∧ cU k P H F b0 Ds Df V' M' ∧ fr (fx k) V V' ∧ fr fm M M' ∧ V' (23, k, 0) = V (23, k, 0) ∧ M' (1, 0, 0) = M (1, 0, 0) ∧ (∀ i, i < 89 ∨ 101 ≤ i → M' (2, 1, 0) i = M (2, 1, 0) i) ∧ ∀ n, n ≠ (2, 1, 0) → M' n = M n := by
  have c1 := u.slot (n := (40, k, p)) (j := 3) (i := 89 + p) (v := V (40, k, p) 3 + 1) (by omega) (by omega) (xu_shook hp) (by simp [fx]) (show (40 : Nat) ≠ 26 by decide)
  have c2 := c1.slot (n := (40, k, q)) (j := 3) (i := 89 + q) (v := gz_up V (40, k, p) 3 (V (40, k, p) 3 + 1) (40, k, q) 3 + 1) (by omega) (by omega) (xu_shook hq) (by simp [fx]) (show (40 : Nat) ≠ 26 by decide)
  refine ⟨_, _, rfl, ?_, c2, (fr.rf.up (by simp [fx])).up (by simp [fx]), (fr.rf.up (by simp [fm])).up (by simp [fm]), by rw [up_ne (by simp), up_ne (by simp)], by rw [up_ne (by decide), up_ne (by decide)], fun i hi => by rw [up_at, if_neg (by omega), up_at, if_neg (by omega)], fun n hn => by rw [up_ne hn, up_ne hn]⟩
  unfold m_shake
  simp only [gs_let]
  rw [o_addl, o_addl, gs_gd (o_inb (show 89 + p < 121 by omega) (by omega)), gs_gd (o_inb (show 89 + p < 121 by omega) (by omega)), gs_gd (o_inb (show 89 + q < 121 by omega) (by omega)), gs_gd (o_inb (show 89 + q < 121 by omega) (by omega)), o_nat (show 89 + p < 2147483648 by omega), o_nat (show 89 + q < 2147483648 by omega), u.2.1.shook hp, up_ne (show ((40, k, q) : gz_N) ≠ (40, k, p) by simp; omega), u.2.1.shook hq, up_at, if_neg (by omega)]
theorem z_buys (u : cU k P H F b0 Ds Df V M) (hN : 500 ≤ N) (hp : p < P) (hq : q < P) (hh : h < H) {a3 a4 : Int32} (hb : byR k p q h a3 a4 V M) :
    ∃ V' M' r, x1_buys N Ds Df V k (Int32.ofNat h) = some (V', r) ∧ m_bargains N M (Int32.ofNat q) (Int32.ofNat h) a3 a4 = some (M', r) ∧ cU k P H F b0 Ds Df V' M' ∧ fr (fx k) V V' ∧ fr fm M M' := by
  obtain ⟨hpq, e2, e3, e4, e5, e6, e7, e8⟩ := hb
  have hP : P ≤ 12 := u.1.2.1
  have hH : H ≤ 10 := u.1.2.2.1
  have p12 : p < 12 := by omega
  have q12 : q < 12 := by omega
  have h10 : h < 10 := by omega
  have pb : gz_inb (Int32.ofNat p) 12 = true := o_inb p12 (by omega)
  have qb : gz_inb (Int32.ofNat q) 12 = true := o_inb q12 (by omega)
  have hb : gz_inb (Int32.ofNat h) 10 = true := o_inb h10 (by omega)
  have pn : (Int32.ofNat p).toNatClampNeg = p := o_nat (by omega)
  have qn : (Int32.ofNat q).toNatClampNeg = q := o_nat (by omega)
  have hn : (Int32.ofNat h).toNatClampNeg = h := o_nat (by omega)
  have b101 : gz_inb (Int32.ofNat (101 + h)) 121 = true := o_inb (by omega) (by omega)
  have b111 : gz_inb (Int32.ofNat (111 + h)) 121 = true := o_inb (by omega) (by omega)
  have b65p : gz_inb (Int32.ofNat (65 + p)) 121 = true := o_inb (by omega) (by omega)
  have b65q : gz_inb (Int32.ofNat (65 + q)) 121 = true := o_inb (by omega) (by omega)
  have n101 : (Int32.ofNat (101 + h)).toNatClampNeg = 101 + h := o_nat (by omega)
  have n111 : (Int32.ofNat (111 + h)).toNatClampNeg = 111 + h := o_nat (by omega)
  have n65p : (Int32.ofNat (65 + p)).toNatClampNeg = 65 + p := o_nat (by omega)
  have n65q : (Int32.ofNat (65 + q)).toNatClampNeg = 65 + q := o_nat (by omega)
  -- the twin's by
  generalize hM5 : gz_up (gz_up (gz_up M (1, 0, 0) 42 a4) (1, 0, 0) 43 a3) (1, 0, 0) 44 (Int32.ofNat h) = M5
  have fm5 : fr fm M M5 := by rw [← hM5]; exact ((fr.rf.up (by simp [fm])).up (by simp [fm])).up (by simp [fm])
  have u5 : cU k P H F b0 Ds Df V M5 := u.sc fr.rf fm5 rfl (by rw [← hM5, up_ne (by decide), up_ne (by decide), up_ne (by decide)]) (fun i => rfl) (by rw [← hM5, up_ne (by decide), up_ne (by decide), up_ne (by decide)])
  have g5 : grR k V M5 := ⟨by rw [e4, ← hM5]; simp [up_at], by rw [e5, ← hM5]; simp [up_at], Or.inr ⟨h, h10, by rw [← hM5]; simp [up_at], by rw [e6, fm5 (2, 8, 0) h rfl], by rw [e7, fm5 (2, 9, 0) h rfl]⟩⟩
  obtain ⟨V9, M7, a1, a2, a3', a4', a5', a6, a7, a8, a9⟩ := z_shook u5 p12 q12 hpq
  -- purses
  have pp := a3'.2.1.purse p12
  have pq := a3'.2.1.purse q12
  generalize hx9 : m_lesser a3 (9999 - M7 (2, 1, 0) (65 + p)) = got
  have c1 := a3'.slot (n := (40, k, p)) (j := 1) (i := 65 + p) (v := V9 (40, k, p) 1 + got) (by omega) (by omega) (xu_purse p12) (by simp [fx]) (show (40 : Nat) ≠ 26 by decide)
  have c2 := c1.slot (n := (40, k, q)) (j := 1) (i := 65 + q) (v := V9 (40, k, q) 1 - a3) (by omega) (by omega) (xu_purse q12) (by simp [fx]) (show (40 : Nat) ≠ 26 by decide)
  have c3 := c2.own (h := h) (q := q) hh hq
  have c4 := c3.slot (n := (42, k, h)) (j := 3) (i := 111 + h) (v := V9 (42, k, h) 3 + 1) (by omega) (by omega) xu_sold (by simp [fx]) (show (42 : Nat) ≠ 26 by decide)
  rw [pp, pq, a3'.2.1.sold h10, up_comm (n := (2, 1, 0)) (j := 65 + p) (Or.inr (show 65 + p ≠ 65 + q by omega))] at c4
  generalize hV21 : gz_up (gz_up (gz_up (gz_up V9 (40, k, p) 1 (M7 (2, 1, 0) (65 + p) + got)) (40, k, q) 1 (M7 (2, 1, 0) (65 + q) - a3)) (42, k, h) 0 (Int32.ofNat q)) (42, k, h) 3 (M7 (2, 1, 0) (111 + h) + 1) = V21 at c4
  generalize hM24 : gz_up (gz_up (gz_up (gz_up M7 (2, 1, 0) (65 + q) (M7 (2, 1, 0) (65 + q) - a3)) (2, 1, 0) (65 + p) (M7 (2, 1, 0) (65 + p) + got)) (2, 1, 0) (101 + h) (Int32.ofNat q)) (2, 1, 0) (111 + h) (M7 (2, 1, 0) (111 + h) + 1) = M24 at c4
  have v21 : V21 (23, k, 0) = V (23, k, 0) := by rw [← hV21, up_ne (by simp), up_ne (by simp), up_ne (by simp), up_ne (by simp), a6]
  have m24 : M24 (1, 0, 0) = M5 (1, 0, 0) := by rw [← hM24, up_ne (by decide), up_ne (by decide), up_ne (by decide), up_ne (by decide), a7]
  have fx21 : fr (fx k) V V21 := by rw [← hV21]; exact (((a4'.up (by simp [fx])).up (by simp [fx])).up (by simp [fx])).up (by simp [fx])
  have fm24 : fr fm M M24 := by rw [← hM24]; exact ((((fm5.trans a5').up (by simp [fm])).up (by simp [fm])).up (by simp [fm])).up (by simp [fm])
  obtain ⟨V23, M27, b1, b2, b3, b4, b5⟩ := z_notes c4 0 (Int32.ofNat q) a3
  have v23 : V23 (23, k, 0) = V (23, k, 0) := by rw [← v21]; exact funext (fun i => b4 _ i (by simp [fxn]))
  have g23 : grR k V23 M27 := g5.mv v23 (fun i _ => by rw [b5 _ _ rfl, m24]) (by rw [show M27 (2, 8, 0) = M24 (2, 8, 0) from funext (fun i => b5 _ i rfl)]; exact funext (fun i => (fm24 _ i rfl).trans (fm5 _ i rfl).symm)) (by rw [show M27 (2, 9, 0) = M24 (2, 9, 0) from funext (fun i => b5 _ i rfl)]; exact funext (fun i => (fm24 _ i rfl).trans (fm5 _ i rfl).symm))
  obtain ⟨V', M30, r, d1, d2, d3, d4, d5⟩ := z_shakes b3 g23 hN p12 q12 hpq (by rw [v23]; exact e2) (by rw [v23]; exact e3) got
  have hx : x1_buys N Ds Df V k (Int32.ofNat h) = some (V', r) := by
    unfold x1_buys
    have w1 : ∀ (W : gz_V) (z j : Nat) (x : Int32), gz_up W (40, k, z) j x (23, k, 0) = W (23, k, 0) := fun W z j x => up_ne (by simp)
    have w2 : ∀ (W : gz_V) (z j : Nat) (x : Int32), gz_up W (42, k, z) j x (23, k, 0) = W (23, k, 0) := fun W z j x => up_ne (by simp)
    have w3 : ∀ (W : gz_V) (j : Nat) (x : Int32), gz_up W (40, k, p) j x (40, k, q) = W (40, k, q) := fun W j x => up_ne (by simp; omega)
    have w4 : ∀ (W : gz_V) (z j : Nat) (x : Int32), gz_up W (40, k, z) j x (42, k, h) = W (42, k, h) := fun W z j x => up_ne (by simp)
    have w5 : ∀ (W : gz_V) (x : Int32), gz_up W (42, k, h) 0 x (42, k, h) 3 = W (42, k, h) 3 := fun W x => by simp [up_at]
    rw [e2, e3, gs_gd pb, pn, gs_let, gs_gd qb, qn]
    simp only [gs_let, a1]
    rw [gs_gd hb, gs_gd hb, hn]
    simp only [w1, w2, w3, w4, w5, a6, e2, e3, e5, b_min, pp, pq, hx9, a3'.2.1.sold h10]
    rw [hV21, b1, gs_bd, d1, gs_b2]
  have hm : m_bargains N M (Int32.ofNat q) (Int32.ofNat h) a3 a4 = if M30 (1, 0, 0) 47 = 0 then some (M30, r) else some (pc M30 p q got, 0) := by
    unfold m_bargains m_isBy
    have w3 : ∀ (W : gz_V) (x : Int32), gz_up W (2, 1, 0) (65 + q) x (2, 1, 0) (65 + p) = W (2, 1, 0) (65 + p) := fun W x => by rw [up_at, if_neg (by omega)]
    have w4 : ∀ (W : gz_V) (x : Int32), gz_up W (2, 1, 0) (65 + q) x (2, 1, 0) (111 + h) = W (2, 1, 0) (111 + h) := fun W x => by rw [up_at, if_neg (by omega)]
    have w5 : ∀ (W : gz_V) (x : Int32), gz_up W (2, 1, 0) (65 + p) x (2, 1, 0) (111 + h) = W (2, 1, 0) (111 + h) := fun W x => by rw [up_at, if_neg (by omega)]
    have w6 : ∀ (W : gz_V) (x : Int32), gz_up W (2, 1, 0) (101 + h) x (2, 1, 0) (111 + h) = W (2, 1, 0) (111 + h) := fun W x => by rw [up_at, if_neg (by omega)]
    simp only [o_addl, n101, gs_gd b101, gs_let, e8, gs_bd, hM5, a2, n65p, n65q, n111, gs_gd b65p, gs_gd b65q, gs_gd b111, hx9, w3, w4, w5, w6, hM24, b2, d2, gs_b2]
    split
    · rfl
    · congr 2
      funext n i
      unfold pc
      simp only [up_at]
  rcases d5 with ⟨z1, z2⟩ | ⟨z1, z2, z3⟩
  · rw [if_pos z1] at hm
    exact ⟨V', M30, r, hx, hm, z2, (fx21.trans (b4.wk fxn_fx)).trans d3, (fm24.trans (b5.wk fmn_fm)).trans d4⟩
  · rw [if_neg (by rw [z1]; decide)] at hm
    subst z2
    refine ⟨V', pc M30 p q got, 0, hx, hm, z3, (fx21.trans (b4.wk fxn_fx)).trans d3, ((fm24.trans (b5.wk fmn_fm)).trans d4).trans (fun n i hn => ?_)⟩
    rw [pc_ne (Or.inl (fun e => by rw [e] at hn; cases hn))]
end BUY2
