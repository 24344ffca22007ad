/-! A DAY, whole -/
set_option maxRecDepth 100000
section DAY2
variable {k P H b0 N : Nat} {F : Int32} {Ds : gz_S} {Df : gz_R}
def hbR (Ds : gz_S) (Df : gz_R) (P : Nat) (n : gz_N) (L : Nat) (el : Nat → gz_N) (V M : gz_V) : Prop := lst Ds Df V n L el ∧ M (1, 0, 0) 36 = Int32.ofNat L ∧ ∀ i, i < L → deR Ds V (el i) P (fun j => M (2, 37, 0) (5 * i + j))
def obR (Ds : gz_S) (Df : gz_R) (P H : Nat) (n : gz_N) (L : Nat) (el : Nat → gz_N) (V M : gz_V) : Prop := lst Ds Df V n L el ∧ M (1, 0, 0) 34 = Int32.ofNat L ∧ ∀ i, i < L → ofR Ds V (el i) P H (fun j => M (2, 35, 0) (5 * i + j))
theorem hbR.mv {n : gz_N} {L : Nat} {el : Nat → gz_N} {V M V2 M2 : gz_V} (h : hbR Ds Df P n L el V M) (hx : fr (fx k) V V2) (hm : fr fm M M2) : hbR Ds Df P n L el V2 M2 := by
  have hv : ∀ n : gz_N, 90 ≤ n.1 → V2 n = V n := fun n hn => funext (fun i => hx n i (fx_dyn hn))
  refine ⟨h.1.eqV hv, by rw [hm _ _ rfl]; exact h.2.1, fun i hi => ?_⟩
  have q := h.2.2 i hi
  rw [show M2 (2, 37, 0) = M (2, 37, 0) from funext (fun i => hm _ i rfl)]
  unfold deR at q ⊢
  rw [hv _ q.1]
  exact q
theorem obR.mv {n : gz_N} {L : Nat} {el : Nat → gz_N} {V M V2 M2 : gz_V} (h : obR Ds Df P H n L el V M) (hx : fr (fx k) V V2) (hm : fr fm M M2) : obR Ds Df P H n L el V2 M2 := by
  have hv : ∀ n : gz_N, 90 ≤ n.1 → V2 n = V n := fun n hn => funext (fun i => hx n i (fx_dyn hn))
  refine ⟨h.1.eqV hv, by rw [hm _ _ rfl]; exact h.2.1, fun i hi => ?_⟩
  have q := h.2.2 i hi
  rw [show M2 (2, 35, 0) = M (2, 35, 0) from funext (fun i => hm _ i rfl)]
  exact ⟨q.1, q.2.1, by rw [hv _ q.1]; exact q.2.2.1, q.2.2.2⟩
theorem z_habits {n3 : gz_N} {L : Nat} {el : Nat → gz_N} (hn3 : Df (20, k, 0) 11 = some n3) : ∀ (d i : Nat) {V M : gz_V} {n m : Nat}, i + d = L → d < n → d < m → cU k P H F b0 Ds Df V M → hbR Ds Df P n3 L el V M →
    ∃ V' M', x1_day_L2 N Ds Df k n V (Int32.ofNat i) = some V' ∧ m_goesBy_L2 N m M (Int32.ofNat (5 * i)) = some M' ∧ cU k P H F b0 Ds Df V' M' ∧ fr (fx k) V V' ∧ fr fm M M' := by
  intro d
  induction d with
  | zero =>
    intro i V M n m hi hn hm u hb
    obtain ⟨n, rfl⟩ : ∃ z, n = z + 1 := ⟨n - 1, by omega⟩
    obtain ⟨m, rfl⟩ : ∃ z, m = z + 1 := ⟨m - 1, by omega⟩
    have h16 := hb.1.2.2.2.1
    refine ⟨V, M, ?_, ?_, u, fr.rf, fr.rf⟩
    · rw [x1_day_L2, hn3, gs_bd, gs_gd ⟨hb.1.1, hb.1.2.1⟩, if_pos]
      show V n3 2 ≤ _
      rw [hb.1.2.2.1, o_le (by omega) (by omega)]
      omega
    · rw [m_goesBy_L2, if_pos]
      rw [hb.2.1, o_mull, o_le (by omega) (by omega)]
      omega
  | succ d ih =>
    intro i V M n m hi hn hm u hb
    obtain ⟨n, rfl⟩ : ∃ z, n = z + 1 := ⟨n - 1, by omega⟩
    obtain ⟨m, rfl⟩ : ∃ z, m = z + 1 := ⟨m - 1, by omega⟩
    have h16 := hb.1.2.2.2.1
    have hde := hb.2.2 i (by omega)
    have e1 : Int32.ofNat i + 1 = Int32.ofNat (i + 1) := o_addr 1 i
    have e5 : Int32.ofNat (5 * i) + 5 = Int32.ofNat (5 * (i + 1)) := by rw [o_addr]; congr 1
    have hxs : ¬ V n3 2 ≤ Int32.ofNat i := by rw [hb.1.2.2.1, o_le (by omega) (by omega)]; omega
    have hms : ¬ (5 * M (1, 0, 0) 36) ≤ Int32.ofNat (5 * i) := by rw [hb.2.1, o_mull, o_le (by omega) (by omega)]; omega
    have g : 90 ≤ n3.1 ∧ Ds n3 = some (18, 3) := ⟨hb.1.1, hb.1.2.1⟩
    have bi : gz_inb (Int32.ofNat (5 * i)) 160 = true := o_inb (by omega) (by omega)
    have ni : (Int32.ofNat (5 * i)).toNatClampNeg = 5 * i := o_nat (by omega)
    obtain ⟨p, V1, M1, hp, a1, a2, a3, a4, a5, a6, a7⟩ := z_does u (show i < 16 by omega) hde
    have hday : V (el i) 0 = M (2, 37, 0) (5 * i) := hde.2.1
    rw [x1_day_L2, m_goesBy_L2, if_neg hms, gs_gd bi, ni, hn3]
    simp only [gs_bd, gs_gd g, hb.1.get (show i < L by omega), gs_gd a2, gs_let, e5, e1]
    rw [if_neg (show ¬ j2_size V n3 ≤ _ from hxs), a1, gs_gd (o_inb hp (by omega)), o_nat (show p < 2147483648 by omega), a3, gs_bd, a4, gs_bd]
    unfold xd_isOf x16_isOf_Wa
    rw [hday, u.2.1.day, show (0 : Int32).toNatClampNeg = 0 from rfl]
    by_cases hd : M (2, 37, 0) (5 * i) = M (2, 1, 0) 0
    · rw [if_pos hd, if_neg (show ¬ (1 : Int32) = 0 by decide), if_pos hd, gs_bd, gs_bd]
      obtain ⟨V2, M2, b1, b2, b3, b4, b5⟩ := ih (i + 1) (by omega) (show d < n by omega) (show d < m by omega) a5 (hb.mv a6 a7)
      exact ⟨V2, M2, b1, b2, b3, a6.trans b4, a7.trans b5⟩
    · rw [if_neg hd, if_pos (show (0 : Int32) = 0 from rfl), if_neg hd, gs_bd, gs_bd]
      exact ih (i + 1) (by omega) (show d < n by omega) (show d < m by omega) u hb
theorem z_offers (hN : 500 ≤ N) {n3 : gz_N} {L : Nat} {el : Nat → gz_N} (hn3 : Df (20, k, 0) 10 = some n3) : ∀ (d i : Nat) {V M : gz_V} {n m : Nat} {c : Int32}, i + d = L → d < n → d < m → cU k P H F b0 Ds Df V M → obR Ds Df P H n3 L el V M →
    ∃ V' M' r, x1_day_L77 N Ds Df k n V c (Int32.ofNat i) = some (V', r) ∧ m_goesBy_L43 N m M c (Int32.ofNat (5 * i)) = some (M', r) ∧ cU k P H F b0 Ds Df V' M' ∧ fr (fx k) V V' ∧ fr fm M M' := by
  intro d
  induction d with
  | zero =>
    intro i V M n m c hi hn hm u hb
    obtain ⟨n, rfl⟩ : ∃ z, n = z + 1 := ⟨n - 1, by omega⟩
    obtain ⟨m, rfl⟩ : ∃ z, m = z + 1 := ⟨m - 1, by omega⟩
    have h16 := hb.1.2.2.2.1
    refine ⟨V, M, c, ?_, ?_, u, fr.rf, fr.rf⟩
    · rw [x1_day_L77, hn3, gs_bd, gs_gd ⟨hb.1.1, hb.1.2.1⟩, if_pos]
      show V n3 2 ≤ _
      rw [hb.1.2.2.1, o_le (by omega) (by omega)]
      omega
    · rw [m_goesBy_L43, if_pos]
      rw [hb.2.1, o_mull, o_le (by omega) (by omega)]
      omega
  | succ d ih =>
    intro i V M n m c hi hn hm u hb
    obtain ⟨n, rfl⟩ : ∃ z, n = z + 1 := ⟨n - 1, by omega⟩
    obtain ⟨m, rfl⟩ : ∃ z, m = z + 1 := ⟨m - 1, by omega⟩
    have h16 := hb.1.2.2.2.1
    have hP : P ≤ 12 := u.1.2.1
    have hH : H ≤ 10 := u.1.2.2.1
    obtain ⟨o1, o2, o3, o4, o5, o6, o7, o8, o9, o10, o11⟩ := hb.2.2 i (by omega)
    dsimp only at o3 o4 o5 o6 o7 o8 o9 o10 o11
    have e1 : Int32.ofNat i + 1 = Int32.ofNat (i + 1) := o_addr 1 i
    have e5 : Int32.ofNat (5 * i) + 5 = Int32.ofNat (5 * (i + 1)) := by rw [o_addr]; congr 1
    have hxs : ¬ V n3 2 ≤ Int32.ofNat i := by rw [hb.1.2.2.1, o_le (by omega) (by omega)]; omega
    have hms : ¬ (5 * M (1, 0, 0) 34) ≤ Int32.ofNat (5 * i) := by rw [hb.2.1, o_mull, o_le (by omega) (by omega)]; omega
    have g : 90 ≤ n3.1 ∧ Ds n3 = some (18, 3) := ⟨hb.1.1, hb.1.2.1⟩
    have g2 : 90 ≤ (el i).1 ∧ Ds (el i) = some (14, 5) := ⟨o1, o2⟩
    have bi : gz_inb (Int32.ofNat (5 * i)) 160 = true := o_inb (by omega) (by omega)
    have ni : (Int32.ofNat (5 * i)).toNatClampNeg = 5 * i := o_nat (by omega)
    have b1 : gz_inb (Int32.ofNat (5 * i + 1)) 160 = true := o_inb (by omega) (by omega)
    have b2 : gz_inb (Int32.ofNat (5 * i + 2)) 160 = true := o_inb (by omega) (by omega)
    have b3 : gz_inb (Int32.ofNat (5 * i + 3)) 160 = true := o_inb (by omega) (by omega)
    have b4 : gz_inb (Int32.ofNat (5 * i + 4)) 160 = true := o_inb (by omega) (by omega)
    have n1 : (Int32.ofNat (5 * i + 1)).toNatClampNeg = 5 * i + 1 := o_nat (by omega)
    have n2 : (Int32.ofNat (5 * i + 2)).toNatClampNeg = 5 * i + 2 := o_nat (by omega)
    have n3' : (Int32.ofNat (5 * i + 3)).toNatClampNeg = 5 * i + 3 := o_nat (by omega)
    have n4 : (Int32.ofNat (5 * i + 4)).toNatClampNeg = 5 * i + 4 := o_nat (by omega)
    obtain ⟨q, hq, eq⟩ := o_ex (n := P) o4 o5
    obtain ⟨h, hh, eh⟩ := o_ex (n := H) o6 o7
    have w0 : V (el i) 0 = M (2, 35, 0) (5 * i) := o3 0 (by decide)
    have w1 : V (el i) 1 = Int32.ofNat q := (o3 1 (by decide)).trans eq
    have w2 : V (el i) 2 = Int32.ofNat h := (o3 2 (by decide)).trans eh
    have w3 : V (el i) 3 = M (2, 35, 0) (5 * i + 3) := o3 3 (by decide)
    have w4 : V (el i) 4 = M (2, 35, 0) (5 * i + 4) := o3 4 (by decide)
    rw [x1_day_L77, m_goesBy_L43, if_neg hms, gs_gd bi, ni, hn3]
    simp only [gs_bd, gs_gd g, hb.1.get (show i < L by omega), gs_gd g2, gs_let, e5, e1, o_addr, gs_gd b1, gs_gd b2, gs_gd b3, gs_gd b4, n1, n2, n3', n4, w0, w1, w2, w3, w4, eq, eh]
    rw [if_neg (show ¬ j2_size V n3 ≤ _ from hxs), u.2.1.day, show (0 : Int32).toNatClampNeg = 0 from rfl]
    by_cases hd : M (2, 35, 0) (5 * i) = M (2, 1, 0) 0
    · rw [if_pos hd, if_pos hd]
      obtain ⟨V1, M1, r, a1, a2, a3, a4, a5, a6⟩ := z_canBuy u hN hq hh o8 o9 o10 o11
      rw [a1, gs_b2, a2, gs_b2]
      rcases a6 with rfl | ⟨rfl, p, hp, hby⟩
      · rw [if_pos rfl, if_pos rfl, gs_b2, gs_b2]
        obtain ⟨V2, M2, r2, c1, c2, c3, c4, c5⟩ := ih (i + 1) (c := c) (by omega) (show d < n by omega) (show d < m by omega) a3 (hb.mv a4 a5)
        exact ⟨V2, M2, r2, c1, c2, c3, a4.trans c4, a5.trans c5⟩
      · rw [if_neg (show ¬ (1 : Int32) = 0 by decide), if_neg (show ¬ (1 : Int32) = 0 by decide)]
        have v1 : V1 (el i) 2 = Int32.ofNat h := by rw [a4 _ _ (fx_dyn o1)]; exact w2
        have m35 : M1 (2, 35, 0) = M (2, 35, 0) := funext (fun i => a5 _ i rfl)
        obtain ⟨V2, M2, r2, c1, c2, c3, c4, c5⟩ := z_buys a3 hN hp hq hh hby
        rw [v1, c1, gs_b2, m35, eq, eh, c2, gs_b2, gs_b2, gs_b2]
        obtain ⟨V3, M3, r3, d1, d2, d3, d4, d5⟩ := ih (i + 1) (c := c + 1) (by omega) (show d < n by omega) (show d < m by omega) c3 ((hb.mv a4 a5).mv c4 c5)
        exact ⟨V3, M3, r3, d1, d2, d3, (a4.trans c4).trans d4, (a5.trans c5).trans d5⟩
    · rw [if_neg hd, if_neg hd, gs_b2, gs_b2]
      exact ih (i + 1) (by omega) (show d < n by omega) (show d < m by omega) u hb
/-- a day goes by -/
theorem z_day (hN : 500 ≤ N) {V M : gz_V} (u : cU k P H F b0 Ds Df V M) : ∃ V' M' r, x1_day N Ds Df V k = some (V', r) ∧ m_goesBy N M = some (M', r) ∧ cU k P H F b0 Ds Df V' M' ∧ fr (fx k) V V' ∧ fr fm M M' := by
  obtain ⟨n2, L2, el2, a1, a2⟩ := u.1.2.2.2.2.2.2.2.2.2.1
  obtain ⟨n3, L3, el3, b1, b2⟩ := u.1.2.2.2.2.2.2.2.2.2.2.1
  have h16 := b2.1.2.2.2.1
  have h162 := a2.1.2.2.2.1
  obtain ⟨V1, M1, c1, c2, c3, c4, c5⟩ := z_habits (N := N) b1 L3 0 (n := N) (m := N) (by omega) (by omega) (by omega) u b2
  have ob : obR Ds Df P H n2 L2 el2 V1 M1 := obR.mv (k := k) a2 c4 c5
  obtain ⟨V2, M2, r, d1, d2, d3, d4, d5⟩ := z_offers hN a1 L2 0 (n := N) (m := N) (c := 0) (by omega) (by omega) (by omega) c3 ob
  have e := d3.slot (n := (20, k, 0)) (j := 17) (i := 0) (v := V2 (20, k, 0) 17 + 1) (by decide) (by decide) xu_day (by simp [fx]) (show (20 : Nat) ≠ 26 by decide)
  refine ⟨_, _, r, ?_, ?_, e, (c4.trans d4).up (by simp [fx]), (c5.trans d5).up (by simp [fm])⟩
  · unfold x1_day
    rw [show x1_day_L2 N Ds Df k N V 0 = some V1 from c1, gs_bd, show x1_day_L77 N Ds Df k N V1 0 0 = some (V2, r) from d1]
    rfl
  · unfold m_goesBy
    rw [show m_goesBy_L2 N N M 0 = some M1 from c2, gs_bd, show m_goesBy_L43 N N M1 0 0 = some (M2, r) from d2, gs_b2, gs_let, show (0 : Int32).toNatClampNeg = 0 from rfl, d3.2.1.day]
end DAY2
