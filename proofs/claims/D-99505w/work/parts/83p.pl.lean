/-! A DAY, both ways -/
set_option maxRecDepth 100000
section DAY
variable {k P H b0 p q h N : Nat} {F : Int32} {Ds : gz_S} {Df : gz_R} {V M : gz_V}
theorem z_them (u : cU k P H F b0 Ds Df V M) (hg : grR k V M) (hN : 500 ≤ N) (hp : p < 12) (hq : q < 12) (hpq : p ≠ q) (e2 : V (23, k, 0) 2 = Int32.ofNat p) (e3 : V (23, k, 0) 3 = Int32.ofNat q) :
    ∃ V' M' r, x1_claspsThem N Ds Df V k = some (V', r) ∧ gz_bd (m_shake M (Int32.ofNat p) (Int32.ofNat q)) (fun M1 => gz_bd (m_notes M1 1 (Int32.ofNat p) (Int32.ofNat q)) (fun M2 => m_clasps N M2 (Int32.ofNat p) (Int32.ofNat q))) = some (M', r) ∧ cU k P H F b0 Ds Df V' M' ∧ fr (fx k) V V' ∧ fr fm M M' := by
  obtain ⟨V9, M7, a1, a2, a3, a4, a5, a6, a7, a8, a9⟩ := z_shook u hp hq hpq
  obtain ⟨V23, M27, b1, b2, b3, b4, b5⟩ := z_notes a3 1 (Int32.ofNat p) (Int32.ofNat q)
  have v23 : V23 (23, k, 0) = V (23, k, 0) := by rw [← a6]; exact funext (fun i => b4 _ i (by simp [fxn]))
  have g23 : grR k V23 M27 := hg.mv v23 (fun i _ => by rw [b5 _ _ rfl, a7]) (by rw [← a9 (2, 8, 0) (by decide)]; exact funext (fun i => b5 _ i rfl)) (by rw [← a9 (2, 9, 0) (by decide)]; exact funext (fun i => b5 _ i rfl))
  obtain ⟨V', M30, r, d1, d2, d3, d4, d5⟩ := z_shakes b3 g23 hN hp hq hpq (by rw [v23]; exact e2) (by rw [v23]; exact e3) 0
  have hc : cU k P H F b0 Ds Df V' M30 := by
    rcases d5 with ⟨z1, z2⟩ | ⟨z1, z2, z3⟩
    · exact z2
    · have e : pc M30 p q 0 = M30 := by
        funext n i
        unfold pc
        split
        · rename_i z
          rw [z.1, z.2, Int32.sub_zero]
        · split
          · rename_i z
            rw [z.1, z.2, Int32.add_zero]
          · rfl
      rw [e] at z3
      exact z3
  refine ⟨V', M30, r, ?_, ?_, hc, (a4.trans (b4.wk fxn_fx)).trans d3, (a5.trans (b5.wk fmn_fm)).trans d4⟩
  · unfold x1_claspsThem
    have pn : (Int32.ofNat p).toNatClampNeg = p := o_nat (by omega)
    have qn : (Int32.ofNat q).toNatClampNeg = q := o_nat (by omega)
    have w1 : ∀ (W : gz_V) (z j : Nat) (x : Int32), gz_up W (40, k, z) j x (23, k, 0) = W (23, k, 0) := fun W z j x => up_ne (by simp)
    rw [e2, gs_gd (o_inb hp (by omega)), gs_let, pn, w1, e3, gs_gd (o_inb hq (by omega)), gs_let, qn, a1, a6, e2, e3, b1, gs_bd, d1, gs_b2]
  · rw [a2, gs_bd, b2, gs_bd]
    exact d2
/-- a habit -/
theorem z_does (u : cU k P H F b0 Ds Df V M) {n : gz_N} {i : Nat} (hi : i < 16) (hd : deR Ds V n P (fun j => M (2, 37, 0) (5 * i + j))) : ∃ p V' M', p < 12 ∧ V n 1 = Int32.ofNat p ∧ xd_isHb Ds n ∧ xd_does Ds V n k p = some V' ∧ m_does M (Int32.ofNat (5 * i)) = some M' ∧ cU k P H F b0 Ds Df V' M' ∧ fr (fx k) V V' ∧ fr fm M M' := by
  obtain ⟨h1, h2, h3, h4, h5, h6⟩ := hd
  dsimp only at h2 h3 h4 h5 h6
  have hP : P ≤ 12 := u.1.2.1
  obtain ⟨p, hp, ep⟩ := o_ex (n := P) h4 h5
  have b1 : gz_inb (Int32.ofNat (5 * i + 1)) 160 = true := o_inb (by omega) (by omega)
  have b2 : gz_inb (Int32.ofNat (5 * i + 2)) 160 = true := o_inb (by omega) (by omega)
  have b3 : gz_inb (Int32.ofNat (5 * i + 3)) 160 = true := o_inb (by omega) (by omega)
  have b4 : gz_inb (Int32.ofNat (5 * i + 4)) 160 = true := o_inb (by omega) (by omega)
  have n1 : (Int32.ofNat (5 * i + 1)).toNatClampNeg = 5 * i + 1 := o_nat (by omega)
  have n2 : (Int32.ofNat (5 * i + 2)).toNatClampNeg = 5 * i + 2 := o_nat (by omega)
  have n3 : (Int32.ofNat (5 * i + 3)).toNatClampNeg = 5 * i + 3 := o_nat (by omega)
  have n4 : (Int32.ofNat (5 * i + 4)).toNatClampNeg = 5 * i + 4 := o_nat (by omega)
  have b77 : gz_inb (Int32.ofNat (77 + p)) 121 = true := o_inb (by omega) (by omega)
  have b65 : gz_inb (Int32.ofNat (65 + p)) 121 = true := o_inb (by omega) (by omega)
  have n77 : (Int32.ofNat (77 + p)).toNatClampNeg = 77 + p := o_nat (by omega)
  have n65 : (Int32.ofNat (65 + p)).toNatClampNeg = 65 + p := o_nat (by omega)
  have hn90 : ¬ n.1 < 90 := by omega
  unfold m_does xd_does
  simp only [o_addr, gs_gd b1, gs_gd b2, n1, n2, gs_let, ep, o_addl, n77, n65, gs_gd b77, gs_gd b65, n3, n4, gs_gd b3, gs_gd b4, gs_bd]
  refine ⟨p, ?_⟩
  rw [if_neg hn90]
  have hand : ∀ v, ∃ V' M', gz_up V (40, k, p) 2 v = V' ∧ gz_up M (2, 1, 0) (77 + p) v = M' ∧ cU k P H F b0 Ds Df V' M' ∧ fr (fx k) V V' ∧ fr fm M M' := fun v => ⟨_, _, rfl, rfl, u.slot (n := (40, k, p)) (j := 2) (i := 77 + p) (by omega) (by omega) (xu_hand (by omega)) (by simp [fx]) (show (40 : Nat) ≠ 26 by decide), fr.rf.up (by simp [fx]), fr.rf.up (by simp [fm])⟩
  rcases h6 with ⟨q1, q2⟩ | ⟨q1, q2, q3⟩ | ⟨q1, q2, q3, q4, q5, q6, q7, q8⟩
  · rw [if_neg (by rw [q1]; decide), if_neg (by rw [q1]; decide), if_pos q1]
    unfold x19_does
    rcases q2 with ⟨w1, w2⟩ | ⟨w1, w2⟩ | ⟨w1, w2⟩
    · obtain ⟨V', M', y1, y2, y3, y4, y5⟩ := hand 1
      refine ⟨V', M', by omega, h3.trans ep, ⟨h1, Or.inr (Or.inr q1)⟩, by rw [gs_let, w2, y1], ?_, y3, y4, y5⟩
      rw [w1]
      simp [gs_bd, y2]
    · obtain ⟨V', M', y1, y2, y3, y4, y5⟩ := hand 0
      refine ⟨V', M', by omega, h3.trans ep, ⟨h1, Or.inr (Or.inr q1)⟩, by rw [gs_let, w2, y1], ?_, y3, y4, y5⟩
      rw [w1]
      simp [gs_bd, y2]
    · obtain ⟨V', M', y1, y2, y3, y4, y5⟩ := hand 2
      refine ⟨V', M', by omega, h3.trans ep, ⟨h1, Or.inr (Or.inr q1)⟩, by rw [gs_let, w2, y1], ?_, y3, y4, y5⟩
      rw [w1]
      simp [gs_bd, y2]
  · rw [if_pos q1]
    unfold x17_does
    have c := u.slot (n := (40, k, p)) (j := 1) (i := 65 + p) (v := m_lesser 9999 (V (40, k, p) 1 + V n 2)) (by omega) (by omega) (xu_purse (by omega)) (by simp [fx]) (show (40 : Nat) ≠ 26 by decide)
    refine ⟨_, _, by omega, h3.trans ep, ⟨h1, Or.inl q1⟩, by rw [gs_let, b_min], ?_, c, fr.rf.up (by simp [fx]), fr.rf.up (by simp [fm])⟩
    rw [q2]
    simp [gs_bd, u.2.1.purse (show p < 12 by omega), q3]
  · rw [if_neg (by rw [q1]; decide), if_pos q1]
    unfold x18_does
    obtain ⟨t, ht, et⟩ := o_ex (n := 5) q5 q6
    have tb : gz_inb (Int32.ofNat t) 5 = true := o_inb ht (by omega)
    have tn : (Int32.ofNat t).toNatClampNeg = t := o_nat (by omega)
    have p12 : p < 12 := by omega
    have R := u.2.2.1.1 (5 + 5 * p + t) (by omega) (by omega)
    have em : gz_max 0 (V (41, k, p) t - V n 3) = m_held (M (2, 1, 0) (5 + 5 * p + t) - M (2, 37, 0) (5 * i + 4)) 0 999 := by
      rw [u.2.1.trait p12 ht, q4]
      generalize M (2, 1, 0) (5 + 5 * p + t) = a at *
      generalize M (2, 37, 0) (5 * i + 4) = b at *
      have es : (a - b).toInt = a.toInt - b.toInt := by rw [i_sub] <;> omega
      have z0 : (0 : Int32).toInt = 0 := rfl
      have z9 : (999 : Int32).toInt = 999 := rfl
      unfold gz_max m_held
      rw [i_eq]
      repeat' split
      all_goals (simp only [i_lt, i_le] at * <;> omega)
    have rgv : 0 ≤ (gz_max 0 (V (41, k, p) t - V n 3)).toInt ∧ (gz_max 0 (V (41, k, p) t - V n 3)).toInt ≤ 999 := by
      rw [u.2.1.trait p12 ht, q4]
      generalize M (2, 1, 0) (5 + 5 * p + t) = a at *
      generalize M (2, 37, 0) (5 * i + 4) = b at *
      have es : (a - b).toInt = a.toInt - b.toInt := by rw [i_sub] <;> omega
      have z0 : (0 : Int32).toInt = 0 := rfl
      unfold gz_max
      repeat' split
      all_goals (simp only [i_lt, i_le] at * <;> omega)
    have c : cU k P H F b0 Ds Df (gz_up V (41, k, p) t (gz_max 0 (V (41, k, p) t - V n 3))) (gz_up M (2, 1, 0) (5 + 5 * p + t) (gz_max 0 (V (41, k, p) t - V n 3))) := by
      refine u.row (fr.rf.up (by simp [fx])) (fr.rf.up (by simp [fm])) (fun i' hi' => ?_) (fun i' h1 h2 => ?_) (fun j hj => ?_) ?_ (fun i => ?_) ?_
      · have := u.2.1 i' hi'
        rw [xu_trait p12 ht]
        simp only [upd_at, up_at, true_and, this]
      · have := u.2.2.1.1 i' h1 h2
        simp only [up_at, true_and]
        split
        · exact rgv
        · exact this
      · have := u.2.2.1.2.1 j hj
        simp only [up_at, true_and]
        rw [if_neg (by omega)]
        exact this
      · simp only [up_at, true_and]
        rw [if_neg (by omega)]
      · rw [up_ne (by simp)]
      · rw [up_ne (by decide)]
    refine ⟨_, _, p12, h3.trans ep, ⟨h1, Or.inr (Or.inl q1)⟩, by rw [q3, et, gs_gd tb, gs_gd tb, gs_let, tn], ?_, c, fr.rf.up (by simp [fx]), fr.rf.up (by simp [fm])⟩
    rw [q2, em]
    simp [gs_bd, et, m_trait_ok p12 ht, m_hasTrait_ok p12 ht]
end DAY
