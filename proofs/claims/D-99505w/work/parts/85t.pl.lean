/-! pairs, whole -/
set_option maxRecDepth 100000
section PAIRS3
variable {N P : Nat} {K : Nat → Nat} {Ds : gz_S} {Df : gz_R} {V M : gz_V}
theorem z_pl (hN : 500 ≤ N) {T : Nat → Nat} {a r5 : Int32} {p : Nat} (ha : ¬ a = 0) (ha2 : a - 10 = Int32.ofNat p) (hp : p < P) (kn : knT Ds Df V M P K) (tx : tbl (11, 11, 0) V (2 ^ P) T) (tm : tbl (2, 55, 0) M (2 ^ P) T) : ∀ (d k : Nat) {n n2 S : Nat}, k + d = P → d < n → d < n2 → S < 2 ^ P → (∀ j, j < k → S.testBit j = false) → S.testBit p = true → ∃ r, x0_pairs_L35 N Ds Df V a r5 n (Int32.ofNat S) = some (.inl (V, r)) ∧ m_partnerOf_L11 N M (Int32.ofNat p) n2 (Int32.ofNat S) (Int32.ofNat k) = some (.inl r) := by
  have t1 := kn.1
  have t3 := kn.2.2.1
  intro d
  induction d with
  | zero =>
    intro k n n2 S hk hn hn2 hS hz hp2
    rw [hz p (by omega)] at hp2
    cases hp2
  | succ d ih =>
    intro k n n2 S hk hn hn2 hS hz hp2
    obtain ⟨n2, rfl⟩ : ∃ z, n2 = z + 1 := ⟨n2 - 1, by omega⟩
    have S4 := bt_4096 t1 hS
    have e1 : Int32.ofNat k + 1 = Int32.ofNat (k + 1) := o_addr 1 k
    have nP : ¬ Int32.ofNat P ≤ Int32.ofNat k := by rw [o_le (by omega) (by omega)]; omega
    by_cases q : S.testBit k = true
    · obtain ⟨n, rfl⟩ : ∃ z, n = z + 1 := ⟨n - 1, by omega⟩
      have S0 : S ≠ 0 := fun e => by rw [e, Nat.zero_testBit] at q; cases q
      have lo1 : lo S = k := by
        have h1 := lo_le q
        obtain ⟨h2, -⟩ := lo_at S4 S0
        by_cases e : lo S < k
        · rw [hz _ e] at h2; cases h2
        · omega
      have sub : ∀ i, i < S + 1 → i < 2 ^ P := fun i hi => by omega
      obtain ⟨r, r1, r2⟩ := x_partner (N := N) hN hS S0 kn (T := T) (fun i hi => tx i (sub i hi))
      rw [lo1] at r2
      obtain ⟨r', s1, s2⟩ := m_part (N := N) (v1 := Int32.ofNat p) S4 q (show k < 12 by omega) kn (T := T) (fun i hi => tm i (sub i hi)) (P - 1 - k) (P - 1) (n := N) (r := -1) (by omega) (by omega) (by omega) (Or.inl ⟨rfl, fun i h1 h2 => by omega⟩)
      have er := s2.uq r2
      subst er
      rw [x0_pairs_L35, if_neg ha, if_neg (by rw [bt_z (by omega)]; exact S0), bt_ntz S4 S0, lo1, gs_let, r1, gs_bd, ha2, m_partnerOf_L11, t3, if_neg nP, if_neg (show ¬ m_has (Int32.ofNat S) (Int32.ofNat k) = 0 by rw [bt_m0 (by omega) (by omega), q]; decide), gs_let, gs_let, bt_sh k (by omega), clr_int S4, show Int32.ofNat P - 1 = Int32.ofNat (P - 1) from o_sub (c := 1) (by omega) (by omega), gs_let, gs_let, s1, gs_bd, e1]
      by_cases kp : Int32.ofNat k = Int32.ofNat p
      · rw [if_pos kp, if_pos kp, if_pos kp]
        exact ⟨_, rfl, rfl⟩
      · rw [if_neg kp, if_neg kp]
        have kp' : k ≠ p := fun e => kp (by rw [e])
        by_cases rp : r' = Int32.ofNat p
        · rw [if_pos rp, if_pos rp, if_neg (by rw [rp]; exact n_m1 (by omega)), if_neg kp]
          exact ⟨_, rfl, rfl⟩
        · rw [if_neg rp, if_neg rp, gs_let]
          have cl1 : clr S (2 ^ k) ≤ S := clr_le
          have b1 : ∀ j, j < k + 1 → (clr S (2 ^ k)).testBit j = false := fun j hj => by
            rw [clr_tb S4, bt_p2]
            by_cases e : k = j
            · simp [e]
            · rw [hz j (by omega)]; rfl
          have b2 : (clr S (2 ^ k)).testBit p = true := by
            rw [clr_tb S4, hp2, bt_p2]
            simp [kp']
          rcases s2 with ⟨rfl, -⟩ | ⟨j, rfl, j1, j2, j3, -⟩
          · rw [if_pos rfl, if_pos rfl, show ((Int32.ofNat (2 ^ k) ^^^ -1) &&& -1) = Int32.ofNat (2 ^ k) ^^^ -1 from Int32.and_neg_one, clr_int S4]
            exact ih (k + 1) (by omega) (by omega) (by omega) (by omega) b1 b2
          · have jp : j ≠ p := fun e => rp (by rw [e])
            have cl2 : clr (clr S (2 ^ k)) (2 ^ j) ≤ clr S (2 ^ k) := clr_le
            rw [if_neg (n_m1 (by omega)), if_neg (n_m1 (by omega)), bt_sh j (by omega), ← Int32.and_assoc, clr_int S4, clr_int (show clr S (2 ^ k) < 4096 by omega)]
            refine ih (k + 1) (by omega) (by omega) (by omega) (by omega) (fun i hi => ?_) ?_
            · rw [clr_tb (show clr S (2 ^ k) < 4096 by omega), b1 i hi]; rfl
            · rw [clr_tb (show clr S (2 ^ k) < 4096 by omega), b2, bt_p2]
              simp [jp]
    · rw [m_partnerOf_L11, t3, if_neg nP, if_pos (by rw [bt_m0 (by omega) (by omega)]; simpa using q), e1]
      refine ih (k + 1) (by omega) (by omega) (by omega) hS (fun j hj => ?_) hp2
      by_cases e : j = k
      · subst e; simpa using q
      · exact hz j (by omega)
end PAIRS3
theorem J_pairs {N : Nat} (hN : 10000 ≤ N) : lo_pairs JJ N := by
  intro Ds Df V c M a h
  have h0 := h.m0
  obtain ⟨P, H, b, ⟨hS, -⟩, -⟩ := h.m0
  obtain ⟨K, kn⟩ := kn_of hS
  obtain ⟨t1, t2, t3, -⟩ := id kn
  have pl : 2 ^ P ≤ 4096 := Nat.pow_le_pow_right (n := 2) (by decide) t1
  have pp := Nat.two_pow_pos P
  unfold x0_pairs m_pairs
  rw [gs_let (x := gz_up M (1, 0, 0) 0 0)]
  generalize gz_up M (1, 0, 0) 0 0 = M1 at *
  have em : Int32.ofNat (2 ^ P) - 1 = Int32.ofNat (2 ^ P - 1) := o_sub (c := 1) (by omega) (by omega)
  obtain ⟨V', M', T, q1, q2, q3, q4, q5, q6⟩ := z_tab (N := N) (by omega) (V0 := V) (M0 := M1) (2 ^ P) 0 (n := N) (n2 := N) (T := fun _ => 0) (by omega) (by omega) (by omega) kn (fun s hs => by omega) (fun s hs => by omega) (fun _ _ _ => rfl) (fun _ _ _ => rfl)
  have kn' := kn.eq q5 q6
  have t3' := kn'.2.2.1
  have J2 : JJ Ds Df V' c M' := h0.sx (Or.inr rfl) (Or.inr (Or.inr (Or.inl rfl))) q5 q6
  have mp : x0_mostPairs N Ds Df V (Int32.ofNat (2 ^ P - 1)) = some (V', Int32.ofNat (T (2 ^ P - 1))) := by
    unfold x0_mostPairs
    rw [show x0_mostPairs_L2 N Ds Df (Int32.ofNat (2 ^ P - 1)) N V 0 = _ from q1, gs_bd, gs_gd (o_inb (show 2 ^ P - 1 < 4096 by omega) (by omega)), o_nat (by omega), (q3 _ (by omega)).1]
  have fp : m_findsPairs N M1 = some M' := by
    unfold m_findsPairs
    rw [show m_findsPairs_L2 N N M1 0 = _ from q2, gs_bd]
  by_cases a0 : a = 0
  · subst a0
    obtain ⟨N', hN'⟩ : ∃ z, N = z + 1 := ⟨N - 1, by omega⟩
    have l35 : x0_pairs_L35 N Ds Df V' 0 (Int32.ofNat (T (2 ^ P - 1))) N (Int32.ofNat (2 ^ P - 1)) = some (.inr ()) := by
      conv => lhs; arg 7; rw [hN']
      rw [x0_pairs_L35, if_pos rfl]
    rw [if_pos rfl, t2, bt_sh P (by omega), em, gs_let, mp, gs_b2, l35, if_pos rfl, fp, gs_bd, if_pos rfl, t3', bt_sh P (by omega), em, gs_gd (o_inb (show 2 ^ P - 1 < 4096 by omega) (by omega)), o_nat (by omega), (q4 _ (by omega)).1]
    exact ⟨V', M', _, rfl, rfl, J2⟩
  rw [if_neg a0, if_neg a0]
  obtain ⟨e1, e2⟩ := hS.isP (a - 10)
  have zz : (10 : Int32).toInt = 10 := rfl
  have z9 : (9 + Int32.ofNat P : Int32) = Int32.ofNat (9 + P) := o_addl 9 P
  rw [t3, z9, e1]
  rcases e2 with e2 | ⟨e2, p, hp, e3⟩
  · have e4 : m_isIn a 10 (Int32.ofNat (9 + P)) = 0 := by
      rcases isIn_c (a := a) (b := 10) (c := Int32.ofNat (9 + P)) with w | ⟨w, w1, w2⟩
      · exact w
      · exfalso
        rw [i_of (by omega)] at w2
        obtain ⟨s, hs, rfl⟩ := o_ex (a := a) (n := 22) (by omega) (by omega)
        rw [i_of (by omega)] at w1 w2
        have : Int32.ofNat s - 10 = Int32.ofNat (s - 10) := o_sub (c := 10) (by omega) (by omega)
        rw [this, m_isP t3 t1 (show s - 10 < P by omega)] at e2
        exact absurd e2 (by decide)
    rw [if_pos e2, if_pos e4]
    exact ⟨V, M1, -1, rfl, rfl, h0⟩
  have ea : a = Int32.ofNat (p + 10) := by
    have : a = (a - 10) + 10 := (Int32.sub_add_cancel a 10).symm
    rw [this, e3]
    exact o_addr 10 p
  have e4 : m_isIn a 10 (Int32.ofNat (9 + P)) = 1 := by
    rcases isIn_c (a := a) (b := 10) (c := Int32.ofNat (9 + P)) with w | ⟨w, -⟩
    · exfalso
      rw [ea] at w
      unfold m_isIn at w
      rw [if_neg (by rw [i_lt, i_of (by omega)]; omega), if_neg (by rw [o_lt (by omega) (by omega)]; omega)] at w
      exact absurd w (by decide)
    · exact w
  obtain ⟨r, r1, r2⟩ := z_pl (N := N) (by omega) (r5 := Int32.ofNat (T (2 ^ P - 1))) a0 e3 hp kn' q3 q4 P 0 (n := N) (n2 := N) (S := 2 ^ P - 1) (by omega) (by omega) (by omega) (by omega) (fun j hj => by omega) (by rw [Nat.testBit_two_pow_sub_one]; simp [hp])
  have po : m_partnerOf N M' (Int32.ofNat p) = some r := by
    unfold m_partnerOf
    rw [t3', bt_sh P (by omega), em, gs_let, show m_partnerOf_L11 N M' (Int32.ofNat p) N (Int32.ofNat (2 ^ P - 1)) 0 = _ from r2, gs_lpl]
  rw [e2, if_neg n10, t2, bt_sh P (by omega), em, gs_let, mp, gs_b2, r1, gs_lpl, e4, if_neg n10, fp, gs_bd, if_neg a0, e3, po, gs_bd]
  exact ⟨V', M', r, rfl, rfl, J2⟩
