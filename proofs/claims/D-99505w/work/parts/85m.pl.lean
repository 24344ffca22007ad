/-! walk, whole -/
set_option maxRecDepth 100000
section WALK2
variable {N P : Nat} {K : Nat → Nat} {Ds : gz_S} {Df : gz_R} {V M : gz_V}
theorem m_fst (t : knT Ds Df V M P K) {v1 v3 : Int32} {W f : Nat} (hW : W < 4096) (hf : f ≤ P) (hb : f < P → W.testBit f = true) : ∀ (d k : Nat) {n : Nat}, k + d = f → (∀ j, j < f → W.testBit j = false) → d < n → m_walk_L84 N M v1 (Int32.ofNat W) v3 n (Int32.ofNat k) = some (Int32.ofNat f) := by
  obtain ⟨t1, t2, t3, t4, t8, t9⟩ := id t
  intro d
  induction d with
  | zero =>
    intro k n hk hz hn
    obtain ⟨n, rfl⟩ : ∃ z, n = z + 1 := ⟨n - 1, by omega⟩
    have : k = f := by omega
    subst this
    rw [m_walk_L84, t3]
    by_cases e : k = P
    · rw [if_pos (by rw [e]; exact i_le.mpr (Int.le_refl _))]
    · rw [if_neg (by rw [o_le (by omega) (by omega)]; omega), if_neg (by rw [bt_m0 (by omega) (by omega), hb (by omega)]; decide)]
  | succ d ih =>
    intro k n hk hz hn
    obtain ⟨n, rfl⟩ : ∃ z, n = z + 1 := ⟨n - 1, by omega⟩
    have e1 : Int32.ofNat k + 1 = Int32.ofNat (k + 1) := o_addr 1 k
    rw [m_walk_L84, t3, if_neg (by rw [o_le (by omega) (by omega)]; omega), if_pos (by rw [bt_m0 (by omega) (by omega)]; exact hz k (by omega)), gs_let, e1]
    exact ih (k + 1) (by omega) hz (by omega)
theorem m_odd1 {O f : Nat} (hO : O < 4096) (h0 : O ≠ 0) (hf : f < 12) (hb : O.testBit f = true) : ∀ (d k : Nat) {n : Nat}, k + d = f → (∀ j, j < f → O.testBit j = false) → d < n → m_walk_L174 N M (Int32.ofNat O) n (Int32.ofNat k) = some (Int32.ofNat f) := by
  have n0 : ¬ Int32.ofNat O = 0 := by rw [bt_z (by omega)]; exact h0
  intro d
  induction d with
  | zero =>
    intro k n hk hz hn
    obtain ⟨n, rfl⟩ : ∃ z, n = z + 1 := ⟨n - 1, by omega⟩
    have : k = f := by omega
    subst this
    rw [m_walk_L174, if_neg n0, if_neg (by rw [bt_m0 (by omega) (by omega), hb]; decide)]
  | succ d ih =>
    intro k n hk hz hn
    obtain ⟨n, rfl⟩ : ∃ z, n = z + 1 := ⟨n - 1, by omega⟩
    have e1 : Int32.ofNat k + 1 = Int32.ofNat (k + 1) := o_addr 1 k
    rw [m_walk_L174, if_neg n0, if_pos (by rw [bt_m0 (by omega) (by omega)]; exact hz k (by omega)), gs_let, e1]
    exact ih (k + 1) (by omega) hz (by omega)
theorem W_cl (t : knT Ds Df V M P K) {W : Nat} (hW : isM W (wkF K) 0 P) : clS K P W := by
  obtain ⟨t1, t2, t3, t4, t8, t9⟩ := id t
  intro p hp hp2 i hi
  have iP : i < P := by
    by_cases q : i < P
    · exact q
    · rw [bt_tf (t8 p (by omega)).2 (by omega)] at hi; cases hi
  rw [hW i]
  have : (K i).testBit p = true := by rw [← t9 p i (by omega) (by omega)]; exact hi
  have : K i ≠ 0 := fun e => by rw [e, Nat.zero_testBit] at this; cases this
  simp [wkF, iP, this]
theorem on_0 : onK 12 0 = 0 := rfl
end WALK2
theorem J_walk {N : Nat} (hN : 10000 ≤ N) : lo_walk JJ N := by
  intro Ds Df V c M a1 h
  have h0 := h.m0
  obtain ⟨P, H, b, ⟨hS, -⟩, -⟩ := h.m0
  obtain ⟨K, t⟩ := kn_of hS
  have t1 := t.1
  have t3 := t.2.2.1
  unfold x0_walk m_walk
  rw [gs_let (x := gz_up M (1, 0, 0) 0 0), isIn_eq]
  generalize gz_up M (1, 0, 0) 0 0 = M1 at *
  rcases isIn_c (a := a1) (b := 0) (c := 1) with w | ⟨w, w1, w2⟩
  · rw [if_pos w, if_pos w]
    exact ⟨M1, -1, rfl, rfl, h0⟩
  rw [w, if_neg n10, if_neg n10]
  have z0 : (0 : Int32).toInt = 0 := rfl
  have z1 : (1 : Int32).toInt = 1 := rfl
  have a01 : a1 = 0 ∨ a1 = 1 := by
    obtain ⟨s, hs, rfl⟩ := o_ex (a := a1) (n := 2) (by omega) (by omega)
    have : s = 0 ∨ s = 1 := by omega
    rcases this with rfl | rfl
    · exact Or.inl rfl
    · exact Or.inr rfl
  have em : ∀ f, isM 0 f 0 0 := fun f i => by rw [Nat.zero_testBit]; simp
  have eP : ∀ f, isM 0 f P P := fun f i => by
    rw [Nat.zero_testBit]
    by_cases q : P ≤ i
    · have : ¬ i < P := by omega
      simp [this]
    · simp [q]
  obtain ⟨W, x1, hW⟩ := x_with (N := N) t P 0 (n := N) (A := 0) (by omega) (by omega) (em _)
  obtain ⟨O, x2, hO⟩ := x_oddk (N := N) t P 0 (n := N) (A := 0) (by omega) (by omega) (em _)
  obtain ⟨W', O', m1, hW', hO'⟩ := m_both (N := N) (v := a1) (by omega) t P (n := N) (A := 0) (B := 0) (Nat.le_refl P) (by omega) (eP _) (eP _)
  have eW := hW'.eq hW
  have eO := hO'.eq hO
  subst eW eO
  have lW : W' < 4096 := bt_4096 t1 hW.lt
  have lO : O' < 4096 := bt_4096 t1 hO.lt
  unfold x0_withKin x0_oddKin
  rw [show x0_withKin_L4 N Ds Df V N 0 0 = _ from x1, gs_bd, gs_bd, gs_let, show x0_oddKin_L4 N Ds Df V N 0 0 = _ from x2, t3, gs_let, show m_walk_L29 N M1 a1 N 0 0 (Int32.ofNat P - 1) = _ from m1, gs_b2]
  have cb := bt_12 lO
  have fin : ∀ (y : Int32) (f : Nat), f < 12 → (y = 0 ∨ (W' ≠ 0 ∧ f = lo W')) → ∃ (Vm2 : gz_V) (r : Int32), (if y = 0 then if a1 = 0 then some 0 else some (-1) else if a1 = 1 then some (j13_numberOfTrailingZeros (if Int32.ofNat O' = 0 then Int32.ofNat W' else Int32.ofNat O')) else if Int32.ofNat O' = 0 then some 2 else some 1) = some r ∧ (if a1 = 0 then if y = 0 then some (M1, 0) else if Int32.ofNat O' = 0 then some (M1, 2) else some (M1, 1) else if y = 0 then some (M1, -1) else gz_bd (m_walk_L174 N M1 (Int32.ofNat O') N (Int32.ofNat f)) fun x23 => some (M1, x23)) = some (Vm2, r) ∧ JJ Ds Df V c Vm2 := fun y f hf hy => by
    by_cases y0 : y = 0
    · rw [if_pos y0, if_pos y0, if_pos y0]
      by_cases a0 : a1 = 0
      · rw [if_pos a0, if_pos a0]
        exact ⟨M1, 0, rfl, rfl, h0⟩
      · rw [if_neg a0, if_neg a0]
        exact ⟨M1, -1, rfl, rfl, h0⟩
    · obtain ⟨w0, rfl⟩ := hy.resolve_left y0
      obtain ⟨o1, o2⟩ := lo_at lW w0
      rw [if_neg y0, if_neg y0, if_neg y0]
      rcases a01 with rfl | rfl
      · rw [if_neg (show ¬ (0 : Int32) = 1 by decide), if_pos (show (0 : Int32) = 0 from rfl)]
        by_cases oz : Int32.ofNat O' = 0
        · rw [if_pos oz, if_pos oz]
          exact ⟨M1, 2, rfl, rfl, h0⟩
        · rw [if_neg oz, if_neg oz]
          exact ⟨M1, 1, rfl, rfl, h0⟩
      · rw [if_pos (show (1 : Int32) = 1 from rfl), if_neg (show ¬ (1 : Int32) = 0 by decide)]
        by_cases oz : O' = 0
        · subst oz
          obtain ⟨N, rfl⟩ : ∃ z, N = z + 1 := ⟨N - 1, by omega⟩
          rw [if_pos (show Int32.ofNat 0 = 0 from rfl), bt_ntz lW w0, m_walk_L174, if_pos (show Int32.ofNat 0 = 0 from rfl)]
          exact ⟨M1, _, rfl, rfl, h0⟩
        · obtain ⟨p1, p2⟩ := lo_at lO oz
          have le : lo W' ≤ lo O' := by
            apply lo_le
            have q := hO (lo O')
            rw [p1] at q
            have q2 : lo O' < P ∧ odF K (lo O') = true := by simpa using q.symm
            rw [hW]
            have : K (lo O') ≠ 0 := fun e => by
              have := q2.2
              unfold odF at this
              rw [e, on_0] at this
              exact absurd this (by decide)
            simp [wkF, q2.1, this]
          rw [if_neg (show ¬ Int32.ofNat O' = 0 by rw [bt_z (by omega)]; exact oz), bt_ntz lO oz, m_odd1 (N := N) (M := M1) lO oz p2 p1 (lo O' - lo W') (lo W') (n := N) (by omega) (fun j hj => lo_lt hj) (by omega)]
          exact ⟨M1, _, rfl, rfl, h0⟩
  by_cases w0 : W' = 0
  · subst w0
    have k0 : kbF K 0 P = 0 := Nat.eq_of_testBit_eq (fun i => by
      rw [Nat.zero_testBit]
      cases q : (kbF K 0 P).testBit i
      · rfl
      · rcases (kbF_iff P).mp q with z | ⟨p, _, z, _⟩
        · rw [Nat.zero_testBit] at z; cases z
        · rw [Nat.zero_testBit] at z; cases z)
    have xs : x0_walk_L21 N Ds Df V a1 (Int32.ofNat 0) N (Int32.ofNat 0 &&& -Int32.ofNat 0) = some (Int32.ofNat 0) := by
      obtain ⟨z, hz⟩ : ∃ z, N = z + 1 := ⟨N - 1, by omega⟩
      have bs := x_beside (N := N) (by omega) t (S := 0) (Nat.two_pow_pos P)
      rw [show Int32.ofNat 0 &&& -Int32.ofNat 0 = Int32.ofNat 0 from rfl]
      conv => lhs; arg 7; rw [hz]
      rw [x0_walk_L21, bs, gs_bd, k0, if_pos rfl]
    rw [xs, gs_bd, gs_bd, show m_walk_L84 N M1 a1 (Int32.ofNat 0) (Int32.ofNat O') N 0 = _ from m_fst (N := N) t (v1 := a1) (v3 := Int32.ofNat O') (W := 0) (f := P) (by omega) (Nat.le_refl P) (by omega) P 0 (n := N) (by omega) (fun j _ => Nat.zero_testBit j) (by omega), gs_bd, if_pos (show Int32.ofNat 0 = 0 from rfl), gs_bd, if_pos (show Int32.ofNat 0 = 0 from rfl), gs_let, gs_bd]
    have f0 := fin 0 0 (by decide) (Or.inl rfl)
    rcases a01 with rfl | rfl
    · exact ⟨M1, 0, rfl, rfl, h0⟩
    · exact ⟨M1, -1, rfl, rfl, h0⟩
  · obtain ⟨o1, o2⟩ := lo_at lW w0
    have lz : ∀ j, j < lo W' → W'.testBit j = false := fun j hj => lo_lt hj
    have low := bt_low lW w0
    generalize lo W' = l at *
    have lP : l < P := by
      by_cases q : l < P
      · exact q
      · rw [bt_tf hW.lt (by omega)] at o1; cases o1
    have l2 : (2 ^ l).testBit (l) = true := by rw [bt_p2]; simp
    have ls0 : lsS K P (l) (2 ^ l) := ⟨l2, fun T _ hTl i hi => by
      rw [bt_p2] at hi
      have : l = i := by simpa using hi
      rw [← this]; exact hTl⟩
    obtain ⟨C, c1, c2, c3, c4⟩ := x_close (N := N) (by omega) t (l := l) (v1 := a1) (v2 := Int32.ofNat W') 4096 (2 ^ l) (n := N) (Nat.le_add_left _ _) (bt_pl lP) (by omega) ls0
    have one : 0 + 1 ≤ sgC (fun i => (2 ^ l).testBit i) 12 := by
      have q := (sgC_lt (f := fun _ => false) (g := fun i => (2 ^ l).testBit i) 12 (fun i _ h => by cases h)).2 ⟨l, o2, rfl, l2⟩
      generalize sgC (fun _ => false) 12 = u at q
      omega
    obtain ⟨R, r1, r2, r3, r4⟩ := m_twelve (N := N) (by omega) t (l := l) 12 0 (n := N) (S := 2 ^ l) (by omega) (by omega) (bt_pl lP) ls0 (Or.inr one)
    have eR := ls_eq r3 c3 r4 c4
    subst eR
    have lC := bt_4096 t1 r2
    have sub : ∀ i, R.testBit i = true → W'.testBit i = true := fun i hi => r3.2 W' (W_cl t hW) o1 i hi
    have eqv : (Int32.ofNat R &&& Int32.ofNat W' = Int32.ofNat W') ↔ R = W' := by
      have : R &&& W' ≤ R := Nat.and_le_left
      rw [bt_and, o_eq (by omega) (by omega)]
      constructor
      · intro e
        apply Nat.eq_of_testBit_eq
        intro i
        apply bool_iff
        refine ⟨sub i, fun z => ?_⟩
        rw [← e, Nat.testBit_and, Bool.and_eq_true] at z
        exact z.1
      · intro e
        rw [e, Nat.and_self]
    have eqv2 : (Int32.ofNat R = Int32.ofNat W') ↔ R = W' := o_eq (by omega) (by omega)
    have nw : ¬ Int32.ofNat W' = 0 := by rw [bt_z (by omega)]; exact w0
    have kk : m_kinOfKin N M1 (Int32.ofNat (l)) = some (Int32.ofNat R) := by
      unfold m_kinOfKin
      rw [gs_let, bt_sh _ (by omega), show m_kinOfKin_L6 N M1 N (Int32.ofNat (2 ^ l)) 0 = _ from r1, gs_bd]
    rw [low, c1, gs_bd, gs_bd, gs_bd, gs_let, show m_walk_L84 N M1 a1 (Int32.ofNat W') (Int32.ofNat O') N 0 = _ from m_fst (N := N) t (v1 := a1) (v3 := Int32.ofNat O') (W := W') (f := l) lW (by omega) (fun _ => o1) (l) 0 (n := N) (by omega) (lz) (by omega), gs_bd, if_neg nw, if_neg nw, kk, gs_bd, m_ones (by omega) lO, gs_bd, bt_cnt lO]
    by_cases e : R = W'
    · rw [if_pos (eqv.mpr e), if_pos (eqv2.mpr e)]
      by_cases c3 : 2 < onK 12 O'
      · rw [if_pos (show (2 : Int32) < Int32.ofNat (onK 12 O') by rw [show (2 : Int32) = Int32.ofNat 2 from rfl, o_lt (by omega) (by omega)]; exact c3), if_pos (show (3 : Int32) ≤ Int32.ofNat (onK 12 O') by rw [show (3 : Int32) = Int32.ofNat 3 from rfl, o_le (by omega) (by omega)]; exact c3), gs_bd]
        exact fin 0 (l) o2 (Or.inl rfl)
      · rw [if_neg (show ¬ (2 : Int32) < Int32.ofNat (onK 12 O') by rw [show (2 : Int32) = Int32.ofNat 2 from rfl, o_lt (by omega) (by omega)]; exact c3), if_neg (show ¬ (3 : Int32) ≤ Int32.ofNat (onK 12 O') by rw [show (3 : Int32) = Int32.ofNat 3 from rfl, o_le (by omega) (by omega)]; omega), gs_bd]
        exact fin 1 (l) o2 (Or.inr ⟨w0, rfl⟩)
    · rw [if_neg (fun z => e (eqv.mp z)), if_neg (fun z => e (eqv2.mp z)), gs_bd]
      exact fin 0 (l) o2 (Or.inl rfl)
