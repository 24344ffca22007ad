/-! could, whole -/
set_option maxRecDepth 100000
section COULD2
variable {N m : Nat}
theorem uz_at {V : gz_V} {n a : gz_N} {i : Nat} : gz_uz V n a i = if a = n then 0 else V a i := by
  unfold gz_uz
  split <;> rfl
def cdW (m : Nat) (D : Nat) (A B : Nat → Nat) (V M : gz_V) : Prop := (∀ i, i < m → A i ≤ 8 ∧ V (95, 0, 0) i = Int32.ofNat (A i)) ∧ (∀ i, i < m → B i ≤ 8 ∧ M (2, 53, 0) i = Int32.ofNat (B i)) ∧ M (1, 0, 0) 51 = Int32.ofNat m ∧ ∀ i, i < m → A i = if D.testBit i = true then 0 else B i
theorem cdT.w {D : Nat} {A B u : Nat → Nat} {V M : gz_V} (h : cdT m D A B u V M) : cdW m D A B V M := ⟨h.1, h.2.2⟩
theorem z_r (hN : 500 ≤ N) (hm : m ≤ 9) {M0 : gz_V} : ∀ (c rd : Nat) {n n2 D : Nat} {A B : Nat → Nat} {V M : gz_V}, rd + c = m → c < n → c < n2 → D < 512 → sgC (fun i => D.testBit i) m = rd → cdW m D A B V M → (∀ n i, n ≠ (2, 53, 0) → M n i = M0 n i) → ∃ M', (∀ n i, n ≠ (2, 53, 0) → M' n i = M0 n i) ∧ ((could_r N (Int32.ofNat m) n V (Int32.ofNat rd) = some 1 ∧ m_could_L37 N n2 M (Int32.ofNat D) (Int32.ofNat rd) = some (.inr M')) ∨ (could_r N (Int32.ofNat m) n V (Int32.ofNat rd) = some 0 ∧ m_could_L37 N n2 M (Int32.ofNat D) (Int32.ofNat rd) = some (.inl (M', 0)))) := by
  intro c
  induction c with
  | zero =>
    intro rd n n2 D A B V M hc hn hn2 hD hs t hM
    obtain ⟨n, rfl⟩ : ∃ z, n = z + 1 := ⟨n - 1, by omega⟩
    obtain ⟨n2, rfl⟩ : ∃ z, n2 = z + 1 := ⟨n2 - 1, by omega⟩
    have : rd = m := by omega
    subst this
    refine ⟨M, hM, Or.inl ⟨?_, ?_⟩⟩
    · rw [could_r, if_pos (i_le.mpr (Int.le_refl _))]
    · rw [m_could_L37, t.2.2.1, if_pos (i_le.mpr (Int.le_refl _))]
  | succ c ih =>
    intro rd n n2 D A B V M hc hn hn2 hD hs t hM
    obtain ⟨n, rfl⟩ : ∃ z, n = z + 1 := ⟨n - 1, by omega⟩
    obtain ⟨n2, rfl⟩ : ∃ z, n2 = z + 1 := ⟨n2 - 1, by omega⟩
    obtain ⟨tA, tB, t51, tD⟩ := id t
    have e1 : Int32.ofNat rd + 1 = Int32.ofNat (rd + 1) := o_addr 1 rd
    have mn : (Int32.ofNat m).toNatClampNeg = m := o_nat (by omega)
    have ne : ¬ Int32.ofNat m ≤ Int32.ofNat rd := by rw [o_le (by omega) (by omega)]; omega
    have f01 : FM A (fun _ => True) 1 0 := ⟨by omega, trivial, fun j hj _ => by rw [show j = 0 by omega]; exact Nat.le_refl _, fun j hj _ => by omega⟩
    obtain ⟨g, g1, g2⟩ := x_g hm tA (m - 1) 1 (n := N) (b := 0) (by omega) (by omega) f01
    obtain ⟨r, r1, r2⟩ := m_great (N := N) hN hm hD t51 tB
    have gm := g2.1
    have aG := tA g gm
    have free : ∃ i, i < m ∧ D.testBit i = false := Classical.byContradiction (fun z => by
      have all : ∀ i, i < m → D.testBit i = true := fun i hi => by
        cases q : D.testBit i
        · exact absurd ⟨i, hi, q⟩ z
        · rfl
      have : ∀ k, k ≤ m → sgC (fun i => D.testBit i) k = k := by
        intro k
        induction k with
        | zero => intro _; rfl
        | succ k ihk =>
          intro hk
          have e : sgC (fun i => D.testBit i) (k + 1) = sgC (fun i => D.testBit i) k + (if D.testBit k = true then 1 else 0) := rfl
          rw [e, ihk (by omega), if_pos (all k (by omega))]
      have := this m (Nat.le_refl m)
      omega)
    rcases r2 with ⟨-, r3⟩ | ⟨b, rfl, b1, b2, b3, b4⟩
    · obtain ⟨i, i1, i2⟩ := free
      exact absurd i2 (r3 i i1)
    have bB := tB b b1
    have hD2 := fr512 hD (show b < 9 by omega)
    have sD : sgC (fun i => (D ||| 2 ^ b).testBit i) m = rd + 1 := by
      have step : ∀ k, k ≤ m → sgC (fun i => (D ||| 2 ^ b).testBit i) k = sgC (fun i => D.testBit i) k + (if b < k then 1 else 0) := by
        intro k
        induction k with
        | zero => intro _; rfl
        | succ k ihk =>
          intro hk
          have e : sgC (fun i => D.testBit i) (k + 1) = sgC (fun i => D.testBit i) k + (if D.testBit k = true then 1 else 0) := rfl
          have e' : sgC (fun i => (D ||| 2 ^ b).testBit i) (k + 1) = sgC (fun i => (D ||| 2 ^ b).testBit i) k + (if (D ||| 2 ^ b).testBit k = true then 1 else 0) := rfl
          rw [e, e', ihk (by omega), Nat.testBit_or, bt_p2]
          by_cases q : b = k
          · subst q
            rw [b2]
            simp
          · by_cases q2 : b < k
            · have : b < k + 1 := by omega
              simp [q, q2, this]; omega
            · have : ¬ b < k + 1 := by omega
              simp [q, q2, this]
      rw [step m (Nat.le_refl m), if_pos b1, hs]
    -- the world after the greatest is taken
    have hV2 : ∃ u2 : Nat → Nat, u2 = fun i => if i = g then 1 else 0 := ⟨_, rfl⟩
    obtain ⟨u2, hu2⟩ := hV2
    have key : (A g = 0 ∧ B b = 0) ∨ (b = g ∧ 0 < A g) := by
      by_cases a0 : A g = 0
      · refine Or.inl ⟨a0, ?_⟩
        have := g2.2.2.1 b b1 trivial
        have d := tD b b1
        rw [if_neg (by rw [b2]; decide)] at d
        omega
      · refine Or.inr ⟨?_, by omega⟩
        have nD : ∀ i, i < m → A i ≠ 0 → D.testBit i = false := fun i hi z => by
          cases q : D.testBit i
          · rfl
          · have := tD i hi
            rw [if_pos q] at this
            exact absurd this z
        have eq : ∀ i, i < m → D.testBit i = false → A i = B i := fun i hi q => by
          have := tD i hi
          rw [if_neg (by rw [q]; decide)] at this
          exact this
        have fm : FM B (fun j => D.testBit j = false) m g := by
          refine ⟨gm, nD g gm a0, fun i hi ci => ?_, fun i hi ci => ?_⟩
          · rw [← eq i hi ci, ← eq g gm (nD g gm a0)]; exact g2.2.2.1 i hi trivial
          · rw [← eq i (by omega) ci, ← eq g gm (nD g gm a0)]; exact g2.2.2.2 i hi trivial
        exact FM.uq ⟨b1, b2, b3, b4⟩ fm
    have many : A g = B b := by
      rcases key with ⟨k1, k2⟩ | ⟨rfl, k⟩
      · omega
      · have := tD b b1
        rw [if_neg (by rw [b2]; decide)] at this
        exact this
    have t2 : cdT m (D ||| 2 ^ b) (fun i => if i = g then 0 else A i) B u2 (gz_up (gz_uz (gz_up V (95, 0, 0) g 0) (96, 0, 0)) (96, 0, 0) g 1) M := by
      refine ⟨fun i hi => ?_, fun i hi => ?_, tB, t51, fun i hi => ?_⟩
      · have := tA i hi
        dsimp only
        rw [up_ne (by decide), uz_at, if_neg (show ¬ ((95, 0, 0) : gz_N) = (96, 0, 0) by decide), up_at]
        by_cases e : i = g
        · rw [if_pos e, if_pos ⟨rfl, e⟩]; exact ⟨by omega, rfl⟩
        · rw [if_neg e, if_neg (fun z => e z.2)]; exact this
      · rw [up_at, uz_at, if_pos rfl, hu2]
        dsimp only
        by_cases e : i = g
        · rw [if_pos e, if_pos ⟨rfl, e⟩]; exact ⟨by omega, rfl⟩
        · rw [if_neg e, if_neg (fun z => e z.2)]; exact ⟨by omega, rfl⟩
      · dsimp only
        rw [Nat.testBit_or, bt_p2]
        have d := tD i hi
        rcases key with ⟨k1, k2⟩ | ⟨rfl, k⟩
        · have z := g2.2.2.1 i hi trivial
          have ai : A i = 0 := by omega
          by_cases e : b = i
          · subst e
            rw [ai]
            simp
          · rw [ai] at d ⊢
            simp only [e, decide_false, Bool.or_false]
            rw [← d]
            simp
        · by_cases e : i = b
          · subst e; simp
          · have : ¬ b = i := fun z => e z.symm
            rw [if_neg e, d]
            simp [this]
    rw [could_r, if_neg ne, show could_g V (Int32.ofNat m) N 0 1 = _ from g1, gs_bd, mn, gs_gd (o_inb gm (by omega)), o_nat (show g < 2147483648 by omega), aG.2, m_could_L37, t51, if_neg ne, r1, gs_bd, gs_let, bt_sh b (by omega), bt_or, gs_gd (o_inb (show b < 9 by omega) (by omega)), gs_let, o_nat (show b < 2147483648 by omega), bB.2, e1, many]
    by_cases z0 : B b = 0
    · rw [z0]
      obtain ⟨N', hN'⟩ : ∃ z, N = z + 1 := ⟨N - 1, by omega⟩
      have k1 : ∀ W : gz_V, could_k N (Int32.ofNat m) (Int32.ofNat 0) N W 0 = some (W, false) := fun W => by
        conv => lhs; arg 4; rw [hN']
        rw [could_k, if_pos (by decide)]
      have k2 : ∀ (x y z : Int32) (W : gz_V), m_could_L68 N x y N W z (Int32.ofNat 0) = some (.inr W) := fun x y z W => by
        conv => lhs; arg 4; rw [hN']
        rw [m_could_L68, if_pos (by decide)]
      rw [k1, gs_bd, k2, gs_lpr, if_neg (show ¬ false = true by decide)]
      exact ih (rd + 1) (by omega) (by omega) (by omega) hD2 sD t2.w hM
    · obtain ⟨bg, -⟩ : b = g ∧ 0 < A g := by
        rcases key with ⟨k1, k2⟩ | k
        · exact absurd k2 z0
        · exact k
      have hEu : ∀ i, i < m → ((D ||| 2 ^ b).testBit i = true ↔ (D ||| 2 ^ b).testBit i = true ∨ u2 i = 1) := fun i hi => by
        refine ⟨Or.inl, fun z => z.elim id (fun z => ?_)⟩
        rw [hu2] at z
        dsimp only at z
        by_cases e : i = g
        · rw [Nat.testBit_or, bt_p2, bg, e]; simp
        · rw [if_neg e] at z; omega
      rcases z_k (N := N) hN hm (D := D ||| 2 ^ b) (M0 := M0) (v1 := Int32.ofNat (D ||| 2 ^ b)) (v2 := Int32.ofNat rd) (B b) 0 (n := N) (n2 := N) (E := D ||| 2 ^ b) (by omega) (by omega) (by omega) hD2 t2 hEu hM with ⟨V', M', A', B', u', q1, q2, q3, q4⟩ | ⟨V', M', q1, q2, q3⟩
      · rw [Nat.zero_add] at q1
        rw [show could_k N (Int32.ofNat m) (Int32.ofNat (B b)) N _ 0 = _ from q1, gs_bd, q2, gs_lpr, if_neg (show ¬ false = true by decide)]
        exact ih (rd + 1) (by omega) (by omega) (by omega) hD2 sD q3.w q4
      · rw [Nat.zero_add] at q1
        rw [show could_k N (Int32.ofNat m) (Int32.ofNat (B b)) N _ 0 = _ from q1, gs_bd, q2, if_pos rfl]
        exact ⟨M', q3, Or.inr ⟨rfl, rfl⟩⟩
end COULD2
theorem x_fill {m : Nat} {f : Nat → Nat} {V0 : gz_V} (hm : m ≤ 9) (hf : ∀ i, i < m → V0 (31, 0, i) 0 = Int32.ofNat (f i)) : ∀ (d i : Nat) {n : Nat} {V : gz_V}, i + d = m → d < n → (∀ j, j < i → V (95, 0, 0) j = Int32.ofNat (f j)) → (∀ n j, n ≠ (95, 0, 0) → V n j = V0 n j) → ∃ V', could_1 (Int32.ofNat m) n V (Int32.ofNat i) = some V' ∧ (∀ j, j < m → V' (95, 0, 0) j = Int32.ofNat (f j)) := by
  intro d
  induction d with
  | zero =>
    intro i n V hi hn h1 h2
    obtain ⟨n, rfl⟩ : ∃ z, n = z + 1 := ⟨n - 1, by omega⟩
    have : i = m := by omega
    subst this
    exact ⟨V, by rw [could_1, if_pos (i_le.mpr (Int.le_refl _))], h1⟩
  | succ d ih =>
    intro i n V hi hn h1 h2
    obtain ⟨n, rfl⟩ : ∃ z, n = z + 1 := ⟨n - 1, by omega⟩
    have e1 : Int32.ofNat i + 1 = Int32.ofNat (i + 1) := o_addr 1 i
    have mn : (Int32.ofNat m).toNatClampNeg = m := o_nat (by omega)
    obtain ⟨V', a, b⟩ := ih (i + 1) (n := n) (V := gz_up V (95, 0, 0) i (Int32.ofNat (f i))) (by omega) (by omega) (fun j hj => by
      rw [up_at]
      by_cases e : j = i
      · rw [e, if_pos ⟨rfl, rfl⟩]
      · rw [if_neg (by omega)]; exact h1 j (by omega)) (fun n j hn => by rw [up_ne hn]; exact h2 n j hn)
    refine ⟨V', ?_, b⟩
    have xf : x3_first V 0 1 (Int32.ofNat i) = some (Int32.ofNat (f i)) := by
      unfold x3_first
      rw [show xw_rl 1 = 9 from rfl, gs_gd (o_inb (by omega) (by omega)), o_nat (by omega)]
      exact congrArg some ((h2 (31, 0, i) 0 (by simp)).trans (hf i (by omega)))
    rw [could_1, if_neg (by rw [o_le (by omega) (by omega)]; omega), xf, gs_bd, mn, gs_gd (o_inb (by omega) (by omega)), o_nat (by omega), e1]
    exact a
theorem m_fill {N m : Nat} {f : Nat → Nat} {V0 : gz_V} (hm : m ≤ 9) (h51 : V0 (1, 0, 0) 51 = Int32.ofNat m) (hf : ∀ i, i < m → V0 (2, 52, 0) i = Int32.ofNat (f i)) : ∀ (d i : Nat) {n : Nat} {V : gz_V}, i + d = m → d < n → (∀ j, j < i → V (2, 53, 0) j = Int32.ofNat (f j)) → (∀ n j, n ≠ (2, 53, 0) → V n j = V0 n j) → ∃ V', m_could_L7 N n V (Int32.ofNat i) = some V' ∧ (∀ j, j < m → V' (2, 53, 0) j = Int32.ofNat (f j)) ∧ (∀ n j, n ≠ (2, 53, 0) → V' n j = V0 n j) := by
  intro d
  induction d with
  | zero =>
    intro i n V hi hn h1 h2
    obtain ⟨n, rfl⟩ : ∃ z, n = z + 1 := ⟨n - 1, by omega⟩
    have : i = m := by omega
    subst this
    exact ⟨V, by rw [m_could_L7, h2 _ _ (by decide), h51, if_pos (i_le.mpr (Int.le_refl _))], h1, h2⟩
  | succ d ih =>
    intro i n V hi hn h1 h2
    obtain ⟨n, rfl⟩ : ∃ z, n = z + 1 := ⟨n - 1, by omega⟩
    have e1 : Int32.ofNat i + 1 = Int32.ofNat (i + 1) := o_addr 1 i
    obtain ⟨V', a, b⟩ := ih (i + 1) (n := n) (V := gz_up V (2, 53, 0) i (Int32.ofNat (f i))) (by omega) (by omega) (fun j hj => by
      rw [up_at]
      by_cases e : j = i
      · rw [e, if_pos ⟨rfl, rfl⟩]
      · rw [if_neg (by omega)]; exact h1 j (by omega)) (fun n j hn => by rw [up_ne hn]; exact h2 n j hn)
    refine ⟨V', ?_, b⟩
    rw [m_could_L7, h2 (1, 0, 0) 51 (by decide), h51, if_neg (by rw [o_le (by omega) (by omega)]; omega), gs_gd (o_inb (by omega) (by omega)), gs_gd (o_inb (by omega) (by omega)), gs_let, o_nat (by omega), h2 (2, 52, 0) i (by decide), hf i (by omega), e1]
    exact a
theorem J_could {N : Nat} (hN : 1000 ≤ N) : lo_could JJ N := by
  intro Ds Df V c M h
  have h0 := h.m0
  obtain ⟨P, H, b, ⟨-, -, -, -, -, -, -, t1, -⟩, -⟩ := h.m0
  unfold x0_could m_could
  rw [gs_let (x := gz_up M (1, 0, 0) 0 0)]
  generalize gz_up M (1, 0, 0) 0 0 = M1 at *
  obtain ⟨m, h1, h2, h3, h4⟩ := t1
  have mn : (Int32.ofNat m).toNatClampNeg = m := o_nat (by omega)
  have nl : ¬ Int32.ofNat m < 0 := by rw [show (0 : Int32) = Int32.ofNat 0 from rfl, o_lt (by omega) (by omega)]; omega
  have hv : ∀ i, i < m → V (31, 0, i) 0 = Int32.ofNat ((V (31, 0, i) 0).toNatClampNeg) ∧ M1 (2, 52, 0) i = Int32.ofNat ((V (31, 0, i) 0).toNatClampNeg) ∧ (V (31, 0, i) 0).toNatClampNeg ≤ 8 := fun i hi => by
    obtain ⟨v, v1, v2, v3, v4⟩ := h4 i hi
    have v3' : V (31, 0, i) 0 = Int32.ofNat v := v3
    rw [v3', o_nat (by omega)]
    exact ⟨rfl, v4, v2⟩
  obtain ⟨V1, a1, a2⟩ := x_fill (m := m) (f := fun i => (V (31, 0, i) 0).toNatClampNeg) (V0 := gz_uz V (95, 0, 0)) h1 (fun i hi => by rw [uz_at, if_neg (by simp)]; exact (hv i hi).1) m 0 (n := N) (V := gz_uz V (95, 0, 0)) (by omega) (by omega) (fun j hj => by omega) (fun _ _ _ => rfl)
  obtain ⟨M2, b1, b2, b3⟩ := m_fill (N := N) (m := m) (f := fun i => (V (31, 0, i) 0).toNatClampNeg) (V0 := M1) h1 h3 (fun i hi => (hv i hi).2.1) m 0 (n := N) (V := M1) (by omega) (by omega) (fun j hj => by omega) (fun _ _ _ => rfl)
  have fin : ∀ M', (∀ n i, n ≠ (2, 53, 0) → M' n i = M1 n i) → JJ Ds Df V c M' := fun M' q => h0.sx (A := (11, 10, 0)) (Or.inl rfl) (Or.inl rfl) (fun _ _ _ => rfl) q
  rw [h2, mn, gs_gd ⟨nl, h1⟩, show could_1 (Int32.ofNat m) N _ 0 = _ from a1, gs_bd, show m_could_L7 N N M1 0 = _ from b1, gs_bd]
  have s0 : sgC (fun i => (0 : Nat).testBit i) m = 0 := by
    have : ∀ k, sgC (fun i => (0 : Nat).testBit i) k = 0 := fun k => by
      induction k with
      | zero => rfl
      | succ k ih =>
        have e : sgC (fun i => (0 : Nat).testBit i) (k + 1) = sgC (fun i => (0 : Nat).testBit i) k + (if (0 : Nat).testBit k = true then 1 else 0) := rfl
        rw [e, ih, Nat.zero_testBit]
        rfl
    exact this m
  obtain ⟨M', q1, ⟨q2, q3⟩ | ⟨q2, q3⟩⟩ := z_r (N := N) (by omega) h1 (M0 := M1) m 0 (n := N) (n2 := N) (D := 0) (V := V1) (M := M2) (by omega) (by omega) (by omega) (by omega) s0 ⟨fun i hi => ⟨(hv i hi).2.2, a2 i hi⟩, fun i hi => ⟨(hv i hi).2.2, b2 i hi⟩, by rw [b3 _ _ (by decide)]; exact h3, fun i hi => by rw [Nat.zero_testBit]; rfl⟩ b3
  · rw [show could_r N (Int32.ofNat m) N V1 0 = _ from q2, show m_could_L37 N N M2 0 0 = _ from q3]
    exact ⟨M', 1, rfl, rfl, fin M' q1⟩
  · rw [show could_r N (Int32.ofNat m) N V1 0 = _ from q2, show m_could_L37 N N M2 0 0 = _ from q3]
    exact ⟨M', 0, rfl, rfl, fin M' q1⟩
