/-! pens, whole -/
set_option maxRecDepth 100000
section PENS2
variable {N m k : Nat} {V M V2 : gz_V} {h : Nat → Nat}
theorem hdT.fr (t : hdT V M m h) (hx : ∀ n i, n.1 = 27 ∨ n.1 = 33 → V2 n i = V n i) : hdT V2 M m h := by
  obtain ⟨t1, t2, t3, t4⟩ := t
  refine ⟨t1, by rw [hx _ _ (Or.inl rfl)]; exact t2, t3, fun i hi => ?_⟩
  rw [hx (33, 0, i) 0 (Or.inr rfl)]
  exact t4 i hi
theorem sU_le {s : Nat → Nat} {p x B q : Nat} (hs : ∀ q, s q ≤ B) (hx : x ≤ 30) : sU s p x q ≤ B + 30 := by
  unfold sU
  have := hs p
  have := hs q
  split <;> omega
theorem x_pens (hN : 500 ≤ N) (hk1 : 1 ≤ k) (hk : k ≤ 4) : ∀ (r i e : Nat) {s : Nat → Nat} {V : gz_V} {E : Nat}, i + r = m → hdT V M m h → (∀ p, s p ≤ 30 * i) → (∀ p, p < 4 → V (11, 12, 0) p = Int32.ofNat (s p)) → bp V E → ∃ V' E', x0_shares N (r + 1 + e) V (Int32.ofNat i) (Int32.ofNat k) = some V' ∧ frB V V' ∧ bp V' E' ∧ bsP (fun v => v < k ^ r) (fun v => vl k (asg h k r i v s)) E E' := by
  intro r
  induction r with
  | zero =>
    intro i e s V E hi t hs1 hs2 hb
    have t1 := t.1
    obtain ⟨V', E', q1, q2, q3, q4⟩ := x_leaf (N := N) (rc := x0_shares N e) (s := s) hN t hk1 hk (show i = m by omega) (fun p hp => ⟨by have := hs1 p; omega, hs2 p hp⟩) hb
    refine ⟨V', E', ?_, q2, q3, ?_, by omega, fun v hv => ?_⟩
    · rw [show 0 + 1 + e = e + 1 by omega]; exact q1
    · by_cases c : E ≤ vl k s
      · exact Or.inl (by omega)
      · exact Or.inr ⟨0, by simp, by show E' = vl k s; omega⟩
    · show E' ≤ vl k s
      omega
  | succ r ih =>
    intro i e s V E hi t hs1 hs2 hb
    obtain ⟨t1, t2, t3, t4⟩ := id t
    obtain ⟨u1, u2, -⟩ := t4 i (by omega)
    rw [show r + 1 + 1 + e = (r + 1 + e) + 1 by omega]
    show ∃ V' E', x0_shares_B N (x0_shares N (r + 1 + e)) V (Int32.ofNat i) (Int32.ofNat k) = some V' ∧ _
    unfold x0_shares_B
    rw [t2, if_neg (by rw [o_le (by omega) (by omega)]; omega)]
    have e1 : Int32.ofNat i + 1 = Int32.ofNat (i + 1) := o_addr 1 i
    have loop : ∀ (d q : Nat) {n : Nat} {W : gz_V} {F : Nat}, q + d = k → d < n → frB V W → bp W F → bsP (fun v => v < k ^ (r + 1) ∧ v % k < q) (fun v => vl k (asg h k (r + 1) i v s)) E F → ∃ V' E', x0_shares_L16 N (x0_shares N (r + 1 + e)) (Int32.ofNat i) (Int32.ofNat k) n W (Int32.ofNat q) = some V' ∧ frB V V' ∧ bp V' E' ∧ bsP (fun v => v < k ^ (r + 1) ∧ v % k < k) (fun v => vl k (asg h k (r + 1) i v s)) E E' := by
      intro d
      induction d with
      | zero =>
        intro q n W F hq hn f1 f2 f3
        obtain ⟨n, rfl⟩ : ∃ z, n = z + 1 := ⟨n - 1, by omega⟩
        have : q = k := by omega
        subst this
        exact ⟨W, F, by rw [x0_shares_L16, if_pos (i_le.mpr (Int.le_refl _))], f1, f2, f3⟩
      | succ d ihd =>
        intro q n W F hq hn f1 f2 f3
        obtain ⟨n, rfl⟩ : ∃ z, n = z + 1 := ⟨n - 1, by omega⟩
        have eq1 : Int32.ofNat q + 1 = Int32.ofNat (q + 1) := o_addr 1 q
        have gb : gz_inb (Int32.ofNat q) 4 = true := o_inb (by omega) (by omega)
        have qn : (Int32.ofNat q).toNatClampNeg = q := o_nat (by omega)
        have fst : ∀ W2 : gz_V, (∀ n i, n.1 = 33 → W2 n i = V n i) → x3_first W2 0 3 (Int32.ofNat i) = some (Int32.ofNat (h i)) := fun W2 hW => by
          unfold x3_first
          rw [show xw_rl 3 = 7 from rfl, gs_gd (o_inb (by omega) (by omega)), o_nat (by omega)]
          exact congrArg some ((hW (33, 0, i) 0 rfl).trans (t4 i (by omega)).2.2.1)
        have w33 : ∀ n i, n.1 = 33 → W n i = V n i := fun n i hn => f1 n i (by rintro ⟨rfl, -⟩; exact absurd hn (by decide))
        have wq : W (11, 12, 0) q = Int32.ofNat (s q) := (f1 _ _ (by simp)).trans (hs2 q (by omega))
        have W1f : ∀ n j, ¬ (n = (11, 12, 0) ∧ j = q) → gz_up W (11, 12, 0) q (Int32.ofNat (s q + h i)) n j = W n j := fun n j hn => by rw [up_at, if_neg hn]
        obtain ⟨W2, E2, g1, g2, g3, g4⟩ := ih (i + 1) e (s := sU s q (h i)) (V := gz_up W (11, 12, 0) q (Int32.ofNat (s q + h i))) (E := F) (by omega) (t.fr (fun n j hn => by
          rw [W1f n j (by rintro ⟨rfl, -⟩; rcases hn with z | z <;> exact absurd z (by decide))]
          exact f1 n j (by rintro ⟨rfl, -⟩; rcases hn with z | z <;> exact absurd z (by decide)))) (fun p => by have := sU_le (p := q) (x := h i) (q := p) hs1 u2; omega) (fun p hp => by
          rw [up_at]
          unfold sU
          by_cases c : p = q
          · rw [c, if_pos ⟨rfl, rfl⟩, if_pos rfl]
          · rw [if_neg (fun z => c z.2), if_neg c]
            exact (f1 _ _ (by simp)).trans (hs2 p hp)) (by
          obtain ⟨a, b, k1, k2, k3⟩ := f2
          exact ⟨a, b, by rw [W1f _ _ (by simp)]; exact k1, by rw [W1f _ _ (by simp)]; exact k2, k3⟩)
        have w2q : W2 (11, 12, 0) q = Int32.ofNat (s q + h i) := (g2 _ _ (by simp)).trans (by rw [up_at, if_pos ⟨rfl, rfl⟩])
        have w2f : ∀ n i, n.1 = 33 → W2 n i = V n i := fun n i hn => by
          rw [g2 n i (by rintro ⟨rfl, -⟩; exact absurd hn (by decide)), W1f n i (by rintro ⟨rfl, -⟩; exact absurd hn (by decide))]
          exact w33 n i hn
        have lq := hs1 q
        rw [x0_shares_L16, if_neg (by rw [o_le (by omega) (by omega)]; omega), gs_gd gb, fst W w33, gs_bd, gs_gd gb, gs_let, qn, wq, o_add, e1, g1, gs_bd, gs_gd gb, fst W2 w2f, gs_bd, gs_gd gb, gs_let, w2q, o_sub (by omega) (by omega), show s q + h i - h i = s q by omega, eq1]
        refine ihd (q + 1) (by omega) (by omega) (fun n j hn => ?_) ?_ ?_ (F := E2)
        · rw [up_at]
          by_cases c : n = (11, 12, 0) ∧ j = q
          · rw [if_pos c, c.1, c.2]; exact (hs2 q (by omega)).symm
          · rw [if_neg c, g2 n j hn, W1f n j c]; exact f1 n j hn
        · obtain ⟨a, b, k1, k2, k3⟩ := g3
          exact ⟨a, b, by rw [up_ne (by decide)]; exact k1, by rw [up_ne (by decide)]; exact k2, k3⟩
        · have kp : k ^ (r + 1) = k * k ^ r := by rw [Nat.pow_succ, Nat.mul_comm]
          have conv : bsP (fun v => v < k ^ (r + 1) ∧ v % k = q) (fun v => vl k (asg h k (r + 1) i v s)) F E2 := by
            have fv : ∀ v, v % k = q → vl k (asg h k (r + 1) i v s) = vl k (asg h k r (i + 1) (v / k) (sU s q (h i))) := fun v hv => by
              show vl k (asg h k r (i + 1) (v / k) (sU s (v % k) (h i))) = _
              rw [hv]
            refine ⟨?_, g4.2.1, fun v hv => ?_⟩
            · rcases g4.1 with z | ⟨v, hv, z⟩
              · exact Or.inl z
              · have dm : (k * v + q) % k = q := by rw [Nat.mul_add_mod]; exact Nat.mod_eq_of_lt (by omega)
                have dd : (k * v + q) / k = v := by rw [Nat.mul_add_div (by omega), Nat.div_eq_of_lt (by omega), Nat.add_zero]
                have lt : k * v + q < k ^ (r + 1) := by
                  rw [kp]
                  have : k * (v + 1) ≤ k * k ^ r := Nat.mul_le_mul_left k hv
                  rw [Nat.mul_succ] at this
                  omega
                refine Or.inr ⟨k * v + q, ⟨lt, dm⟩, ?_⟩
                show E2 = vl k (asg h k (r + 1) i (k * v + q) s)
                rw [fv _ dm, dd]
                exact z
            · show E2 ≤ vl k (asg h k (r + 1) i v s)
              rw [fv v hv.2]
              refine g4.2.2 (v / k) ?_
              show v / k < k ^ r
              rw [Nat.div_lt_iff_lt_mul (by omega), Nat.mul_comm, ← kp]
              exact hv.1
          refine (f3.un conv).cg (fun v => ?_)
          constructor
          · rintro ⟨z1, z2⟩
            by_cases c : v % k = q
            · exact Or.inr ⟨z1, c⟩
            · exact Or.inl ⟨z1, by omega⟩
          · rintro (⟨z1, z2⟩ | ⟨z1, z2⟩)
            · exact ⟨z1, by omega⟩
            · exact ⟨z1, by omega⟩
    obtain ⟨V', E', q1, q2, q3, q4⟩ := loop k 0 (n := N) (W := V) (F := E) (by omega) (by omega) (fun _ _ _ => rfl) hb ⟨Or.inl rfl, Nat.le_refl _, fun v hv => by omega⟩
    rw [show x0_shares_L16 N (x0_shares N (r + 1 + e)) (Int32.ofNat i) (Int32.ofNat k) N V 0 = _ from q1, gs_bd]
    refine ⟨V', E', rfl, q2, q3, q4.cg (fun v => ⟨fun z => ⟨z, Nat.mod_lt _ (by omega)⟩, fun z => z.1⟩)⟩
/-! the twin -/
theorem m_zero {v : Int32} {V0 : gz_V} (hk : k ≤ 4) : ∀ (d p : Nat) {n : Nat} {V : gz_V}, p + d = k → d < n → (∀ q, q < p → V (2, 61, 0) q = 0) → (∀ n i, n ≠ (2, 61, 0) → V n i = V0 n i) → ∃ V', m_sharingOf_L2 N v (Int32.ofNat k) n V (Int32.ofNat p) = some V' ∧ (∀ q, q < k → V' (2, 61, 0) q = 0) ∧ ∀ n i, n ≠ (2, 61, 0) → V' n i = V0 n i := by
  intro d
  induction d with
  | zero =>
    intro p n V hp hn h1 h2
    obtain ⟨n, rfl⟩ : ∃ z, n = z + 1 := ⟨n - 1, by omega⟩
    have : p = k := by omega
    subst this
    exact ⟨V, by rw [m_sharingOf_L2, if_pos (i_le.mpr (Int.le_refl _))], h1, h2⟩
  | succ d ih =>
    intro p n V hp hn h1 h2
    obtain ⟨n, rfl⟩ : ∃ z, n = z + 1 := ⟨n - 1, by omega⟩
    have e1 : Int32.ofNat p + 1 = Int32.ofNat (p + 1) := o_addr 1 p
    rw [m_sharingOf_L2, if_neg (by rw [o_le (by omega) (by omega)]; omega), gs_gd (o_inb (by omega) (by omega)), gs_let, o_nat (by omega), e1]
    refine ih (p + 1) (by omega) (by omega) (fun q hq => ?_) (fun n i hn => by rw [up_ne hn]; exact h2 n i hn)
    rw [up_at]
    by_cases c : q = p
    · rw [if_pos ⟨rfl, c⟩]
    · rw [if_neg (fun z => c z.2)]; exact h1 q (by omega)
theorem m_asg {V0 : gz_V} (hk1 : 1 ≤ k) (hk : k ≤ 4) (t : hdT V V0 m h) : ∀ (r i : Nat) {n v : Nat} {s : Nat → Nat} {M : gz_V}, i + r = m → r < n → v < 100000 → (∀ p, s p ≤ 30 * i) → (∀ p, p < k → M (2, 61, 0) p = Int32.ofNat (s p)) → (∀ n i, n ≠ (2, 61, 0) → M n i = V0 n i) → ∃ M', m_sharingOf_L25 N (Int32.ofNat k) n M (Int32.ofNat v) (Int32.ofNat i) = some M' ∧ (∀ p, asg h k r i v s p ≤ 30 * m) ∧ (∀ p, p < k → M' (2, 61, 0) p = Int32.ofNat (asg h k r i v s p)) ∧ ∀ n i, n ≠ (2, 61, 0) → M' n i = V0 n i := by
  obtain ⟨t1, t2, t3, t4⟩ := id t
  intro r
  induction r with
  | zero =>
    intro i n v s M hi hn hv h1 h2 h3
    obtain ⟨n, rfl⟩ : ∃ z, n = z + 1 := ⟨n - 1, by omega⟩
    have : i = m := by omega
    subst this
    exact ⟨M, by rw [m_sharingOf_L25, h3 _ _ (by decide), t3, if_pos (i_le.mpr (Int.le_refl _))], h1, h2, h3⟩
  | succ r ih =>
    intro i n v s M hi hn hv h1 h2 h3
    obtain ⟨n, rfl⟩ : ∃ z, n = z + 1 := ⟨n - 1, by omega⟩
    have e1 : Int32.ofNat i + 1 = Int32.ofNat (i + 1) := o_addr 1 i
    obtain ⟨u1, u2, -, u4⟩ := t4 i (by omega)
    have k0 : ¬ Int32.ofNat k = 0 := by rw [bt_z (by omega)]; omega
    have ml := Nat.mod_lt v (show 0 < k by omega)
    have dl : v / k ≤ v := Nat.div_le_self _ _
    have gb : gz_inb (Int32.ofNat (v % k)) 4 = true := o_inb (by omega) (by omega)
    have lq := h1 (v % k)
    rw [m_sharingOf_L25, h3 (1, 0, 0) 59 (by decide), t3, if_neg (by rw [o_le (by omega) (by omega)]; omega), gs_gd k0, gs_gd k0, o_mod (by omega) (by omega), gs_gd gb, gs_gd (o_inb (by omega) (by omega)), gs_gd gb, gs_let, o_nat (show v % k < 2147483648 by omega), o_nat (show i < 2147483648 by omega), h2 _ ml, h3 (2, 60, 0) i (by decide), u4, o_add, gs_gd k0, gs_let, o_div (by omega) (by omega), e1]
    refine ih (i + 1) (s := sU s (v % k) (h i)) (by omega) (by omega) (by omega) (fun p => by have := sU_le (p := v % k) (x := h i) (q := p) h1 u2; omega) (fun p hp => ?_) (fun n i hn => by rw [up_ne hn]; exact h3 n i hn)
    rw [up_at]
    unfold sU
    by_cases c : p = v % k
    · rw [c, if_pos ⟨rfl, rfl⟩, if_pos rfl]
    · rw [if_neg (fun z => c z.2), if_neg c]; exact h2 p hp
theorem m_share (hN : 500 ≤ N) {V0 : gz_V} (hk1 : 1 ≤ k) (hk : k ≤ 4) (t : hdT V V0 m h) {v : Nat} (hv : v < 100000) {M : gz_V} (h3 : ∀ n i, n ≠ (2, 61, 0) → M n i = V0 n i) : ∃ M', m_sharingOf N M (Int32.ofNat v) (Int32.ofNat k) = some (M', Int32.ofNat (vl k (asg h k m 0 v (fun _ => 0)))) ∧ vl k (asg h k m 0 v (fun _ => 0)) ≤ 300000 ∧ ∀ n i, n ≠ (2, 61, 0) → M' n i = V0 n i := by
  have t1 := t.1
  obtain ⟨M1, a1, a2, a3⟩ := m_zero (N := N) (v := Int32.ofNat v) (V0 := V0) hk k 0 (n := N) (V := M) (by omega) (by omega) (fun q hq => by omega) h3
  obtain ⟨M2, b1, b2, b3, b4⟩ := m_asg (N := N) hk1 hk t m 0 (n := N) (v := v) (s := fun _ => 0) (M := M1) (by omega) (by omega) hv (fun p => Nat.zero_le _) a2 a3
  have mm := m_mm (N := N) (M := M2) (s := asg h k m 0 v (fun _ => 0)) (B := 100000000) hk (Nat.le_refl _) (fun p hp => ⟨by have := b2 p; omega, b3 p hp⟩) k 0 (n := N) (by omega) (by omega)
  have x1 := mxv_le (s := asg h k m 0 v (fun _ => 0)) (B := 210) k (fun q hq => by have := b2 q; omega)
  have x2 : mnv 100000000 (asg h k m 0 v (fun _ => 0)) k = mnv 1000 (asg h k m 0 v (fun _ => 0)) k := mnv_eq k hk1 (fun q hq => by have := b2 q; omega)
  have x3 := mn_mx (s := asg h k m 0 v (fun _ => 0)) (B := 1000) k hk1
  rw [x2] at mm
  have val : vl k (asg h k m 0 v (fun _ => 0)) = 1000 * mxv (asg h k m 0 v (fun _ => 0)) k + (mxv (asg h k m 0 v (fun _ => 0)) k - mnv 1000 (asg h k m 0 v (fun _ => 0)) k) := rfl
  refine ⟨M2, ?_, by omega, b4⟩
  unfold m_sharingOf
  rw [show m_sharingOf_L2 N (Int32.ofNat v) (Int32.ofNat k) N M 0 = _ from a1, gs_bd, show m_sharingOf_L25 N (Int32.ofNat k) N M1 (Int32.ofNat v) 0 = _ from b1, gs_bd, show m_sharingOf_L79 N M2 (Int32.ofNat k) N 0 100000000 0 = _ from mm, gs_b2, show (1000 : Int32) * Int32.ofNat (mxv (asg h k m 0 v (fun _ => 0)) k) = Int32.ofNat (1000 * mxv (asg h k m 0 v (fun _ => 0)) k) from o_mull 1000 _, o_add, o_sub (by omega) (by omega), val]
  congr 3
  omega
theorem m_pow (t : hdT V M m h) {a2 : Int32} : ∀ (d i : Nat) {n : Nat}, i + d = m → d < n → m_pens_L32 N M (Int32.ofNat k) a2 n (Int32.ofNat (k ^ i)) (Int32.ofNat i) = some (Int32.ofNat (k ^ m)) := by
  obtain ⟨t1, t2, t3, t4⟩ := id t
  intro d
  induction d with
  | zero =>
    intro i n hi hn
    obtain ⟨n, rfl⟩ : ∃ z, n = z + 1 := ⟨n - 1, by omega⟩
    have : i = m := by omega
    subst this
    rw [m_pens_L32, t3, if_pos (i_le.mpr (Int.le_refl _))]
  | succ d ih =>
    intro i n hi hn
    obtain ⟨n, rfl⟩ : ∃ z, n = z + 1 := ⟨n - 1, by omega⟩
    have e1 : Int32.ofNat i + 1 = Int32.ofNat (i + 1) := o_addr 1 i
    rw [m_pens_L32, t3, if_neg (by rw [o_le (by omega) (by omega)]; omega), gs_let, e1, o_mul, ← Nat.pow_succ]
    exact ih (i + 1) (by omega) (by omega)
theorem m_best (hN : 500 ≤ N) {V0 : gz_V} {a2 : Int32} (hk1 : 1 ≤ k) (hk : k ≤ 4) (t : hdT V V0 m h) (hp : k ^ m ≤ 20000) : ∀ (d v : Nat) {n : Nat} {M : gz_V} {E : Nat}, v + d = k ^ m → d < n → (∀ n i, n ≠ (2, 61, 0) → M n i = V0 n i) → bsP (fun u => u < v) (fun u => vl k (asg h k m 0 u (fun _ => 0))) 100000000 E → ∃ M' E', m_pens_L59 N (Int32.ofNat k) a2 (Int32.ofNat (k ^ m)) n M (Int32.ofNat E) (Int32.ofNat v) = some (M', Int32.ofNat E') ∧ (∀ n i, n ≠ (2, 61, 0) → M' n i = V0 n i) ∧ bsP (fun u => u < k ^ m) (fun u => vl k (asg h k m 0 u (fun _ => 0))) 100000000 E' := by
  intro d
  induction d with
  | zero =>
    intro v n M E hv hn h3 hb
    obtain ⟨n, rfl⟩ : ∃ z, n = z + 1 := ⟨n - 1, by omega⟩
    have : v = k ^ m := by omega
    subst this
    exact ⟨M, E, by rw [m_pens_L59, if_pos (i_le.mpr (Int.le_refl _))], h3, hb⟩
  | succ d ih =>
    intro v n M E hv hn h3 hb
    obtain ⟨n, rfl⟩ : ∃ z, n = z + 1 := ⟨n - 1, by omega⟩
    have e1 : Int32.ofNat v + 1 = Int32.ofNat (v + 1) := o_addr 1 v
    obtain ⟨M1, q1, q2, q3⟩ := m_share (N := N) hN hk1 hk t (v := v) (by omega) h3
    have lE := hb.2.1
    rw [m_pens_L59, if_neg (by rw [o_le (by omega) (by omega)]; omega), q1, gs_b2, gs_let, g_mls (by omega) (by omega), e1]
    refine ih (v + 1) (by omega) (by omega) q3 ?_
    have one : bsP (fun u => u = v) (fun u => vl k (asg h k m 0 u (fun _ => 0))) E (min E (vl k (asg h k m 0 v (fun _ => 0)))) := by
      refine ⟨?_, by omega, fun u hu => by rw [hu]; exact Nat.min_le_right _ _⟩
      by_cases c : E ≤ vl k (asg h k m 0 v (fun _ => 0))
      · exact Or.inl (by omega)
      · exact Or.inr ⟨v, rfl, by show _ = vl k (asg h k m 0 v (fun _ => 0)); omega⟩
    exact (hb.un one).cg (fun u => by omega)
end PENS2
theorem J_pens {N : Nat} (hN : 50000 ≤ N) : lo_pens JJ N := by
  intro Ds Df V c M a1 a2 h
  have h0 := h.m0
  obtain ⟨P, H, b, ⟨-, -, -, -, -, -, -, -, -, t3, -⟩, -, -, jm', -⟩ := h.m0
  unfold x0_pens m_pens
  rw [gs_let (x := gz_up M (1, 0, 0) 0 0), isIn_eq, isIn_eq]
  generalize gz_up M (1, 0, 0) 0 0 = M1 at *
  rcases isIn_c (a := a1) (b := 1) (c := 4) with w | ⟨w, w1, w2⟩
  · rw [if_pos w, if_pos w]
    exact ⟨V, M1, -1, rfl, rfl, h0⟩
  rw [w, if_neg n10, if_neg n10]
  rcases isIn_c (a := a2) (b := 0) (c := 1) with y | ⟨y, y1, y2⟩
  · rw [if_pos y, if_pos y]
    exact ⟨V, M1, -1, rfl, rfl, h0⟩
  rw [y, if_neg n10, if_neg n10]
  have z1 : (1 : Int32).toInt = 1 := rfl
  have z4 : (4 : Int32).toInt = 4 := rfl
  obtain ⟨k, hk, rfl⟩ := o_ex (a := a1) (n := 5) (by omega) (by omega)
  rw [i_of (by omega)] at w1
  have hk1 : 1 ≤ k := by omega
  have hk4 : k ≤ 4 := by omega
  obtain ⟨m, hh, t⟩ := hd_of t3
  have t1 := t.1
  have hp : k ^ m ≤ 20000 := by
    have a := Nat.pow_le_pow_left hk4 m
    have b := Nat.pow_le_pow_right (n := 4) (by decide) t1
    have : (4 : Nat) ^ 7 ≤ 20000 := by decide
    omega
  have pp : 0 < k ^ m := Nat.pow_pos hk1
  have pz : ∀ p, p < 4 → V (11, 12, 0) p = 0 := jm'.2.2.2.2.2.2.2.1
  rw [gs_let, gs_let]
  generalize hW : gz_up (gz_up V (10, 0, 0) 13 1000000) (10, 0, 0) 14 1000000 = W
  have fW : frB V W := fun n i hn => by rw [← hW, up_at, if_neg (fun z => hn ⟨z.1, Or.inr z.2⟩), up_at, if_neg (fun z => hn ⟨z.1, Or.inl z.2⟩)]
  have bW : bp W 1001000000 := ⟨1000000, 1000000, by rw [← hW, up_at, if_neg (by decide), up_at, if_pos ⟨rfl, rfl⟩]; rfl, by rw [← hW, up_at, if_pos ⟨rfl, rfl⟩]; rfl, by decide, Or.inr ⟨rfl, rfl⟩⟩
  obtain ⟨V', Ex, q1, q2, q3, q4⟩ := x_pens (N := N) (M := M1) (by omega) hk1 hk4 m 0 (8 - m) (s := fun _ => 0) (V := W) (E := 1001000000) (by omega) (t.fr (fun n j hn => fW n j (by rintro ⟨rfl, -⟩; rcases hn with z | z <;> exact absurd z (by decide)))) (fun p => Nat.zero_le _) (fun p hp => by rw [fW _ _ (by simp)]; exact pz p hp) bW
  obtain ⟨M', Em, r1, r2, r3⟩ := m_best (N := N) (a2 := a2) (by omega) hk1 hk4 t hp (k ^ m) 0 (n := N) (M := M1) (E := 100000000) (by omega) (by omega) (fun _ _ _ => rfl) ⟨Or.inl rfl, Nat.le_refl _, fun v hv => by omega⟩
  obtain ⟨-, -, s0, -⟩ := m_share (N := N) (by omega) hk1 hk4 t (v := 0) (by omega) (M := M1) (fun _ _ _ => rfl)
  have EE : Ex = Em := by
    obtain ⟨a1, a2, a3⟩ := q4
    obtain ⟨b1, b2, b3⟩ := r3
    have x0 := a3 0 pp
    have m0 := b3 0 pp
    dsimp only at x0 m0
    rcases a1 with e | ⟨u, hu, e⟩
    · omega
    · rcases b1 with e' | ⟨u', hu', e'⟩
      · omega
      · have := a3 u' hu'
        have := b3 u hu
        dsimp only at *
        omega
  have Ele : Ex ≤ 300000 := by
    have x0 := q4.2.2 0 pp
    dsimp only at x0
    omega
  rw [show m + 1 + (8 - m) = 9 by omega] at q1
  rw [show x0_shares N 9 W 0 (Int32.ofNat k) = _ from q1, gs_bd, show m_pens_L32 N M1 (Int32.ofNat k) a2 N 1 0 = _ from m_pow (N := N) (k := k) t (a2 := a2) m 0 (n := N) (by omega) (by omega), gs_bd, show m_pens_L59 N (Int32.ofNat k) a2 (Int32.ofNat (k ^ m)) N M1 100000000 0 = _ from r1, gs_b2]
  have J2 : JJ Ds Df V' c M' := by
    refine h0.eq (fun n i hn => ?_) (fun n i hn => r2 n i ?_)
    · have : ¬ (n = (10, 0, 0) ∧ (i = 13 ∨ i = 14)) := by
        rintro ⟨rfl, z⟩
        revert hn
        rcases z with rfl | rfl <;> simp [jx]
      rw [q2 n i this, fW n i this]
    · rintro rfl
      revert hn
      simp [jm, relM]
  obtain ⟨a, b, k1, k2, k3, k4⟩ := q3
  have ab : a ≤ 1000 ∧ b < 1000 := by omega
  rw [k1, k2, ← EE, show (1000 : Int32) = Int32.ofNat 1000 from rfl, o_div (by omega) (by omega), o_mul, o_sub (Nat.div_mul_le_self _ _) (by omega)]
  by_cases e : a2 = 0
  · rw [if_pos e, if_pos e]
    refine ⟨V', M', Int32.ofNat a, rfl, ?_, J2⟩
    congr 3
    omega
  · rw [if_neg e, if_neg e]
    refine ⟨V', M', Int32.ofNat b, rfl, ?_, J2⟩
    congr 3
    omega
