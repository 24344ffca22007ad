/-! walk -/
set_option maxRecDepth 100000
section WALK
variable {N P : Nat} {K : Nat → Nat} {Ds : gz_S} {Df : gz_R} {V M : gz_V}
/-- a mask by its rule -/
def isM (A : Nat) (f : Nat → Bool) (l h : Nat) : Prop := ∀ i, A.testBit i = (decide (l ≤ i) && decide (i < h) && f i)
theorem isM.eq {A B l h : Nat} {f : Nat → Bool} (h1 : isM A f l h) (h2 : isM B f l h) : A = B := Nat.eq_of_testBit_eq (fun i => (h1 i).trans (h2 i).symm)
theorem isM.lt {A l h : Nat} {f : Nat → Bool} (h1 : isM A f l h) : A < 2 ^ h := bt_lt (fun i hi => by rw [h1 i]; simp; omega)
theorem isM.up {A t : Nat} {f : Nat → Bool} (h1 : isM A f 0 t) : isM (A ||| (if f t = true then 2 ^ t else 0)) f 0 (t + 1) := fun i => by
  rw [Nat.testBit_or, h1 i]
  by_cases q : f t = true
  · rw [if_pos q, bt_p2]
    by_cases e : t = i
    · subst e; simp [q]
    · by_cases e2 : i < t
      · have : i < t + 1 := by omega
        simp [e, e2, this]
      · have : ¬ i < t + 1 := by omega
        simp [e, e2, this]
  · rw [if_neg q, Nat.zero_testBit]
    by_cases e : t = i
    · subst e; simp [q]
    · by_cases e2 : i < t
      · have : i < t + 1 := by omega
        simp [e2, this]
      · have : ¬ i < t + 1 := by omega
        simp [e2, this]
theorem isM.down {A t h : Nat} {f : Nat → Bool} (ht : t < h) (h1 : isM A f (t + 1) h) : isM (A ||| (if f t = true then 2 ^ t else 0)) f t h := fun i => by
  rw [Nat.testBit_or, h1 i]
  by_cases q : f t = true
  · rw [if_pos q, bt_p2]
    by_cases e : t = i
    · subst e; simp [q, ht]
    · by_cases e2 : t + 1 ≤ i
      · have : t ≤ i := by omega
        simp [e, e2, this]
      · have : ¬ t ≤ i := by omega
        simp [e, e2, this]
  · rw [if_neg q, Nat.zero_testBit]
    by_cases e : t = i
    · subst e; simp [q]
    · by_cases e2 : t + 1 ≤ i
      · have : t ≤ i := by omega
        simp [e2, this]
      · have : ¬ t ≤ i := by omega
        simp [e2, this]
def wkF (K : Nat → Nat) (i : Nat) : Bool := decide (K i ≠ 0)
def odF (K : Nat → Nat) (i : Nat) : Bool := decide (onK 12 (K i) % 2 = 1)
theorem x_with (t : knT Ds Df V M P K) : ∀ (d k : Nat) {n A : Nat}, k + d = P → d < n → isM A (wkF K) 0 k → ∃ B, x0_withKin_L4 N Ds Df V n (Int32.ofNat A) (Int32.ofNat k) = some (Int32.ofNat B) ∧ isM B (wkF K) 0 P := by
  obtain ⟨t1, t2, t3, ⟨nn, t4, t5, t6, t7⟩, t8, t9⟩ := id t
  intro d
  induction d with
  | zero =>
    intro k n A hk hn h
    obtain ⟨n, rfl⟩ : ∃ z, n = z + 1 := ⟨n - 1, by omega⟩
    have : k = P := by omega
    subst this
    exact ⟨A, by rw [x0_withKin_L4, t2, if_pos (i_le.mpr (Int.le_refl _))], h⟩
  | succ d ih =>
    intro k n A hk hn h
    obtain ⟨n, rfl⟩ : ∃ z, n = z + 1 := ⟨n - 1, by omega⟩
    have e1 : Int32.ofNat k + 1 = Int32.ofNat (k + 1) := o_addr 1 k
    obtain ⟨B, r1, r2⟩ := ih (k + 1) (n := n) (by omega) (by omega) h.up
    refine ⟨B, ?_, r2⟩
    have lK := bt_4096 t1 (t8 k (by omega)).2
    rw [x0_withKin_L4, t2, if_neg (by rw [o_le (by omega) (by omega)]; omega), t4, gs_bd, gs_gd ⟨t5, t6⟩, gs_gd (o_inb (by omega) (by omega)), o_nat (by omega), t7 k (by omega), e1, bt_sh k (by omega), gs_let, gs_let, ← r1]
    congr 1
    by_cases q : K k = 0
    · rw [if_pos (by rw [bt_z (by omega)]; exact q), if_neg (by simp [wkF, q]), show (0 : Int32) = Int32.ofNat 0 from rfl, bt_or]
    · rw [if_neg (by rw [bt_z (by omega)]; exact q), if_pos (by simp [wkF, q]), bt_or]
theorem on_par {S : Nat} (h : S < 4096) : (Int32.ofNat (onK 12 S) - Int32.ofNat (onK 12 S) / 2 * 2 = 1) ↔ onK 12 S % 2 = 1 := by
  have l := bt_12 h
  rw [show (2 : Int32) = Int32.ofNat 2 from rfl, o_mod (by omega) (by omega), show (1 : Int32) = Int32.ofNat 1 from rfl, o_eq (by omega) (by omega)]
theorem x_oddk (t : knT Ds Df V M P K) : ∀ (d k : Nat) {n A : Nat}, k + d = P → d < n → isM A (odF K) 0 k → ∃ B, x0_oddKin_L4 N Ds Df V n (Int32.ofNat A) (Int32.ofNat k) = some (Int32.ofNat B) ∧ isM B (odF K) 0 P := by
  obtain ⟨t1, t2, t3, ⟨nn, t4, t5, t6, t7⟩, t8, t9⟩ := id t
  intro d
  induction d with
  | zero =>
    intro k n A hk hn h
    obtain ⟨n, rfl⟩ : ∃ z, n = z + 1 := ⟨n - 1, by omega⟩
    have : k = P := by omega
    subst this
    exact ⟨A, by rw [x0_oddKin_L4, t2, if_pos (i_le.mpr (Int.le_refl _))], h⟩
  | succ d ih =>
    intro k n A hk hn h
    obtain ⟨n, rfl⟩ : ∃ z, n = z + 1 := ⟨n - 1, by omega⟩
    have e1 : Int32.ofNat k + 1 = Int32.ofNat (k + 1) := o_addr 1 k
    obtain ⟨B, r1, r2⟩ := ih (k + 1) (n := n) (by omega) (by omega) h.up
    refine ⟨B, ?_, r2⟩
    have lK := bt_4096 t1 (t8 k (by omega)).2
    rw [x0_oddKin_L4, t2, if_neg (by rw [o_le (by omega) (by omega)]; omega), t4, gs_bd, gs_gd ⟨t5, t6⟩, gs_gd (o_inb (by omega) (by omega)), o_nat (by omega), t7 k (by omega), e1, bt_sh k (by omega), bt_cnt lK, gs_let, gs_let, ← r1]
    congr 1
    by_cases q : onK 12 (K k) % 2 = 1
    · rw [if_pos ((on_par lK).mpr q), if_pos (by simp [odF, q]), bt_or]
    · rw [if_neg (fun z => q ((on_par lK).mp z)), if_neg (by simp [odF]; omega), show (0 : Int32) = Int32.ofNat 0 from rfl, bt_or]
theorem m_both (hN : 500 ≤ N) {v : Int32} (t : knT Ds Df V M P K) : ∀ (k : Nat) {n A B : Nat}, k ≤ P → k < n → isM A (wkF K) k P → isM B (odF K) k P → ∃ A' B', m_walk_L29 N M v n (Int32.ofNat A) (Int32.ofNat B) (Int32.ofNat k - 1) = some (Int32.ofNat A', Int32.ofNat B') ∧ isM A' (wkF K) 0 P ∧ isM B' (odF K) 0 P := by
  obtain ⟨t1, t2, t3, t4, t8, t9⟩ := id t
  intro k
  induction k with
  | zero =>
    intro n A B hk hn hA hB
    obtain ⟨n, rfl⟩ : ∃ z, n = z + 1 := ⟨n - 1, by omega⟩
    exact ⟨A, B, by rw [m_walk_L29, if_pos (by decide)], hA, hB⟩
  | succ k ih =>
    intro n A B hk hn hA hB
    obtain ⟨n, rfl⟩ : ∃ z, n = z + 1 := ⟨n - 1, by omega⟩
    have e0 : Int32.ofNat (k + 1) - 1 = Int32.ofNat k := o_sub (c := 1) (by omega) (by omega)
    obtain ⟨A', B', r1, r2, r3⟩ := ih (n := n) (by omega) (by omega) (hA.down (by omega)) (hB.down (by omega))
    refine ⟨A', B', ?_, r2, r3⟩
    have lK := bt_4096 t1 (t8 k (by omega)).2
    have nl : ¬ Int32.ofNat k < 0 := by rw [show (0 : Int32) = Int32.ofNat 0 from rfl, o_lt (by omega) (by omega)]; omega
    have em : Int32.ofNat k + -1 = Int32.ofNat k - 1 := (Int32.sub_eq_add_neg _ _).symm
    have eA : (if Int32.ofNat (K k) = 0 then Int32.ofNat A else Int32.ofNat A ||| Int32.ofNat (2 ^ k)) = Int32.ofNat (A ||| (if wkF K k = true then 2 ^ k else 0)) := by
      by_cases q : K k = 0
      · rw [if_pos (by rw [bt_z (by omega)]; exact q), if_neg (by simp [wkF, q]), Nat.or_zero]
      · rw [if_neg (by rw [bt_z (by omega)]; exact q), if_pos (by simp [wkF, q]), bt_or]
    have eB : (if Int32.ofNat (onK 12 (K k)) - Int32.ofNat (onK 12 (K k)) / 2 * 2 = 1 then Int32.ofNat B ||| Int32.ofNat (2 ^ k) else Int32.ofNat B) = Int32.ofNat (B ||| (if odF K k = true then 2 ^ k else 0)) := by
      by_cases q : onK 12 (K k) % 2 = 1
      · rw [if_pos ((on_par lK).mpr q), if_pos (by simp [odF, q]), bt_or]
      · rw [if_neg (fun z => q ((on_par lK).mp z)), if_neg (by simp [odF]; omega), Nat.or_zero]
    rw [m_walk_L29, e0, if_neg nl, gs_gd (o_inb (by omega) (by omega)), gs_let, gs_gd (o_inb (by omega) (by omega)), o_nat (by omega), (t8 k (by omega)).1, m_ones hN lK, gs_bd, bt_sh k (by omega), em, gs_let, gs_let, gs_let, eA, eB]
    exact r1
/-! closure -/
/-- a set that no kin leads out of -/
def clS (K : Nat → Nat) (P T : Nat) : Prop := ∀ p, p < P → T.testBit p = true → ∀ i, (K p).testBit i = true → T.testBit i = true
/-- all that must be in it -/
def lsS (K : Nat → Nat) (P l S : Nat) : Prop := S.testBit l = true ∧ ∀ T, clS K P T → T.testBit l = true → ∀ i, S.testBit i = true → T.testBit i = true
theorem ls_eq {l A B : Nat} (h1 : lsS K P l A) (h2 : lsS K P l B) (c1 : clS K P A) (c2 : clS K P B) : A = B := Nat.eq_of_testBit_eq (fun i => bool_iff ⟨h1.2 B c2 h2.1 i, h2.2 A c1 h1.1 i⟩)
theorem x_close (hN : 500 ≤ N) (t : knT Ds Df V M P K) {l : Nat} {v1 v2 : Int32} : ∀ (d S : Nat) {n : Nat}, 4096 ≤ S + d → S < 2 ^ P → d < n → lsS K P l S → ∃ S', x0_walk_L21 N Ds Df V v1 v2 n (Int32.ofNat S) = some (Int32.ofNat S') ∧ S' < 2 ^ P ∧ lsS K P l S' ∧ clS K P S' := by
  have t1 := t.1
  intro d
  induction d with
  | zero =>
    intro S n h1 h2
    have := bt_4096 t1 h2
    omega
  | succ d ih =>
    intro S n h1 hS hn hl
    obtain ⟨n, rfl⟩ : ∃ z, n = z + 1 := ⟨n - 1, by omega⟩
    have lk := kbF_lt t hS P (Nat.le_refl P)
    have l1 := bt_4096 t1 hS
    have l2 := bt_4096 t1 lk
    have ge : S ≤ kbF K S P := kbF_ge P
    rw [x0_walk_L21, x_beside hN t hS, gs_bd, gs_bd]
    by_cases q : kbF K S P = S
    · rw [if_pos (by rw [q])]
      refine ⟨S, rfl, hS, hl, fun p hp h2 i hi => ?_⟩
      rw [← q, kbF_iff]
      exact Or.inr ⟨p, hp, h2, hi⟩
    · rw [if_neg (by rw [o_eq (by omega) (by omega)]; exact q)]
      refine ih (kbF K S P) (by omega) lk (by omega) ⟨(kbF_iff P).mpr (Or.inl hl.1), fun T hT hTl i hi => ?_⟩
      rcases (kbF_iff P).mp hi with q | ⟨p, p1, p2, p3⟩
      · exact hl.2 T hT hTl i q
      · exact hT p p1 (hl.2 T hT hTl p p2) i p3
/-- one pass in place -/
theorem m_pass (t : knT Ds Df V M P K) {l S0 : Nat} {v3 : Int32} : ∀ (d k : Nat) {n S : Nat}, k + d = P → d < n → S < 2 ^ P → (∀ i, S0.testBit i = true → S.testBit i = true) → (lsS K P l S0 → lsS K P l S) → (S = S0 → ∀ p, p < k → S0.testBit p = true → ∀ i, (K p).testBit i = true → S0.testBit i = true) → ∃ S', m_kinOfKin_L15 N M v3 n (Int32.ofNat S) (Int32.ofNat k) = some (Int32.ofNat S') ∧ S' < 2 ^ P ∧ (∀ i, S0.testBit i = true → S'.testBit i = true) ∧ (lsS K P l S0 → lsS K P l S') ∧ (S' = S0 → clS K P S0) := by
  obtain ⟨t1, t2, t3, t4, t8, t9⟩ := id t
  intro d
  induction d with
  | zero =>
    intro k n S hk hn hS h1 h2 h3
    obtain ⟨n, rfl⟩ : ∃ z, n = z + 1 := ⟨n - 1, by omega⟩
    have : k = P := by omega
    subst this
    exact ⟨S, by rw [m_kinOfKin_L15, t3, if_pos (i_le.mpr (Int.le_refl _))], hS, h1, h2, h3⟩
  | succ d ih =>
    intro k n S hk hn hS h1 h2 h3
    obtain ⟨n, rfl⟩ : ∃ z, n = z + 1 := ⟨n - 1, by omega⟩
    have e1 : Int32.ofNat k + 1 = Int32.ofNat (k + 1) := o_addr 1 k
    have l1 := bt_4096 t1 hS
    rw [m_kinOfKin_L15, t3, if_neg (by rw [o_le (by omega) (by omega)]; omega), e1]
    by_cases q : S.testBit k = true
    · rw [if_neg (by rw [bt_m0 (by omega) (by omega)]; simp [q]), gs_gd (o_inb (by omega) (by omega)), gs_let, gs_bd, o_nat (by omega), (t8 k (by omega)).1, bt_or]
      refine ih (k + 1) (by omega) (by omega) (bt_orlt hS (t8 k (by omega)).2) (fun i hi => by rw [Nat.testBit_or, h1 i hi]; rfl) (fun hl => ?_) (fun e p hp hp2 i hi => ?_)
      · have := h2 hl
        refine ⟨by rw [Nat.testBit_or, this.1]; rfl, fun T hT hTl i hi => ?_⟩
        rw [Nat.testBit_or, Bool.or_eq_true] at hi
        rcases hi with z | z
        · exact this.2 T hT hTl i z
        · exact hT k (by omega) (this.2 T hT hTl k q) i z
      · have es : S = S0 := by
          apply Nat.eq_of_testBit_eq
          intro j
          apply bool_iff
          refine ⟨fun z => ?_, h1 j⟩
          rw [← e, Nat.testBit_or, z]
          rfl
        by_cases pk : p = k
        · subst pk
          rw [← e, Nat.testBit_or, hi, Bool.or_true]
        · exact h3 es p (by omega) hp2 i hi
    · rw [if_pos (by rw [bt_m0 (by omega) (by omega)]; simpa using q), gs_bd]
      refine ih (k + 1) (by omega) (by omega) hS h1 h2 (fun e p hp hp2 i hi => ?_)
      by_cases pk : p = k
      · subst pk
        rw [← e] at hp2
        exact absurd hp2 q
      · exact h3 e p (by omega) hp2 i hi
theorem m_twelve (hN : 500 ≤ N) (t : knT Ds Df V M P K) {l : Nat} : ∀ (d k : Nat) {n S : Nat}, k + d = 12 → d < n → S < 2 ^ P → lsS K P l S → (clS K P S ∨ k + 1 ≤ sgC (fun i => S.testBit i) 12) → ∃ S', m_kinOfKin_L6 N M n (Int32.ofNat S) (Int32.ofNat k) = some (Int32.ofNat S') ∧ S' < 2 ^ P ∧ lsS K P l S' ∧ clS K P S' := by
  have t1 := t.1
  intro d
  induction d with
  | zero =>
    intro k n S hk hn hS hl hc
    obtain ⟨n, rfl⟩ : ∃ z, n = z + 1 := ⟨n - 1, by omega⟩
    have : k = 12 := by omega
    subst this
    refine ⟨S, by rw [m_kinOfKin_L6, if_pos (by decide)], hS, hl, ?_⟩
    rcases hc with q | q
    · exact q
    · have := sgC_le (fun i => S.testBit i) 12
      omega
  | succ d ih =>
    intro k n S hk hn hS hl hc
    obtain ⟨n, rfl⟩ : ∃ z, n = z + 1 := ⟨n - 1, by omega⟩
    have e1 : Int32.ofNat k + 1 = Int32.ofNat (k + 1) := o_addr 1 k
    obtain ⟨S', r1, r2, r3, r4, r5⟩ := m_pass (N := N) t (l := l) (S0 := S) (v3 := Int32.ofNat k) P 0 (n := N) (S := S) (by omega) (by omega) hS (fun _ h => h) (fun h => h) (fun _ p hp => by omega)
    rw [m_kinOfKin_L6, if_neg (by rw [show (12 : Int32) = Int32.ofNat 12 from rfl, o_le (by omega) (by omega)]; omega), show m_kinOfKin_L15 N M (Int32.ofNat k) N (Int32.ofNat S) 0 = _ from r1, gs_bd, e1]
    refine ih (k + 1) (by omega) (by omega) r2 (r4 hl) ?_
    by_cases e : S' = S
    · rw [e]; exact Or.inl (r5 e)
    · by_cases cl : clS K P S
      · exfalso
        apply e
        exact Nat.eq_of_testBit_eq (fun i => bool_iff ⟨fun z => (r4 hl).2 S cl hl.1 i z, r3 i⟩)
      · rcases hc with q | q
        · exact absurd q cl
        · refine Or.inr ?_
          have : ∃ j, j < 12 ∧ S.testBit j = false ∧ S'.testBit j = true := Classical.byContradiction (fun z => e (Nat.eq_of_testBit_eq (fun i => by
            by_cases hi : i < 12
            · cases q1 : S.testBit i
              · cases q2 : S'.testBit i
                · rfl
                · exact absurd ⟨i, hi, q1, q2⟩ z
              · exact r3 i q1
            · rw [bt_tf (k := 12) (bt_4096 t1 r2) (by omega), bt_tf (k := 12) (bt_4096 t1 hS) (by omega)])))
          have lt := (sgC_lt (f := fun i => S.testBit i) (g := fun i => S'.testBit i) 12 (fun i _ h => r3 i h)).2 this
          omega
end WALK
