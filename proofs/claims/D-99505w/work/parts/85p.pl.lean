/-! could -/
set_option maxRecDepth 100000
section COULD
variable {N m : Nat} {V M : gz_V}
/-- the first of the greatest -/
def FM (f : Nat → Nat) (c : Nat → Prop) (i b : Nat) : Prop := b < i ∧ c b ∧ (∀ j, j < i → c j → f j ≤ f b) ∧ ∀ j, j < b → c j → f j < f b
def FO (f : Nat → Nat) (c : Nat → Prop) (i : Nat) (r : Int32) : Prop := (r = -1 ∧ ∀ j, j < i → ¬ c j) ∨ ∃ b, r = Int32.ofNat b ∧ FM f c i b
theorem FO.skip {f : Nat → Nat} {c : Nat → Prop} {i : Nat} {r : Int32} (h : FO f c i r) (hc : ¬ c i) : FO f c (i + 1) r := by
  rcases h with ⟨h, h2⟩ | ⟨b, h, h1, h2, h3, h4⟩
  · refine Or.inl ⟨h, fun j hj => ?_⟩
    by_cases e : j = i
    · subst e; exact hc
    · exact h2 j (by omega)
  · refine Or.inr ⟨b, h, by omega, h2, fun j hj cj => ?_, h4⟩
    by_cases e : j = i
    · subst e; exact absurd cj hc
    · exact h3 j (by omega) cj
theorem FO.new {f : Nat → Nat} {c : Nat → Prop} {i : Nat} (h2 : ∀ j, j < i → ¬ c j) (hc : c i) : FO f c (i + 1) (Int32.ofNat i) := Or.inr ⟨i, rfl, by omega, hc, fun j hj cj => by
  by_cases e : j = i
  · subst e; exact Nat.le_refl _
  · exact absurd cj (h2 j (by omega)), fun j hj cj => absurd cj (h2 j hj)⟩
theorem FM.keep {f : Nat → Nat} {c : Nat → Prop} {i b : Nat} (h : FM f c i b) (hf : f i ≤ f b) : FM f c (i + 1) b := by
  obtain ⟨h1, h2, h3, h4⟩ := h
  refine ⟨by omega, h2, fun j hj cj => ?_, h4⟩
  by_cases e : j = i
  · subst e; exact hf
  · exact h3 j (by omega) cj
theorem FM.more {f : Nat → Nat} {c : Nat → Prop} {i b : Nat} (h : FM f c i b) (hc : c i) (hf : f b < f i) : FM f c (i + 1) i := by
  obtain ⟨h1, h2, h3, h4⟩ := h
  refine ⟨by omega, hc, fun j hj cj => ?_, fun j hj cj => ?_⟩
  · by_cases e : j = i
    · subst e; exact Nat.le_refl _
    · have := h3 j (by omega) cj; omega
  · have := h3 j hj cj; omega
theorem FM.uq {f : Nat → Nat} {c : Nat → Prop} {i b b' : Nat} (h : FM f c i b) (h' : FM f c i b') : b = b' := by
  obtain ⟨h1, h2, h3, h4⟩ := h
  obtain ⟨k1, k2, k3, k4⟩ := h'
  have a1 := h3 b' k1 k2
  have a2 := k3 b h1 h2
  by_cases e : b < b'
  · have := k4 b e h2; omega
  · by_cases e2 : b' < b
    · have := h4 b' e2 k2; omega
    · omega
theorem n_m1 {b : Nat} (h : b < 100) : ¬ Int32.ofNat b = -1 := (show ∀ b, b < 100 → ¬ Int32.ofNat b = -1 by decide) b h
/-- x: the greatest of all -/
theorem x_g {A : Nat → Nat} (hm : m ≤ 9) (hA : ∀ i, i < m → A i ≤ 8 ∧ V (95, 0, 0) i = Int32.ofNat (A i)) : ∀ (d i : Nat) {n b : Nat}, i + d = m → d < n → FM A (fun _ => True) i b → ∃ g, could_g V (Int32.ofNat m) n (Int32.ofNat b) (Int32.ofNat i) = some (Int32.ofNat g) ∧ FM A (fun _ => True) m g := by
  intro d
  induction d with
  | zero =>
    intro i n b hi hn h
    obtain ⟨n, rfl⟩ : ∃ z, n = z + 1 := ⟨n - 1, by omega⟩
    have : i = m := by omega
    subst this
    exact ⟨b, by rw [could_g, if_pos (i_le.mpr (Int.le_refl _))], h⟩
  | succ d ih =>
    intro i n b hi hn h
    obtain ⟨n, rfl⟩ : ∃ z, n = z + 1 := ⟨n - 1, by omega⟩
    have e1 : Int32.ofNat i + 1 = Int32.ofNat (i + 1) := o_addr 1 i
    have hb := h.1
    have mn : (Int32.ofNat m).toNatClampNeg = m := o_nat (by omega)
    have a1 := hA i (by omega)
    have a2 := hA b (by omega)
    rw [could_g, if_neg (by rw [o_le (by omega) (by omega)]; omega), mn, gs_gd (o_inb (by omega) (by omega)), gs_gd (o_inb (by omega) (by omega)), o_nat (by omega), o_nat (by omega), a1.2, a2.2, e1]
    by_cases q : A i ≤ A b
    · rw [if_pos (by rw [o_le (by omega) (by omega)]; exact q)]
      exact ih (i + 1) (by omega) (by omega) (h.keep q)
    · rw [if_neg (by rw [o_le (by omega) (by omega)]; exact q)]
      exact ih (i + 1) (by omega) (by omega) (h.more trivial (by omega))
/-- x: the next to be told -/
theorem x_i {A u : Nat → Nat} (hm : m ≤ 9) (hA : ∀ i, i < m → A i ≤ 8 ∧ V (95, 0, 0) i = Int32.ofNat (A i)) (hu : ∀ i, i < m → u i ≤ 1 ∧ V (96, 0, 0) i = Int32.ofNat (u i)) : ∀ (d i : Nat) {n : Nat} {r : Int32}, i + d = m → d < n → FO A (fun j => u j = 0 ∧ 0 < A j) i r → ∃ r', could_i V (Int32.ofNat m) n r (Int32.ofNat i) = some r' ∧ FO A (fun j => u j = 0 ∧ 0 < A j) m r' := by
  intro d
  induction d with
  | zero =>
    intro i n r hi hn h
    obtain ⟨n, rfl⟩ : ∃ z, n = z + 1 := ⟨n - 1, by omega⟩
    have : i = m := by omega
    subst this
    exact ⟨r, by rw [could_i, if_pos (i_le.mpr (Int.le_refl _))], h⟩
  | succ d ih =>
    intro i n r hi hn h
    obtain ⟨n, rfl⟩ : ∃ z, n = z + 1 := ⟨n - 1, by omega⟩
    have e1 : Int32.ofNat i + 1 = Int32.ofNat (i + 1) := o_addr 1 i
    have mn : (Int32.ofNat m).toNatClampNeg = m := o_nat (by omega)
    have a1 := hA i (by omega)
    have u1 := hu i (by omega)
    rw [could_i, if_neg (by rw [o_le (by omega) (by omega)]; omega), mn, gs_gd (o_inb (by omega) (by omega)), o_nat (by omega), a1.2, u1.2, e1]
    by_cases q : u i = 0
    · rw [if_pos (by rw [bt_z (by omega)]; exact q)]
      by_cases q2 : A i = 0
      · rw [if_pos (by rw [show (0 : Int32) = Int32.ofNat 0 from rfl, o_le (by omega) (by omega)]; omega)]
        exact ih (i + 1) (by omega) (by omega) (h.skip (fun z => by have := z.2; omega))
      · rw [if_neg (by rw [show (0 : Int32) = Int32.ofNat 0 from rfl, o_le (by omega) (by omega)]; omega)]
        have ci : u i = 0 ∧ 0 < A i := ⟨q, by omega⟩
        rcases h with ⟨rfl, h2⟩ | ⟨b, rfl, h⟩
        · rw [if_pos rfl]
          exact ih (i + 1) (by omega) (by omega) (FO.new h2 ci)
        · have hb := h.1
          have a2 := hA b (by omega)
          rw [if_neg (n_m1 (by omega)), gs_gd (o_inb (by omega) (by omega)), o_nat (by omega), a2.2]
          by_cases q3 : A i ≤ A b
          · rw [if_pos (by rw [o_le (by omega) (by omega)]; exact q3)]
            exact ih (i + 1) (by omega) (by omega) (Or.inr ⟨b, rfl, h.keep q3⟩)
          · rw [if_neg (by rw [o_le (by omega) (by omega)]; exact q3)]
            exact ih (i + 1) (by omega) (by omega) (Or.inr ⟨i, rfl, h.more ci (by omega)⟩)
    · rw [if_neg (by rw [bt_z (by omega)]; exact q)]
      exact ih (i + 1) (by omega) (by omega) (h.skip (fun z => q z.1))
/-- the twin: the greatest but those -/
theorem m_gb {B : Nat → Nat} {E : Nat} (hm : m ≤ 9) (hE : E < 512) (h51 : M (1, 0, 0) 51 = Int32.ofNat m) (hB : ∀ i, i < m → B i ≤ 8 ∧ M (2, 53, 0) i = Int32.ofNat (B i)) : ∀ (d i : Nat) {n : Nat} {r : Int32}, i + d = m → d < n → FO B (fun j => E.testBit j = false) i r → ∃ r', m_greatestBut_L4 N M (Int32.ofNat E) n r (Int32.ofNat i) = some r' ∧ FO B (fun j => E.testBit j = false) m r' := by
  intro d
  induction d with
  | zero =>
    intro i n r hi hn h
    obtain ⟨n, rfl⟩ : ∃ z, n = z + 1 := ⟨n - 1, by omega⟩
    have : i = m := by omega
    subst this
    exact ⟨r, by rw [m_greatestBut_L4, h51, if_pos (i_le.mpr (Int.le_refl _))], h⟩
  | succ d ih =>
    intro i n r hi hn h
    obtain ⟨n, rfl⟩ : ∃ z, n = z + 1 := ⟨n - 1, by omega⟩
    have e1 : Int32.ofNat i + 1 = Int32.ofNat (i + 1) := o_addr 1 i
    have a1 := hB i (by omega)
    rw [m_greatestBut_L4, h51, if_neg (by rw [o_le (by omega) (by omega)]; omega), e1]
    by_cases q : E.testBit i = false
    · rw [if_pos (by rw [bt_m0 (by omega) (by omega)]; exact q)]
      rcases h with ⟨rfl, h2⟩ | ⟨b, rfl, h⟩
      · rw [if_pos rfl, gs_bd]
        exact ih (i + 1) (by omega) (by omega) (FO.new h2 q)
      · have hb := h.1
        have a2 := hB b (by omega)
        rw [if_neg (n_m1 (by omega)), gs_gd (o_inb (by omega) (by omega)), gs_gd (o_inb (by omega) (by omega)), o_nat (by omega), o_nat (by omega), a1.2, a2.2]
        by_cases q3 : B i ≤ B b
        · rw [if_pos (by rw [o_le (by omega) (by omega)]; exact q3), gs_bd]
          exact ih (i + 1) (by omega) (by omega) (Or.inr ⟨b, rfl, h.keep q3⟩)
        · rw [if_neg (by rw [o_le (by omega) (by omega)]; exact q3), gs_bd]
          exact ih (i + 1) (by omega) (by omega) (Or.inr ⟨i, rfl, h.more q (by omega)⟩)
    · rw [if_neg (by rw [bt_m0 (by omega) (by omega)]; exact q), gs_bd]
      exact ih (i + 1) (by omega) (by omega) (h.skip q)
theorem m_great {B : Nat → Nat} {E : Nat} (hN : 500 ≤ N) (hm : m ≤ 9) (hE : E < 512) (h51 : M (1, 0, 0) 51 = Int32.ofNat m) (hB : ∀ i, i < m → B i ≤ 8 ∧ M (2, 53, 0) i = Int32.ofNat (B i)) : ∃ r, m_greatestBut N M (Int32.ofNat E) = some r ∧ FO B (fun j => E.testBit j = false) m r := by
  obtain ⟨r, r1, r2⟩ := m_gb (N := N) hm hE h51 hB m 0 (n := N) (r := -1) (by omega) (by omega) (Or.inl ⟨rfl, fun j hj => by omega⟩)
  refine ⟨r, ?_, r2⟩
  unfold m_greatestBut
  rw [show m_greatestBut_L4 N M (Int32.ofNat E) N (-1) 0 = _ from r1, gs_bd]
/-- both worlds -/
def cdT (m : Nat) (D : Nat) (A B u : Nat → Nat) (V M : gz_V) : Prop := (∀ i, i < m → A i ≤ 8 ∧ V (95, 0, 0) i = Int32.ofNat (A i)) ∧ (∀ i, i < m → u i ≤ 1 ∧ V (96, 0, 0) i = Int32.ofNat (u i)) ∧ (∀ i, i < m → B i ≤ 8 ∧ M (2, 53, 0) i = Int32.ofNat (B i)) ∧ M (1, 0, 0) 51 = Int32.ofNat m ∧ ∀ i, i < m → A i = if D.testBit i = true then 0 else B i
theorem fr512 {E b : Nat} (hE : E < 512) (hb : b < 9) : E ||| 2 ^ b < 512 := bt_orlt (k := 9) hE (bt_pl hb)
theorem z_k (hN : 500 ≤ N) (hm : m ≤ 9) {D : Nat} {M0 : gz_V} {v1 v2 : Int32} : ∀ (c j : Nat) {n n2 E : Nat} {A B u : Nat → Nat} {V M : gz_V}, j + c ≤ 8 → c < n → c < n2 → E < 512 → cdT m D A B u V M → (∀ i, i < m → (E.testBit i = true ↔ D.testBit i = true ∨ u i = 1)) → (∀ n i, n ≠ (2, 53, 0) → M n i = M0 n i) →
    (∃ V' M' A' B' u', could_k N (Int32.ofNat m) (Int32.ofNat (j + c)) n V (Int32.ofNat j) = some (V', false) ∧ m_could_L68 N v1 v2 n2 M (Int32.ofNat E) (Int32.ofNat c) = some (.inr M') ∧ cdT m D A' B' u' V' M' ∧ ∀ n i, n ≠ (2, 53, 0) → M' n i = M0 n i) ∨ (∃ V' M', could_k N (Int32.ofNat m) (Int32.ofNat (j + c)) n V (Int32.ofNat j) = some (V', true) ∧ m_could_L68 N v1 v2 n2 M (Int32.ofNat E) (Int32.ofNat c) = some (.inl (M', 0)) ∧ ∀ n i, n ≠ (2, 53, 0) → M' n i = M0 n i) := by
  intro c
  induction c with
  | zero =>
    intro j n n2 E A B u V M hc hn hn2 hE t hEu hM
    obtain ⟨n, rfl⟩ : ∃ z, n = z + 1 := ⟨n - 1, by omega⟩
    obtain ⟨n2, rfl⟩ : ∃ z, n2 = z + 1 := ⟨n2 - 1, by omega⟩
    refine Or.inl ⟨V, M, A, B, u, ?_, ?_, t, hM⟩
    · rw [could_k, Nat.add_zero, if_pos (i_le.mpr (Int.le_refl _))]
    · rw [m_could_L68, if_pos (by decide)]
  | succ c ih =>
    intro j n n2 E A B u V M hc hn hn2 hE t hEu hM
    obtain ⟨n, rfl⟩ : ∃ z, n = z + 1 := ⟨n - 1, by omega⟩
    obtain ⟨n2, rfl⟩ : ∃ z, n2 = z + 1 := ⟨n2 - 1, by omega⟩
    obtain ⟨tA, tu, tB, t51, tD⟩ := t
    have e1 : Int32.ofNat j + 1 = Int32.ofNat (j + 1) := o_addr 1 j
    have mn : (Int32.ofNat m).toNatClampNeg = m := o_nat (by omega)
    obtain ⟨x, x1, x2⟩ := x_i hm tA tu m 0 (n := N) (r := -1) (by omega) (by omega) (Or.inl ⟨rfl, fun j hj => by omega⟩)
    obtain ⟨r, r1, r2⟩ := m_great (N := N) hN hm hE t51 tB
    rw [could_k, if_neg (by rw [o_le (by omega) (by omega)]; omega), show could_i V (Int32.ofNat m) N (-1) 0 = _ from x1, gs_bd, m_could_L68, if_neg (show ¬ Int32.ofNat (c + 1) ≤ 0 by rw [show (0 : Int32) = Int32.ofNat 0 from rfl, o_le (by omega) (by omega)]; omega), r1, gs_bd]
    have cand : ∀ i, i < m → ((u i = 0 ∧ 0 < A i) ↔ (E.testBit i = false ∧ 0 < B i)) := fun i hi => by
      have h1 := hEu i hi
      have h2 := tD i hi
      have h3 := (tu i hi).1
      by_cases qD : D.testBit i = true
      · rw [if_pos qD] at h2
        have := h1.mpr (Or.inl qD)
        constructor
        · intro z; omega
        · intro z; rw [this] at z; exact absurd z.1 (by decide)
      · rw [if_neg qD] at h2
        rw [h2]
        constructor
        · intro z
          refine ⟨?_, z.2⟩
          cases q : E.testBit i
          · rfl
          · rcases h1.mp q with w | w
            · exact absurd w qD
            · omega
        · intro z
          refine ⟨?_, z.2⟩
          by_cases q : u i = 1
          · rw [h1.mpr (Or.inr q)] at z; exact absurd z.1 (by decide)
          · omega
    rcases r2 with ⟨rfl, r3⟩ | ⟨b, rfl, b1, b2, b3, b4⟩
    · -- nobody is left
      have xn : x = -1 := by
        rcases x2 with ⟨q, -⟩ | ⟨b, rfl, b1, b2, -⟩
        · exact q
        · exact absurd ((cand b b1).mp b2).1 (r3 b b1)
      rw [xn, if_pos rfl, if_pos rfl]
      exact Or.inr ⟨V, M, rfl, rfl, hM⟩
    · have bB := tB b b1
      rw [if_neg (n_m1 (by omega)), gs_gd (o_inb (show b < 9 by omega) (by omega)), o_nat (show b < 2147483648 by omega), bB.2]
      by_cases q0 : B b = 0
      · have xn : x = -1 := by
          rcases x2 with ⟨q, -⟩ | ⟨b', rfl, b1', b2', -⟩
          · exact q
          · have w := (cand b' b1').mp b2'
            have := b3 b' b1' w.1
            omega
        rw [xn, if_pos rfl, if_pos (by rw [bt_z (by omega)]; exact q0)]
        exact Or.inr ⟨V, M, rfl, rfl, hM⟩
      · have AB : ∀ i, i < m → E.testBit i = false → A i = B i := fun i hi hE' => by
          have h2 := tD i hi
          by_cases qD : D.testBit i = true
          · rw [(hEu i hi).mpr (Or.inl qD)] at hE'; cases hE'
          · rw [if_neg qD] at h2; exact h2
        have fm : FM A (fun j => u j = 0 ∧ 0 < A j) m b := by
          refine ⟨b1, (cand b b1).mpr ⟨b2, by omega⟩, fun i hi ci => ?_, fun i hi ci => ?_⟩
          · have w := (cand i hi).mp ci
            rw [AB i hi w.1, AB b b1 b2]
            exact b3 i hi w.1
          · have w := (cand i (by omega)).mp ci
            rw [AB i (by omega) w.1, AB b b1 b2]
            exact b4 i hi w.1
        have xb : x = Int32.ofNat b := by
          rcases x2 with ⟨-, q⟩ | ⟨b', rfl, q⟩
          · exact absurd fm.2.1 (q b b1)
          · rw [q.uq fm]
        have ab : A b = B b := AB b b1 b2
        have aB := tA b b1
        rw [xb, if_neg (n_m1 (by omega)), mn, gs_gd (o_inb b1 (by omega)), o_nat (show b < 2147483648 by omega), if_neg (by rw [bt_z (by omega)]; exact q0), gs_gd (o_inb (show b < 9 by omega) (by omega)), gs_gd (o_inb (show b < 9 by omega) (by omega)), gs_let, gs_let, bt_sh b (by omega), bt_or, e1, up_ne (show (95, 0, 0) ≠ (96, 0, 0) by decide), aB.2, show Int32.ofNat (A b) - 1 = Int32.ofNat (A b - 1) from o_sub (c := 1) (by omega) (by omega), show Int32.ofNat (B b) - 1 = Int32.ofNat (B b - 1) from o_sub (c := 1) (by omega) (by omega), show Int32.ofNat (c + 1) + (-1) = Int32.ofNat c from by rw [← Int32.sub_eq_add_neg]; exact o_sub (c := 1) (by omega) (by omega), show j + (c + 1) = j + 1 + c by omega]
        refine ih (j + 1) (E := E ||| 2 ^ b) (A := fun i => if i = b then A b - 1 else A i) (B := fun i => if i = b then B b - 1 else B i) (u := fun i => if i = b then 1 else u i) (by omega) (by omega) (by omega) (fr512 hE (by omega)) ⟨fun i hi => ?_, fun i hi => ?_, fun i hi => ?_, ?_, fun i hi => ?_⟩ (fun i hi => ?_) (fun n i hn => by rw [up_ne hn]; exact hM n i hn)
        · have := tA i hi
          dsimp only
          rw [up_at, up_ne (show (95, 0, 0) ≠ (96, 0, 0) by decide)]
          by_cases e : i = b
          · rw [if_pos e, if_pos ⟨rfl, e⟩]; exact ⟨by omega, rfl⟩
          · rw [if_neg e, if_neg (fun z => e z.2)]; exact this
        · have := tu i hi
          dsimp only
          rw [up_ne (show (96, 0, 0) ≠ (95, 0, 0) by decide), up_at]
          by_cases e : i = b
          · rw [if_pos e, if_pos ⟨rfl, e⟩]; exact ⟨by omega, rfl⟩
          · rw [if_neg e, if_neg (fun z => e z.2)]; exact this
        · have := tB i hi
          dsimp only
          rw [up_at]
          by_cases e : i = b
          · rw [if_pos e, if_pos ⟨rfl, e⟩]; exact ⟨by omega, rfl⟩
          · rw [if_neg e, if_neg (fun z => e z.2)]; exact this
        · rw [up_ne (by decide)]; exact t51
        · dsimp only
          by_cases e : i = b
          · subst e
            have : ¬ D.testBit i = true := fun z => by rw [(hEu i hi).mpr (Or.inl z)] at b2; cases b2
            rw [if_pos rfl, if_pos rfl, if_neg this, ab]
          · rw [if_neg e, if_neg e]; exact tD i hi
        · rw [Nat.testBit_or, bt_p2, Bool.or_eq_true, hEu i hi, decide_eq_true_iff]
          by_cases e : i = b
          · rw [if_pos e]; exact ⟨fun _ => Or.inr rfl, fun _ => Or.inr e.symm⟩
          · rw [if_neg e]; exact ⟨fun z => z.elim id (fun z => absurd z.symm e), Or.inl⟩
end COULD
