/-! balance -/
set_option maxRecDepth 100000
section BAL
variable {N m : Nat} {V M : gz_V} {w : Nat → Nat}
/-- the weights told -/
def wtT (V M : gz_V) (m : Nat) (w : Nat → Nat) : Prop := m ≤ 5 ∧ V (27, 0, 2) 1 = Int32.ofNat m ∧ M (1, 0, 0) 57 = Int32.ofNat m ∧ ∀ i, i < m → 1 ≤ w i ∧ w i ≤ 200 ∧ V (32, 0, i) 0 = Int32.ofNat (w i) ∧ M (2, 58, 0) i = Int32.ofNat (w i)
theorem wt_of (t : tdR 0 2 57 58 1 200 5 V M) : ∃ m w, wtT V M m w := by
  obtain ⟨m, h1, h2, h3, h4⟩ := t
  refine ⟨m, fun i => (V (32, 0, i) 0).toNatClampNeg, h1, h2, h3, fun i hi => ?_⟩
  obtain ⟨v, v1, v2, v3, v4⟩ := h4 i hi
  have v3' : V (32, 0, i) 0 = Int32.ofNat v := v3
  dsimp only
  rw [v3', o_nat (by omega)]
  exact ⟨v1, v2, rfl, v4⟩
theorem wt_first (t : wtT V M m w) {i : Nat} (hi : i < m) : x3_first V 0 2 (Int32.ofNat i) = some (Int32.ofNat (w i)) := by
  have := t.1
  unfold x3_first
  rw [show xw_rl 2 = 5 from rfl, gs_gd (o_inb (by omega) (by omega)), o_nat (by omega)]
  exact congrArg some (t.2.2.2 i hi).2.2.1
def ww (w : Nat → Nat) (fl : Bool) : Nat → Nat → Int → Bool
  | 0, _, a => decide (a = 0)
  | k + 1, i, a => ww w fl k (i + 1) a || (ww w fl k (i + 1) (a - w i) || (fl && ww w fl k (i + 1) (a + w i)))
theorem x_weigh (t : wtT V M m w) {y : Int32} : ∀ (k i e : Nat) {A : Int32}, i + k = m → -100000 ≤ A.toInt - 200 * k → A.toInt + 200 * k ≤ 100000 → x0_isWeighed (k + 1 + e) V (Int32.ofNat i) A y = some (if ww w (decide (y ≠ 0)) k i A.toInt = true then 1 else 0) := by
  obtain ⟨t1, t2, t3, t4⟩ := id t
  intro k
  induction k with
  | zero =>
    intro i e A hi h1 h2
    have : i = m := by omega
    subst this
    rw [show 0 + 1 + e = e + 1 by omega]
    show x0_isWeighed_B (x0_isWeighed e) V (Int32.ofNat i) A y = _
    unfold x0_isWeighed_B
    rw [t2, if_pos rfl]
    unfold ww
    by_cases q : A = 0
    · rw [if_pos q, if_pos (by rw [q]; rfl)]
    · rw [if_neg q, if_neg]
      intro z
      exact q (i_eq.mpr (of_decide_eq_true z))
  | succ k ih =>
    intro i e A hi h1 h2
    have e1 : Int32.ofNat i + 1 = Int32.ofNat (i + 1) := o_addr 1 i
    obtain ⟨q1, q2, q3, q4⟩ := t4 i (by omega)
    have wn : (Int32.ofNat (w i)).toInt = w i := i_of (by omega)
    have s1 : (A - Int32.ofNat (w i)).toInt = A.toInt - w i := by rw [i_sub (by rw [wn]; omega) (by rw [wn]; omega), wn]
    have s2 : (A + Int32.ofNat (w i)).toInt = A.toInt + w i := by rw [i_add (by rw [wn]; omega) (by rw [wn]; omega), wn]
    have r1 := ih (i + 1) e (A := A) (by omega) (by omega) (by omega)
    have r2 := ih (i + 1) e (A := A - Int32.ofNat (w i)) (by omega) (by rw [s1]; omega) (by rw [s1]; omega)
    have r3 := ih (i + 1) e (A := A + Int32.ofNat (w i)) (by omega) (by rw [s2]; omega) (by rw [s2]; omega)
    rw [s1] at r2
    rw [s2] at r3
    rw [show k + 1 + 1 + e = (k + 1 + e) + 1 by omega]
    show x0_isWeighed_B (x0_isWeighed (k + 1 + e)) V (Int32.ofNat i) A y = _
    unfold x0_isWeighed_B
    rw [t2, if_neg (by rw [o_eq (by omega) (by omega)]; omega), wt_first t (by omega), gs_bd, e1, r1, gs_bd, r2]
    have ew : ww w (decide (y ≠ 0)) (k + 1) i A.toInt = (ww w (decide (y ≠ 0)) k (i + 1) A.toInt || (ww w (decide (y ≠ 0)) k (i + 1) (A.toInt - w i) || (decide (y ≠ 0) && ww w (decide (y ≠ 0)) k (i + 1) (A.toInt + w i)))) := rfl
    rw [ew]
    by_cases c1 : ww w (decide (y ≠ 0)) k (i + 1) A.toInt = true
    · rw [if_pos c1, if_neg (by decide), c1, Bool.true_or, if_pos rfl]
    · rw [if_neg c1, if_pos rfl, gs_bd]
      have c1' : ww w (decide (y ≠ 0)) k (i + 1) A.toInt = false := by simpa using c1
      rw [c1', Bool.false_or]
      by_cases c2 : ww w (decide (y ≠ 0)) k (i + 1) (A.toInt - w i) = true
      · rw [if_pos c2, if_neg (by decide), c2, Bool.true_or, if_pos rfl]
      · rw [if_neg c2, if_pos rfl]
        have c2' : ww w (decide (y ≠ 0)) k (i + 1) (A.toInt - w i) = false := by simpa using c2
        rw [c2', Bool.false_or]
        by_cases y0 : y = 0
        · rw [if_pos y0, y0]
          rfl
        · rw [if_neg y0, r3, gs_bd]
          have yt : decide (y ≠ 0) = true := decide_eq_true y0
          rw [yt, Bool.true_and] at *
          by_cases c3 : ww w true k (i + 1) (A.toInt + w i) = true
          · rw [if_pos c3, if_neg (by decide)]
          · rw [if_neg c3, if_pos rfl]
/-- the twin's sum of a code -/
def wst (w : Nat → Nat) (fl : Bool) (i d : Nat) (acc : Int) : Int := if d = 1 then acc + w i else if d = 2 then (if fl = true then acc - w i else 100000000) else acc
def wsm (w : Nat → Nat) (fl : Bool) : Nat → Nat → Nat → Int → Int
  | 0, _, _, acc => acc
  | k + 1, i, v, acc => wsm w fl k (i + 1) (v / 3) (wst w fl i (v % 3) acc)
theorem wsm_big : ∀ (k i v : Nat) {acc : Int}, 100000000 ≤ acc → 100000000 ≤ wsm w false k i v acc := by
  intro k
  induction k with
  | zero => intro i v acc h; exact h
  | succ k ih =>
    intro i v acc h
    refine ih (i + 1) (v / 3) ?_
    unfold wst
    split
    · omega
    · split
      · simp
      · exact h
theorem wsm_iff {fl : Bool} : ∀ (k i : Nat) {acc T : Int}, T < 100000000 → ((∃ v, v < 3 ^ k ∧ wsm w fl k i v acc = T) ↔ ww w fl k i (T - acc) = true) := by
  intro k
  induction k with
  | zero =>
    intro i acc T hT
    show (∃ v, v < 1 ∧ acc = T) ↔ decide (T - acc = 0) = true
    rw [decide_eq_true_iff]
    exact ⟨fun ⟨v, _, h⟩ => by omega, fun h => ⟨0, by decide, by omega⟩⟩
  | succ k ih =>
    intro i acc T hT
    have hp : 3 ^ (k + 1) = 3 * 3 ^ k := by rw [Nat.pow_succ]; omega
    have ew : ww w fl (k + 1) i (T - acc) = (ww w fl k (i + 1) (T - acc) || (ww w fl k (i + 1) (T - acc - w i) || (fl && ww w fl k (i + 1) (T - acc + w i)))) := rfl
    rw [ew, Bool.or_eq_true, Bool.or_eq_true, Bool.and_eq_true, ← ih (i + 1) (acc := acc) hT, show T - acc - (w i : Int) = T - (acc + w i) by omega, ← ih (i + 1) (acc := acc + w i) hT, show T - acc + (w i : Int) = T - (acc - w i) by omega, ← ih (i + 1) (acc := acc - w i) hT]
    have st : ∀ d v, d < 3 → wsm w fl (k + 1) i (3 * v + d) acc = wsm w fl k (i + 1) v (wst w fl i d acc) := fun d v hd => by
      show wsm w fl k (i + 1) ((3 * v + d) / 3) (wst w fl i ((3 * v + d) % 3) acc) = _
      rw [show (3 * v + d) / 3 = v by omega, show (3 * v + d) % 3 = d by omega]
    constructor
    · rintro ⟨v, hv, e⟩
      have dv : v = 3 * (v / 3) + v % 3 := by omega
      rw [dv, st (v % 3) (v / 3) (by omega)] at e
      have h3 : v % 3 = 0 ∨ v % 3 = 1 ∨ v % 3 = 2 := by omega
      rcases h3 with h | h | h
      · rw [h] at e
        exact Or.inl ⟨v / 3, by omega, e⟩
      · rw [h] at e
        exact Or.inr (Or.inl ⟨v / 3, by omega, e⟩)
      · rw [h] at e
        cases fl
        · exfalso
          have := wsm_big (w := w) k (i + 1) (v / 3) (acc := wst w false i 2 acc) (by simp [wst])
          omega
        · exact Or.inr (Or.inr ⟨rfl, v / 3, by omega, e⟩)
    · rintro (⟨v, hv, e⟩ | ⟨v, hv, e⟩ | ⟨f, v, hv, e⟩)
      · exact ⟨3 * v + 0, by omega, by rw [st 0 v (by omega)]; exact e⟩
      · exact ⟨3 * v + 1, by omega, by rw [st 1 v (by omega)]; exact e⟩
      · subst f
        exact ⟨3 * v + 2, by omega, by rw [st 2 v (by omega)]; exact e⟩
theorem m_wcode (t : wtT V M m w) {v1 y v3 v4 : Int32} : ∀ (k i : Nat) {n v : Nat} {A : Int32}, i + k = m → k < n → v < 100000 → -200000000 ≤ A.toInt - 200 * k → A.toInt + 200 * k ≤ 200000000 → ∃ r : Int32, m_canWeigh_L43 N M v1 y v3 v4 n A (Int32.ofNat v) (Int32.ofNat i) = some r ∧ r.toInt = wsm w (decide (y ≠ 0)) k i v A.toInt := by
  obtain ⟨t1, t2, t3, t4⟩ := id t
  intro k
  induction k with
  | zero =>
    intro i n v A hi hn hv h1 h2
    obtain ⟨n, rfl⟩ : ∃ z, n = z + 1 := ⟨n - 1, by omega⟩
    have : i = m := by omega
    subst this
    exact ⟨A, by rw [m_canWeigh_L43, t3, if_pos (i_le.mpr (Int.le_refl _))], rfl⟩
  | succ k ih =>
    intro i n v A hi hn hv h1 h2
    obtain ⟨n, rfl⟩ : ∃ z, n = z + 1 := ⟨n - 1, by omega⟩
    have e1 : Int32.ofNat i + 1 = Int32.ofNat (i + 1) := o_addr 1 i
    obtain ⟨q1, q2, q3, q4⟩ := t4 i (by omega)
    have wn : (Int32.ofNat (w i)).toInt = w i := i_of (by omega)
    have gb : gz_inb (Int32.ofNat i) 5 = true := o_inb (by omega) (by omega)
    have em : Int32.ofNat v - Int32.ofNat v / 3 * 3 = Int32.ofNat (v % 3) := o_mod (c := 3) (by omega) (by omega)
    have ed : Int32.ofNat v / 3 = Int32.ofNat (v / 3) := o_div (c := 3) (by omega) (by omega)
    rw [m_canWeigh_L43, t3, if_neg (by rw [o_le (by omega) (by omega)]; omega), em, ed, gs_gd gb, o_nat (by omega), q4, e1]
    show ∃ r : Int32, _ ∧ r.toInt = wsm w (decide (y ≠ 0)) k (i + 1) (v / 3) (wst w (decide (y ≠ 0)) i (v % 3) A.toInt)
    have h3 : v % 3 = 0 ∨ v % 3 = 1 ∨ v % 3 = 2 := by omega
    rcases h3 with h | h | h
    · rw [h, if_neg (show ¬ Int32.ofNat 0 = 1 by decide), gs_bd, if_neg (show ¬ Int32.ofNat 0 = 2 by decide), gs_bd, gs_let]
      exact ih (i + 1) (by omega) (by omega) (by omega) (by omega) (by omega)
    · have s2 : (A + Int32.ofNat (w i)).toInt = A.toInt + w i := by rw [i_add (by rw [wn]; omega) (by rw [wn]; omega), wn]
      rw [h, if_pos (show Int32.ofNat 1 = 1 from rfl), gs_let, gs_bd, if_neg (show ¬ Int32.ofNat 1 = 2 by decide), gs_bd, gs_let]
      have r := ih (i + 1) (n := n) (v := v / 3) (A := A + Int32.ofNat (w i)) (by omega) (by omega) (by omega) (by rw [s2]; omega) (by rw [s2]; omega)
      rw [s2] at r
      exact r
    · rw [h, if_neg (show ¬ Int32.ofNat 2 = 1 by decide), gs_bd, if_pos (show Int32.ofNat 2 = 2 from rfl)]
      by_cases y0 : y = 0
      · rw [if_pos y0, gs_bd, gs_bd, gs_let]
        have r := ih (i + 1) (n := n) (v := v / 3) (A := 100000000) (by omega) (by omega) (by omega) (by show -200000000 ≤ (100000000 : Int) - 200 * k; omega) (by show (100000000 : Int) + 200 * k ≤ 200000000; omega)
        subst y0
        exact r
      · have s1 : (A - Int32.ofNat (w i)).toInt = A.toInt - w i := by rw [i_sub (by rw [wn]; omega) (by rw [wn]; omega), wn]
        rw [if_neg y0, gs_gd gb, gs_bd, gs_bd, gs_let]
        have r := ih (i + 1) (n := n) (v := v / 3) (A := A - Int32.ofNat (w i)) (by omega) (by omega) (by omega) (by rw [s1]; omega) (by rw [s1]; omega)
        rw [s1] at r
        have yt : decide (y ≠ 0) = true := decide_eq_true y0
        rw [yt] at r ⊢
        exact r
end BAL
