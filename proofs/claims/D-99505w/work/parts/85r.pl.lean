/-! pairs -/
set_option maxRecDepth 100000
section PAIRS
variable {N P : Nat} {K : Nat → Nat} {Ds : gz_S} {Df : gz_R} {V M : gz_V}
def clr (S X : Nat) : Nat := S &&& (4095 ^^^ X)
theorem tb_4095 {i : Nat} : (4095 : Nat).testBit i = decide (i < 12) := by
  rw [show (4095 : Nat) = 2 ^ 12 - 1 from rfl, Nat.testBit_two_pow_sub_one]
theorem clr_tb {S X i : Nat} (hS : S < 4096) : (clr S X).testBit i = (S.testBit i && !X.testBit i) := by
  unfold clr
  rw [Nat.testBit_and, Nat.testBit_xor, tb_4095]
  by_cases h : i < 12
  · simp [h]
  · rw [bt_tf (k := 12) hS (by omega)]; simp
theorem clr_int {S X : Nat} (hS : S < 4096) : Int32.ofNat S &&& (Int32.ofNat X ^^^ (-1)) = Int32.ofNat (clr S X) := by
  apply Int32.toBitVec.inj
  show BitVec.ofNat 32 S &&& (BitVec.ofNat 32 X ^^^ BitVec.allOnes 32) = BitVec.ofNat 32 (clr S X)
  apply BitVec.eq_of_getLsbD_eq
  intro i hi
  simp only [BitVec.getLsbD_and, BitVec.getLsbD_xor, BitVec.getLsbD_allOnes, BitVec.getLsbD_ofNat, hi, decide_true, Bool.true_and, clr_tb hS]
  cases S.testBit i <;> cases X.testBit i <;> rfl
theorem clr_le {S X : Nat} : clr S X ≤ S := Nat.and_le_left
theorem clr_lt {S l : Nat} (hS : S < 4096) (hl : S.testBit l = true) : clr S (2 ^ l) < S := by
  have h1 : clr S (2 ^ l) ≤ S := clr_le
  have h2 : clr S (2 ^ l) ≠ S := fun e => by
    have := clr_tb (X := 2 ^ l) (i := l) hS
    rw [e, hl, bt_p2] at this
    simp at this
  omega
theorem clr2 {S l j : Nat} (hS : S < 4096) : clr (clr S (2 ^ l)) (2 ^ j) = clr S (2 ^ l ||| 2 ^ j) := by
  have h1 : clr S (2 ^ l) ≤ S := clr_le
  apply Nat.eq_of_testBit_eq
  intro i
  rw [clr_tb (by omega), clr_tb hS, clr_tb hS, Nat.testBit_or]
  cases S.testBit i <;> cases (2 ^ l).testBit i <;> cases (2 ^ j).testBit i <;> rfl
theorem clr_lt2 {S l j : Nat} (hS : S < 4096) (hl : S.testBit l = true) : clr S (2 ^ l ||| 2 ^ j) < S := by
  rw [← clr2 hS]
  have := clr_lt hS hl
  have h1 : clr (clr S (2 ^ l)) (2 ^ j) ≤ clr S (2 ^ l) := clr_le
  omega
theorem g_max {a b : Nat} (ha : a < 2147483648) (hb : b < 2147483648) : gz_max (Int32.ofNat a) (Int32.ofNat b) = Int32.ofNat (max a b) := by
  unfold gz_max
  by_cases h : a < b
  · rw [if_pos (by rw [o_lt ha hb]; exact h), Nat.max_eq_right (by omega)]
  · rw [if_neg (by rw [o_lt ha hb]; exact h), Nat.max_eq_left (by omega)]
theorem g_mgr {a b : Nat} (ha : a < 2147483648) (hb : b < 2147483648) : m_greater (Int32.ofNat a) (Int32.ofNat b) = Int32.ofNat (max a b) := by
  unfold m_greater
  by_cases h : a ≤ b
  · rw [if_pos (by rw [o_le ha hb]; exact h), Nat.max_eq_right (by omega)]
  · rw [if_neg (by rw [o_le ha hb]; exact h), Nat.max_eq_left (by omega)]
/-- the table -/
def tbl (A : gz_N) (V : gz_V) (t : Nat) (T : Nat → Nat) : Prop := ∀ S, S < t → V A S = Int32.ofNat (T S) ∧ T S ≤ S
/-- the row v3 of kin, read -/
theorem kn_x (t : knT Ds Df V M P K) : ∃ n : gz_N, Df (20, 0, 0) 12 = some n ∧ 90 ≤ n.1 ∧ Ds n = some (100, 12) ∧ ∀ p, p < 12 → V n p = Int32.ofNat (K p) := t.2.2.2.1
theorem z_most2 {S l : Nat} {v1 : Int32} {T : Nat → Nat} {V0 : gz_V} (hS : S < 4096) (hl : S.testBit l = true) (l12 : l < 12) : ∀ (d j : Nat) {n n2 v : Nat} {V : gz_V}, j + d = P → l < j → d < n → d < n2 → v ≤ S → V (11, 11, 0) S = Int32.ofNat v → (∀ n i, ¬ (n = (11, 11, 0) ∧ i = S) → V n i = V0 n i) → knT Ds Df V0 M P K → tbl (11, 11, 0) V0 S T → tbl (2, 55, 0) M S T → ∃ V' v', x0_mostPairs_L49 N Ds Df v1 (Int32.ofNat S) (Int32.ofNat l) n V (Int32.ofNat j) = some V' ∧ m_findsPairs_L65 N M (Int32.ofNat S) (Int32.ofNat l) (Int32.ofNat (clr S (2 ^ l))) n2 (Int32.ofNat v) (Int32.ofNat j) = some (Int32.ofNat v') ∧ v' ≤ S ∧ V' (11, 11, 0) S = Int32.ofNat v' ∧ ∀ n i, ¬ (n = (11, 11, 0) ∧ i = S) → V' n i = V0 n i := by
  intro d
  induction d with
  | zero =>
    intro j n n2 v V hj hlj hn hn2 hv e hV t tx tm
    obtain ⟨n, rfl⟩ : ∃ z, n = z + 1 := ⟨n - 1, by omega⟩
    obtain ⟨n2, rfl⟩ : ∃ z, n2 = z + 1 := ⟨n2 - 1, by omega⟩
    have : j = P := by omega
    subst this
    refine ⟨V, v, ?_, ?_, hv, e, hV⟩
    · rw [x0_mostPairs_L49, hV _ _ (by simp), t.2.1, if_pos (i_le.mpr (Int.le_refl _))]
    · rw [m_findsPairs_L65, t.2.2.1, if_pos (i_le.mpr (Int.le_refl _))]
  | succ d ih =>
    intro j n n2 v V hj hlj hn hn2 hv e hV t tx tm
    obtain ⟨n, rfl⟩ : ∃ z, n = z + 1 := ⟨n - 1, by omega⟩
    obtain ⟨n2, rfl⟩ : ∃ z, n2 = z + 1 := ⟨n2 - 1, by omega⟩
    obtain ⟨t1, t2, t3, ⟨nn, t4, t5, t6, t7⟩, t8, t9⟩ := id t
    have e1 : Int32.ofNat j + 1 = Int32.ofNat (j + 1) := o_addr 1 j
    have lK := bt_4096 t1 (t8 l l12).2
    have ne : ¬ Int32.ofNat P ≤ Int32.ofNat j := by rw [o_le (by omega) (by omega)]; omega
    have vk : V nn l = Int32.ofNat (K l) := (hV _ _ (by rintro ⟨rfl, -⟩; exact absurd t5 (by decide))).trans (t7 l l12)
    have c1 : clr S (2 ^ l) ≤ S := clr_le
    have cb : (clr S (2 ^ l)).testBit j = S.testBit j := by
      rw [clr_tb hS, bt_p2]
      have : ¬ l = j := by omega
      simp [this]
    rw [x0_mostPairs_L49, hV (20, 0, 0) 13 (by simp), t2, if_neg ne, m_findsPairs_L65, t3, if_neg ne, e1]
    by_cases q : S.testBit j = true
    · rw [if_pos ((bt_h1 (by omega) (by omega)).mpr q), if_neg (by rw [bt_m0 (by omega) (by omega), cb, q]; decide), t4, gs_bd, gs_gd ⟨t5, t6⟩, gs_gd (o_inb l12 (by omega)), gs_gd (o_inb (show l < 24 by omega) (by omega)), o_nat (show l < 2147483648 by omega), vk, (t8 l l12).1]
      by_cases q2 : (K l).testBit j = false
      · have lt2 := clr_lt2 (j := j) hS hl
        have tv := tx _ lt2
        have tv2 := tm _ lt2
        rw [if_pos ((bt_h0 (by omega) (by omega)).mpr q2), if_pos ((bt_m0 (by omega) (by omega)).mpr q2), bt_sh l (by omega), bt_sh j (by omega), bt_or, clr_int hS, clr_int (show clr S (2 ^ l) < 4096 by omega), clr2 hS, gs_gd (o_inb (show S < 4096 by omega) (by omega)), gs_gd (o_inb (show clr S (2 ^ l ||| 2 ^ j) < 4096 by omega) (by omega)), gs_gd (o_inb (show S < 4096 by omega) (by omega)), gs_gd (o_inb (show clr S (2 ^ l ||| 2 ^ j) < 4096 by omega) (by omega)), gs_let, gs_let, gs_bd, gs_bd, o_nat (show S < 2147483648 by omega), o_nat (show clr S (2 ^ l ||| 2 ^ j) < 2147483648 by omega), e, hV (11, 11, 0) (clr S (2 ^ l ||| 2 ^ j)) (by omega), tv.1, tv2.1, show (1 : Int32) = Int32.ofNat 1 from rfl, o_add, g_max (by omega) (by omega), g_mgr (by omega) (by omega)]
        refine ih (j + 1) (by omega) (by omega) (by omega) (by omega) (by omega) (by rw [up_at, if_pos ⟨rfl, rfl⟩]) (fun n i hn => ?_) t tx tm
        rw [up_at, if_neg hn]
        exact hV n i hn
      · rw [if_neg (fun z => q2 ((bt_h0 (by omega) (by omega)).mp z)), if_neg (fun z => q2 ((bt_m0 (by omega) (by omega)).mp z)), gs_bd, gs_bd]
        exact ih (j + 1) (by omega) (by omega) (by omega) (by omega) hv e hV t tx tm
    · rw [if_neg (fun z => q ((bt_h1 (by omega) (by omega)).mp z)), if_pos (by rw [bt_m0 (by omega) (by omega), cb]; simpa using q), gs_bd, gs_bd]
      exact ih (j + 1) (by omega) (by omega) (by omega) (by omega) hv e hV t tx tm
/-- the twin's first steps do nothing -/
theorem m_skip65 {S l : Nat} {v : Int32} (hS : S < 4096) (hz : ∀ j, j < l → S.testBit j = false) (hP : P ≤ 12) (lP : l < P) (t3 : M (1, 0, 0) 6 = Int32.ofNat P) : ∀ (d j : Nat) {n2 : Nat}, j + d = l + 1 → d < n2 → ∃ n3, n2 = n3 + d ∧ m_findsPairs_L65 N M (Int32.ofNat S) (Int32.ofNat l) (Int32.ofNat (clr S (2 ^ l))) n2 v (Int32.ofNat j) = m_findsPairs_L65 N M (Int32.ofNat S) (Int32.ofNat l) (Int32.ofNat (clr S (2 ^ l))) n3 v (Int32.ofNat (l + 1)) := by
  intro d
  induction d with
  | zero =>
    intro j n2 hj hn
    have : j = l + 1 := by omega
    subst this
    exact ⟨n2, rfl, rfl⟩
  | succ d ih =>
    intro j n2 hj hn
    obtain ⟨n2, rfl⟩ : ∃ z, n2 = z + 1 := ⟨n2 - 1, by omega⟩
    have e1 : Int32.ofNat j + 1 = Int32.ofNat (j + 1) := o_addr 1 j
    have c1 : clr S (2 ^ l) ≤ S := clr_le
    obtain ⟨n3, h1, h2⟩ := ih (j + 1) (n2 := n2) (by omega) (by omega)
    refine ⟨n3, by omega, ?_⟩
    have cb : (clr S (2 ^ l)).testBit j = false := by
      rw [clr_tb hS, bt_p2]
      by_cases e : l = j
      · simp [e]
      · rw [hz j (by omega)]; rfl
    rw [m_findsPairs_L65, t3, if_neg (by rw [o_le (by omega) (by omega)]; omega), if_pos (by rw [bt_m0 (by omega) (by omega)]; exact cb), gs_bd, e1]
    exact h2
theorem m_16 {S l : Nat} {T : Nat → Nat} (hS : S < 4096) (h0 : S ≠ 0) (hl : S.testBit l = true) (hz : ∀ j, j < l → S.testBit j = false) (hP : P ≤ 12) (lP : l < P) (t3 : M (1, 0, 0) 6 = Int32.ofNat P) (tm : tbl (2, 55, 0) M S T) : ∀ (d k : Nat) {n : Nat}, k + d = l → d < n → m_findsPairs_L16 N M (Int32.ofNat S) n 0 (Int32.ofNat k) = gz_bd (m_findsPairs_L65 N M (Int32.ofNat S) (Int32.ofNat l) (Int32.ofNat (clr S (2 ^ l))) N (Int32.ofNat (T (clr S (2 ^ l)))) 0) (fun x10 => some x10) := by
  intro d
  induction d with
  | zero =>
    intro k n hk hn
    obtain ⟨n, rfl⟩ : ∃ z, n = z + 1 := ⟨n - 1, by omega⟩
    have : k = l := by omega
    subst this
    have lt := clr_lt hS hl
    have tv := tm _ lt
    rw [m_findsPairs_L16, t3, if_neg (by rw [o_le (by omega) (by omega)]; omega), if_neg (by rw [show (0 : Int32) = Int32.ofNat 0 from rfl, o_le (by omega) (by omega)]; omega), if_neg (by rw [bt_m0 (by omega) (by omega), hl]; decide), gs_let, bt_sh k (by omega), clr_int hS, gs_gd (o_inb (show clr S (2 ^ k) < 4096 by omega) (by omega)), gs_let, o_nat (by omega), tv.1, show m_greater 0 (Int32.ofNat (T (clr S (2 ^ k)))) = Int32.ofNat (max 0 (T (clr S (2 ^ k)))) from g_mgr (a := 0) (by omega) (by omega), Nat.max_eq_right (Nat.zero_le _)]
  | succ d ih =>
    intro k n hk hn
    obtain ⟨n, rfl⟩ : ∃ z, n = z + 1 := ⟨n - 1, by omega⟩
    have e1 : Int32.ofNat k + 1 = Int32.ofNat (k + 1) := o_addr 1 k
    rw [m_findsPairs_L16, t3, if_neg (by rw [o_le (by omega) (by omega)]; omega), if_neg (by rw [show (0 : Int32) = Int32.ofNat 0 from rfl, o_le (by omega) (by omega)]; omega), if_pos (by rw [bt_m0 (by omega) (by omega)]; exact hz k (by omega)), e1]
    exact ih (k + 1) (by omega) (by omega)
end PAIRS
