/-! signs -/
set_option maxRecDepth 100000
section SIGNS
variable {N : Nat}
/-- no sign stands alone -/
def sgO (n : Nat) : Bool := decide (n &&& (2 * n ||| n / 2) = n)
/-- none but perhaps the last -/
noncomputable def sgR (n : Nat) : Bool := @decide (∀ i, n.testBit (i + 1) = true → n.testBit i = true ∨ n.testBit (i + 2) = true) (Classical.propDecidable _)
def sgC (f : Nat → Bool) : Nat → Nat
  | 0 => 0
  | n + 1 => sgC f n + (if f n = true then 1 else 0)
theorem sg_iff {n : Nat} : sgO n = true ↔ ∀ i, n.testBit i = true → (1 ≤ i ∧ n.testBit (i - 1) = true) ∨ n.testBit (i + 1) = true := by
  unfold sgO
  rw [decide_eq_true_iff]
  have tb : ∀ i, (n &&& (2 * n ||| n / 2)).testBit i = (n.testBit i && ((decide (1 ≤ i) && n.testBit (i - 1)) || n.testBit (i + 1))) := fun i => by
    rw [Nat.testBit_and, Nat.testBit_or, Nat.testBit_div_two, show 2 * n = 2 ^ 1 * n from rfl, Nat.testBit_two_pow_mul]
  constructor
  · intro h i hi
    have := tb i
    rw [h, hi] at this
    simp at this
    rcases this with q | q
    · exact Or.inl q
    · exact Or.inr q
  · intro h
    apply Nat.eq_of_testBit_eq
    intro i
    rw [tb]
    cases hi : n.testBit i
    · rfl
    · rcases h i hi with q | q
      · simp [q.1, q.2]
      · simp [q]
theorem sr_iff {n : Nat} : sgR n = true ↔ ∀ i, n.testBit (i + 1) = true → n.testBit i = true ∨ n.testBit (i + 2) = true := by
  unfold sgR
  exact @decide_eq_true_iff _ (Classical.propDecidable _)
theorem tb_2 (n i : Nat) : (2 * n).testBit (i + 1) = n.testBit i := by
  rw [show 2 * n = 2 ^ 1 * n from rfl, Nat.testBit_two_pow_mul]
  simp
theorem tb_20 (n : Nat) : (2 * n).testBit 0 = false := by simp [Nat.testBit_zero]
theorem tb_1 (n i : Nat) : (2 * n + 1).testBit (i + 1) = n.testBit i := by
  rw [← Nat.testBit_div_two]
  congr 1
  omega
theorem tb_10 (n : Nat) : (2 * n + 1).testBit 0 = true := by
  rw [Nat.testBit_zero]
  simp
theorem bool_iff {a b : Bool} (h : a = true ↔ b = true) : a = b := by cases a <;> cases b <;> simp_all
theorem sO_0 (n : Nat) : sgO (2 * n) = sgO n := bool_iff (by
  rw [sg_iff, sg_iff]
  constructor
  · intro h i hi
    have := h (i + 1) (by rw [tb_2]; exact hi)
    rw [tb_2] at this
    rcases this with ⟨-, q⟩ | q
    · cases i with
      | zero => rw [show 0 + 1 - 1 = 0 from rfl, tb_20] at q; cases q
      | succ i => rw [show i + 1 + 1 - 1 = i + 1 from rfl, tb_2] at q; exact Or.inl ⟨by omega, q⟩
    · exact Or.inr q
  · intro h i hi
    cases i with
    | zero => rw [tb_20] at hi; cases hi
    | succ i =>
      rw [tb_2] at hi
      rcases h i hi with ⟨q1, q⟩ | q
      · refine Or.inl ⟨by omega, ?_⟩
        obtain ⟨j, rfl⟩ : ∃ j, i = j + 1 := ⟨i - 1, by omega⟩
        rw [show j + 1 + 1 - 1 = j + 1 from rfl, tb_2]
        exact q
      · refine Or.inr ?_
        rw [tb_2]
        exact q)
theorem sO_1 {n : Nat} : sgO (2 * n + 1) = (n.testBit 0 && sgR n) := bool_iff (by
  rw [Bool.and_eq_true, sg_iff, sr_iff]
  constructor
  · intro h
    have h0 : n.testBit 0 = true := by
      rcases h 0 (tb_10 n) with ⟨q, -⟩ | q
      · omega
      · rw [tb_1] at q; exact q
    refine ⟨h0, fun i hi => ?_⟩
    rcases h (i + 2) (by rw [show i + 2 = (i + 1) + 1 from rfl, tb_1]; exact hi) with ⟨-, q⟩ | q
    · rw [show i + 2 - 1 = i + 1 from rfl, tb_1] at q; exact Or.inl q
    · rw [tb_1] at q; exact Or.inr q
  · rintro ⟨h0, h⟩ i hi
    cases i with
    | zero => exact Or.inr (by rw [tb_1]; exact h0)
    | succ i =>
      cases i with
      | zero => exact Or.inl ⟨by omega, by rw [show 0 + 1 - 1 = 0 from rfl]; exact tb_10 n⟩
      | succ i =>
        rw [tb_1] at hi
        rcases h i hi with q | q
        · exact Or.inl ⟨by omega, by rw [show i + 1 + 1 - 1 = i + 1 from rfl, tb_1]; exact q⟩
        · exact Or.inr (by rw [tb_1]; exact q))
theorem sR_1 {n : Nat} : sgR (2 * n + 1) = sgR n := bool_iff (by
  rw [sr_iff, sr_iff]
  constructor
  · intro h i hi
    have := h (i + 1) (by rw [show i + 1 + 1 = (i + 1) + 1 from rfl, tb_1]; exact hi)
    rw [tb_1, show i + 1 + 2 = (i + 2) + 1 from rfl, tb_1] at this
    exact this
  · intro h i hi
    cases i with
    | zero => exact Or.inl (tb_10 n)
    | succ i =>
      rw [tb_1] at hi
      rw [tb_1, show i + 1 + 2 = (i + 2) + 1 from rfl, tb_1]
      exact h i hi)
theorem sR_0 {n : Nat} (h0 : n.testBit 0 = false) : sgR n = sgO n := bool_iff (by
  rw [sg_iff, sr_iff]
  constructor
  · intro h i hi
    cases i with
    | zero => rw [h0] at hi; cases hi
    | succ i =>
      rcases h i hi with q | q
      · exact Or.inl ⟨by omega, by rw [show i + 1 - 1 = i from rfl]; exact q⟩
      · exact Or.inr q
  · intro h i hi
    rcases h (i + 1) hi with ⟨-, q⟩ | q
    · exact Or.inl q
    · exact Or.inr q)
theorem sgC_cg {f g : Nat → Bool} : ∀ {n : Nat}, (∀ i, i < n → f i = g i) → sgC f n = sgC g n := by
  intro n
  induction n with
  | zero => intro _; rfl
  | succ n ih => intro h; unfold sgC; rw [ih (fun i hi => h i (by omega)), h n (by omega)]
theorem sgC_2 (f : Nat → Bool) : ∀ n, sgC f (2 * n) = sgC (fun i => f (2 * i)) n + sgC (fun i => f (2 * i + 1)) n := by
  intro n
  induction n with
  | zero => rfl
  | succ n ih =>
    rw [show 2 * (n + 1) = 2 * n + 1 + 1 by omega]
    unfold sgC
    rw [show sgC f (2 * n + 1) = sgC f (2 * n) + (if f (2 * n) = true then 1 else 0) from rfl, ih]
    omega
theorem sgC_sp (f g : Nat → Bool) : ∀ n, sgC f n = sgC (fun i => f i && !g i) n + sgC (fun i => f i && g i) n := by
  intro n
  induction n with
  | zero => rfl
  | succ n ih =>
    unfold sgC
    rw [ih]
    cases f n <;> cases g n <;> simp <;> omega
/-- e: even and good; o: odd and good; q: odd, good but for the last -/
def sgE (k : Nat) : Nat := sgC (fun i => sgO i && !i.testBit 0) (2 ^ k)
def sgD (k : Nat) : Nat := sgC (fun i => sgO i && i.testBit 0) (2 ^ k)
noncomputable def sgQ (k : Nat) : Nat := sgC (fun i => sgR i && i.testBit 0) (2 ^ k)
theorem sg_st {k : Nat} : sgE (k + 1) = sgE k + sgD k ∧ sgD (k + 1) = sgQ k ∧ sgQ (k + 1) = sgE k + sgQ k := by
  have z : ∀ n, sgC (fun _ => false) n = 0 := fun n => by
    induction n with
    | zero => rfl
    | succ n ih => unfold sgC; rw [ih]; rfl
  unfold sgE sgD sgQ
  rw [show 2 ^ (k + 1) = 2 * 2 ^ k by rw [Nat.pow_succ]; omega]
  refine ⟨?_, ?_, ?_⟩
  · rw [sgC_2, sgC_cg (g := fun i => sgO i) (fun i _ => by rw [sO_0, tb_20]; simp), sgC_cg (f := fun i => sgO (2 * i + 1) && !(2 * i + 1).testBit 0) (g := fun _ => false) (fun i _ => by rw [tb_10]; simp), z, sgC_sp (fun i => sgO i) (fun i => i.testBit 0)]
    rfl
  · rw [sgC_2, sgC_cg (f := fun i => sgO (2 * i) && (2 * i).testBit 0) (g := fun _ => false) (fun i _ => by rw [tb_20]; simp), z, Nat.zero_add]
    exact sgC_cg (fun i _ => by rw [tb_10, sO_1, Bool.and_true, Bool.and_comm])
  · rw [sgC_2, sgC_cg (f := fun i => sgR (2 * i) && (2 * i).testBit 0) (g := fun _ => false) (fun i _ => by rw [tb_20]; simp), z, Nat.zero_add, sgC_cg (g := fun i => sgR i) (fun i _ => by rw [tb_10, sR_1, Bool.and_true]), sgC_sp (fun i => sgR i) (fun i => i.testBit 0)]
    congr 1
    refine sgC_cg (fun i _ => ?_)
    cases h0 : i.testBit 0
    · rw [sR_0 h0]
    · simp
/-- one number -/
theorem sg_int {n : Nat} (hn : n < 1048576) : ((Int32.ofNat n &&& (((Int32.ofNat n <<< (1 &&& 31)) ||| (Int32.ofNat n >>> (1 &&& 31))) ^^^ (-1))) = 0) ↔ sgO n = true := by
  have e1 : Int32.ofNat n <<< (1 &&& 31) = Int32.ofNat (2 * n) := by
    apply Int32.toBitVec.inj
    show (BitVec.ofNat 32 n) <<< (1 : Nat) = BitVec.ofNat 32 (2 * n)
    apply BitVec.eq_of_toNat_eq
    rw [BitVec.toNat_shiftLeft, BitVec.toNat_ofNat, BitVec.toNat_ofNat, Nat.shiftLeft_eq]
    omega
  have e2 : Int32.ofNat n >>> (1 &&& 31) = Int32.ofNat (n / 2) := by
    have := bt_sr (m := n) (a := 1) (by omega) (by omega)
    rw [show Int32.ofNat 1 = 1 from rfl] at this
    rw [this]
    rfl
  rw [e1, e2, bt_or]
  unfold sgO
  rw [decide_eq_true_iff]
  generalize hX : (2 * n ||| n / 2) = X
  have key : ∀ a b : BitVec 32, a &&& (b ^^^ BitVec.allOnes 32) = 0#32 ↔ a &&& b = a := fun a b => by
    constructor
    · intro h
      apply BitVec.eq_of_getLsbD_eq
      intro i hi
      have t := congrArg (fun z => BitVec.getLsbD z i) h
      simp only [BitVec.getLsbD_and, BitVec.getLsbD_xor, BitVec.getLsbD_allOnes, BitVec.getLsbD_zero, hi, decide_true] at t ⊢
      revert t
      cases a.getLsbD i <;> cases b.getLsbD i <;> simp
    · intro h
      apply BitVec.eq_of_getLsbD_eq
      intro i hi
      have t := congrArg (fun z => BitVec.getLsbD z i) h
      simp only [BitVec.getLsbD_and, BitVec.getLsbD_xor, BitVec.getLsbD_allOnes, BitVec.getLsbD_zero, hi, decide_true] at t ⊢
      revert t
      cases a.getLsbD i <;> cases b.getLsbD i <;> simp
  have k2 := key (BitVec.ofNat 32 n) (BitVec.ofNat 32 X)
  constructor
  · intro h
    have h1 : BitVec.ofNat 32 n &&& (BitVec.ofNat 32 X ^^^ BitVec.allOnes 32) = 0#32 := congrArg Int32.toBitVec h
    have h2 := k2.mp h1
    rw [← BitVec.ofNat_and] at h2
    have h3 := congrArg BitVec.toNat h2
    rw [BitVec.toNat_ofNat, BitVec.toNat_ofNat] at h3
    have : n &&& X ≤ n := Nat.and_le_left
    omega
  · intro h
    apply Int32.toBitVec.inj
    show BitVec.ofNat 32 n &&& (BitVec.ofNat 32 X ^^^ BitVec.allOnes 32) = 0#32
    rw [k2, ← BitVec.ofNat_and, h]
theorem sgC_le (f : Nat → Bool) : ∀ n, sgC f n ≤ n := by
  intro n
  induction n with
  | zero => exact Nat.le_refl 0
  | succ n ih => unfold sgC; split <;> omega
theorem x_signs {k : Nat} (hk : k ≤ 20) : ∀ (d t : Nat) {n : Nat}, t + d = 2 ^ k → d < n → x0_signs_L16 N (Int32.ofNat k) n (Int32.ofNat (sgC sgO t)) (Int32.ofNat t) = some (Int32.ofNat (sgC sgO (2 ^ k))) := by
  have hp : 2 ^ k ≤ 1048576 := Nat.pow_le_pow_right (n := 2) (by decide) hk
  intro d
  induction d with
  | zero =>
    intro t n ht hn
    obtain ⟨n, rfl⟩ : ∃ z, n = z + 1 := ⟨n - 1, by omega⟩
    have : t = 2 ^ k := by omega
    subst this
    rw [x0_signs_L16, bt_sh k (by omega), if_pos (i_le.mpr (Int.le_refl _))]
  | succ d ih =>
    intro t n ht hn
    obtain ⟨n, rfl⟩ : ∃ z, n = z + 1 := ⟨n - 1, by omega⟩
    have e1 : Int32.ofNat t + 1 = Int32.ofNat (t + 1) := o_addr 1 t
    have l := sgC_le sgO t
    rw [x0_signs_L16, bt_sh k (by omega), if_neg (by rw [o_le (by omega) (by omega)]; omega), gs_let, gs_let, e1]
    have r := ih (t + 1) (n := n) (by omega) (by omega)
    have st : sgC sgO (t + 1) = sgC sgO t + (if sgO t = true then 1 else 0) := rfl
    rw [st] at r
    by_cases q : sgO t = true
    · rw [if_pos q] at r
      rw [if_pos ((sg_int (by omega)).mpr q), show (1 : Int32) = Int32.ofNat 1 from rfl, o_add]
      exact r
    · rw [if_neg q] at r
      rw [if_neg (fun z => q ((sg_int (by omega)).mp z)), show (0 : Int32) = Int32.ofNat 0 from rfl, o_add]
      exact r
theorem sgE_0 : sgE 0 = 1 ∧ sgD 0 = 0 ∧ sgQ 0 = 0 := by
  unfold sgE sgD sgQ
  refine ⟨by decide, by decide, ?_⟩
  show sgC _ (0 + 1) = 0
  unfold sgC
  simp [sgC]
theorem m_signs_ok {V : gz_V} {k : Nat} (hk : k ≤ 20) : ∀ (d t : Nat) {n : Nat} {q : Nat}, t + d = k → d < n → q + sgD t = sgQ t → m_signs_L28 N V (Int32.ofNat k) n (Int32.ofNat (sgE t)) (Int32.ofNat q) (Int32.ofNat (sgD t)) (Int32.ofNat t) = some (Int32.ofNat (sgE k), Int32.ofNat (sgD k)) := by
  intro d
  induction d with
  | zero =>
    intro t n q ht hn hq
    obtain ⟨n, rfl⟩ : ∃ z, n = z + 1 := ⟨n - 1, by omega⟩
    have : t = k := by omega
    subst this
    rw [m_signs_L28, if_pos (i_le.mpr (Int.le_refl _))]
  | succ d ih =>
    intro t n q ht hn hq
    obtain ⟨n, rfl⟩ : ∃ z, n = z + 1 := ⟨n - 1, by omega⟩
    have e1 : Int32.ofNat t + 1 = Int32.ofNat (t + 1) := o_addr 1 t
    obtain ⟨s1, s2, s3⟩ := sg_st (k := t)
    rw [m_signs_L28, if_neg (by rw [o_le (by omega) (by omega)]; omega), gs_let, gs_let, o_add, o_add, e1, ← s1, hq, ← s2]
    exact ih (t + 1) (by omega) (by omega) (by omega)
end SIGNS
theorem J_signs {N : Nat} (hN : 2000000 ≤ N) : lo_signs JJ N := by
  intro Ds Df V c M a h
  have h0 := h.m0
  unfold x0_signs m_signs
  rw [isIn_eq, gs_let (x := gz_up M (1, 0, 0) 0 0)]
  generalize gz_up M (1, 0, 0) 0 0 = M1 at *
  rcases isIn_c (a := a) (b := 1) (c := 20) with w | ⟨w, w1, w2⟩
  · rw [if_pos w, if_pos w]
    exact ⟨M1, -1, rfl, rfl, h0⟩
  rw [w, if_neg n10, if_neg n10]
  have z0 : (1 : Int32).toInt = 1 := rfl
  have z8 : (20 : Int32).toInt = 20 := rfl
  obtain ⟨k, hk, rfl⟩ := o_ex (a := a) (n := 21) (by omega) (by omega)
  have hp : 2 ^ k ≤ 1048576 := Nat.pow_le_pow_right (n := 2) (by decide) (show k ≤ 20 by omega)
  obtain ⟨e0, d0, q0⟩ := sgE_0
  have r1 := x_signs (N := N) (show k ≤ 20 by omega) (2 ^ k) 0 (n := N) (by omega) (by omega)
  have r2 := m_signs_ok (N := N) (V := M1) (show k ≤ 20 by omega) k 0 (n := N) (q := 0) (by omega) (by omega) (by omega)
  rw [e0, d0] at r2
  rw [show x0_signs_L16 N (Int32.ofNat k) N 0 0 = _ from r1, show m_signs_L28 N M1 (Int32.ofNat k) N 1 0 0 0 = _ from r2, gs_bd, gs_b2, o_add]
  have e : sgC sgO (2 ^ k) = sgE k + sgD k := sgC_sp (fun i => sgO i) (fun i => i.testBit 0) (2 ^ k)
  rw [e]
  exact ⟨M1, _, rfl, rfl, h0⟩
