/-! NOTES, DRAWS, what goes over -/
set_option maxRecDepth 100000
theorem i_div {a b : Int32} (h1 : 0 ≤ a.toInt) (h2 : 0 < b.toInt) : (a / b).toInt = a.toInt / b.toInt := by
  rw [Int32.toInt_div, Int.tdiv_eq_ediv_of_nonneg h1]
  have := i_max a
  have h3 : 0 ≤ a.toInt / b.toInt := Int.ediv_nonneg h1 (by omega)
  have h4 : a.toInt / b.toInt ≤ a.toInt := Int.ediv_le_self _ h1
  exact i_bmod (by omega) (by omega)
theorem b_min {x y : Int32} : gz_min x y = m_lesser x y := by
  unfold gz_min m_lesser
  rw [i_eq]
  repeat' split
  all_goals (simp only [i_lt, i_le] at * <;> omega)
theorem b_max {x y : Int32} : gz_max x y = m_greater x y := by
  unfold gz_max m_greater
  rw [i_eq]
  repeat' split
  all_goals (simp only [i_lt, i_le] at * <;> omega)
theorem ar_over {own r : Int32} (h1 : 0 ≤ own.toInt) (h2 : own.toInt ≤ 999) (h3 : 0 ≤ r.toInt) (h4 : r.toInt ≤ 1000) : 0 ≤ ((own * r) / 1000).toInt ∧ ((own * r) / 1000).toInt ≤ own.toInt := by
  have q1 : 0 ≤ own.toInt * r.toInt := Int.mul_nonneg h1 h3
  have q2 : own.toInt * r.toInt ≤ own.toInt * 1000 := Int.mul_le_mul_of_nonneg_left h4 h1
  have e : (own * r).toInt = own.toInt * r.toInt := i_mul (by omega) (by omega)
  have k : (1000 : Int32).toInt = 1000 := rfl
  rw [i_div (by rw [e]; exact q1) (by rw [k]; decide), e, k]
  omega
theorem les_t {x y : Int32} : (m_lesser x y).toInt = if y.toInt ≤ x.toInt then y.toInt else x.toInt := by
  unfold m_lesser
  by_cases h : y ≤ x
  · rw [if_pos h, if_pos (i_le.mp h)]
  · rw [if_neg h, if_neg (fun q => h (i_le.mpr q))]
theorem held_id {x : Int32} (h1 : 0 ≤ x.toInt) (h2 : x.toInt ≤ 999) : m_held x 0 999 = x := by
  unfold m_held
  rw [if_pos (by rw [i_le]; exact h1), if_pos (by rw [i_le]; exact h2)]
theorem ar_pass {own other over back : Int32} (h1 : 0 ≤ over.toInt) (h2 : over.toInt ≤ own.toInt) (h3 : own.toInt ≤ 999) (h4 : 0 ≤ back.toInt) (h5 : back.toInt ≤ other.toInt) (h6 : other.toInt ≤ 999) {wO wB : Int32} (hO : wO = m_lesser over ((999 - other) + back)) (hB : wB = m_lesser back ((999 - own) + over)) :
    (0 ≤ wO.toInt ∧ wO.toInt ≤ 999 ∧ 0 ≤ wB.toInt ∧ wB.toInt ≤ 999) ∧ own + 1 * (wB - wO) = m_held ((own - wO) + wB) 0 999 ∧ other - 1 * (wB - wO) = m_held ((other - wB) + wO) 0 999 ∧ (own + 1 * (wB - wO)).toInt = own.toInt + wB.toInt - wO.toInt ∧ (other - 1 * (wB - wO)).toInt = other.toInt - wB.toInt + wO.toInt ∧ 0 ≤ own.toInt + wB.toInt - wO.toInt ∧ own.toInt + wB.toInt - wO.toInt ≤ 999 ∧ 0 ≤ other.toInt - wB.toInt + wO.toInt ∧ other.toInt - wB.toInt + wO.toInt ≤ 999 := by
  have k : (999 : Int32).toInt = 999 := rfl
  have a1 : (999 - other).toInt = 999 - other.toInt := by rw [i_sub, k] <;> (try rw [k]) <;> omega
  have a2 : ((999 - other) + back).toInt = 999 - other.toInt + back.toInt := by rw [i_add, a1] <;> (try rw [a1]) <;> omega
  have a3 : (999 - own).toInt = 999 - own.toInt := by rw [i_sub, k] <;> (try rw [k]) <;> omega
  have a4 : ((999 - own) + over).toInt = 999 - own.toInt + over.toInt := by rw [i_add, a3] <;> (try rw [a3]) <;> omega
  have bO : wO.toInt = if 999 - other.toInt + back.toInt ≤ over.toInt then 999 - other.toInt + back.toInt else over.toInt := by rw [hO, les_t, a2]
  have bB : wB.toInt = if 999 - own.toInt + over.toInt ≤ back.toInt then 999 - own.toInt + over.toInt else back.toInt := by rw [hB, les_t, a4]
  have rg1 : 0 ≤ wO.toInt ∧ wO.toInt ≤ 999 ∧ 0 ≤ wB.toInt ∧ wB.toInt ≤ 999 := by
    rw [bO, bB]
    split <;> split <;> omega
  have rg2 : 0 ≤ own.toInt + wB.toInt - wO.toInt ∧ own.toInt + wB.toInt - wO.toInt ≤ 999 ∧ 0 ≤ other.toInt - wB.toInt + wO.toInt ∧ other.toInt - wB.toInt + wO.toInt ≤ 999 := by
    rw [bO, bB]
    split <;> split <;> omega
  have e1 : (own + 1 * (wB - wO)).toInt = own.toInt + wB.toInt - wO.toInt := by
    have c : (wB - wO).toInt = wB.toInt - wO.toInt := by rw [i_sub] <;> omega
    rw [Int32.one_mul, i_add, c] <;> (try rw [c]) <;> omega
  have e2 : (other - 1 * (wB - wO)).toInt = other.toInt - wB.toInt + wO.toInt := by
    have c : (wB - wO).toInt = wB.toInt - wO.toInt := by rw [i_sub] <;> omega
    rw [Int32.one_mul, i_sub, c] <;> (try rw [c]) <;> omega
  have f1 : ((own - wO) + wB).toInt = own.toInt + wB.toInt - wO.toInt := by
    have c : (own - wO).toInt = own.toInt - wO.toInt := by rw [i_sub] <;> omega
    rw [i_add, c] <;> (try rw [c]) <;> omega
  have f2 : ((other - wB) + wO).toInt = other.toInt - wB.toInt + wO.toInt := by
    have c : (other - wB).toInt = other.toInt - wB.toInt := by rw [i_sub] <;> omega
    rw [i_add, c] <;> (try rw [c]) <;> omega
  refine ⟨rg1, ?_, ?_, e1, e2, rg2⟩
  · rw [held_id (by rw [f1]; omega) (by rw [f1]; omega), i_eq, e1, f1]
  · rw [held_id (by rw [f2]; omega) (by rw [f2]; omega), i_eq, e2, f2]
/-- back again -/
theorem ar_back {a b wO wB : Int32} (h : 0 ≤ wO.toInt ∧ wO.toInt ≤ 999 ∧ 0 ≤ wB.toInt ∧ wB.toInt ≤ 999) (ha : 0 ≤ a.toInt ∧ a.toInt ≤ 999) (hb : 0 ≤ b.toInt ∧ b.toInt ≤ 999) (h1 : 0 ≤ a.toInt + wO.toInt - wB.toInt ∧ a.toInt + wO.toInt - wB.toInt ≤ 999) (h2 : 0 ≤ b.toInt + wB.toInt - wO.toInt ∧ b.toInt + wB.toInt - wO.toInt ≤ 999) :
    a + (-1) * (wB - wO) = m_held ((a + wO) - wB) 0 999 ∧ b - (-1) * (wB - wO) = m_held ((b + wB) - wO) 0 999 ∧ 0 ≤ (a + (-1) * (wB - wO)).toInt ∧ (a + (-1) * (wB - wO)).toInt ≤ 999 ∧ 0 ≤ (b - (-1) * (wB - wO)).toInt ∧ (b - (-1) * (wB - wO)).toInt ≤ 999 := by
  have c : (wB - wO).toInt = wB.toInt - wO.toInt := by rw [i_sub] <;> omega
  have k : (-1 : Int32).toInt = -1 := rfl
  have d : ((-1) * (wB - wO)).toInt = wO.toInt - wB.toInt := by rw [i_mul, k, c] <;> (try rw [k, c]) <;> omega
  have e1 : (a + (-1) * (wB - wO)).toInt = a.toInt + wO.toInt - wB.toInt := by rw [i_add, d] <;> (try rw [d]) <;> omega
  have e2 : (b - (-1) * (wB - wO)).toInt = b.toInt + wB.toInt - wO.toInt := by rw [i_sub, d] <;> (try rw [d]) <;> omega
  have f1 : ((a + wO) - wB).toInt = a.toInt + wO.toInt - wB.toInt := by
    have c : (a + wO).toInt = a.toInt + wO.toInt := by rw [i_add] <;> omega
    rw [i_sub, c] <;> (try rw [c]) <;> omega
  have f2 : ((b + wB) - wO).toInt = b.toInt + wB.toInt - wO.toInt := by
    have c : (b + wB).toInt = b.toInt + wB.toInt := by rw [i_add] <;> omega
    rw [i_sub, c] <;> (try rw [c]) <;> omega
  refine ⟨?_, ?_, by rw [e1]; omega, by rw [e1]; omega, by rw [e2]; omega, by rw [e2]; omega⟩
  · rw [held_id (by rw [f1]; omega) (by rw [f1]; omega), i_eq, e1, f1]
  · rw [held_id (by rw [f2]; omega) (by rw [f2]; omega), i_eq, e2, f2]
def fxn (k : Nat) : gz_N → Nat → Bool := fun n i => (n.1 == 26 && n.2.1 == k) || (n == (20, k, 0) && i == 19)
def fmn : gz_N → Nat → Bool := fun n i => n == (2, 10, 0) || (n == (2, 1, 0) && i == 2)
theorem fxn_fx {k : Nat} (n : gz_N) (i : Nat) (h : fx k n i = false) : fxn k n i = false := by
  obtain ⟨a, b, c⟩ := n
  unfold fx fxn at *
  simp only [Bool.and_eq_false_iff, Bool.or_eq_false_iff, beq_eq_false_iff_ne, decide_eq_false_iff_not, Prod.mk.injEq, ne_eq] at *
  omega
theorem fmn_fm (n : gz_N) (i : Nat) (h : fm n i = false) : fmn n i = false := by
  unfold fm fmn at *
  simp only [Bool.or_eq_false_iff] at *
  exact ⟨h.1.1.1.1.1.2, by rw [h.1.1.1.1.1.1]; rfl⟩
section CORE
variable {k P H b0 p q t N : Nat} {F : Int32} {Ds : gz_S} {Df : gz_R} {V M : gz_V}
theorem z_notes (h : cU k P H F b0 Ds Df V M) (a1 a2 a3 : Int32) : ∃ V' M', x1_notes V k a1 a2 a3 = some V' ∧ m_notes M a1 a2 a3 = some M' ∧ cU k P H F b0 Ds Df V' M' ∧ fr (fxn k) V V' ∧ fr fmn M M' := by
  unfold x1_notes m_notes
  rw [h.2.2.2.1, h.2.2.2.2.1]
  by_cases hF : F = 0
  · rw [if_pos hF, if_pos hF]
    obtain ⟨b, hb0, hb1, hb2, hb3⟩ := h.2.2.2.2.2 hF
    obtain ⟨hl0, hl1⟩ := h.2.2.1.2.2
    obtain ⟨l, hl, el⟩ := o_ex (n := 151) hl0 (by omega)
    have hll : (M (2, 1, 0) 2).toInt = l := by rw [el, i_of (by omega)]
    rw [h.2.1.lines, show (2 : Int32).toNatClampNeg = 2 from rfl, el]
    by_cases hl2 : l = 150
    · rw [if_pos (by rw [hl2]; rfl), if_pos (by rw [hl2]; rfl)]
      exact ⟨V, M, rfl, rfl, h, fr.rf, fr.rf⟩
    · have hne : ¬ Int32.ofNat l = 150 := by
        rw [show (150 : Int32) = Int32.ofNat 150 from rfl, o_eq (by omega) (by omega)]
        exact hl2
      rw [if_neg hne, if_neg hne, gs_gd (o_inb (by omega) (by omega)), gs_let, o_nat (by omega)]
      simp only [gs_let]
      rw [o_mull, gs_gd (o_inb (by omega) (by omega)), o_addr, gs_gd (o_inb (by omega) (by omega)), o_addr, gs_gd (o_inb (by omega) (by omega)), o_addr, gs_gd (o_inb (by omega) (by omega)), o_nat (by omega), o_nat (by omega), o_nat (by omega), o_nat (by omega)]
      rw [show (0 : Int32).toNatClampNeg = 0 from rfl, show (1 : Int32).toNatClampNeg = 1 from rfl, show (3 : Int32).toNatClampNeg = 3 from rfl]
      have fX : fr (fxn k) V (gz_up (gz_up (gz_up (gz_up (gz_up V (26, k, l) 0 (V (20, k, 0) 17)) (26, k, l) 1 a1) (26, k, l) 2 a2) (26, k, l) 3 a3) (20, k, 0) 19 (gz_up (gz_up (gz_up (gz_up V (26, k, l) 0 (V (20, k, 0) 17)) (26, k, l) 1 a1) (26, k, l) 2 a2) (26, k, l) 3 a3 (20, k, 0) 19 + 1)) := ((((fr.rf.up (by simp [fxn])).up (by simp [fxn])).up (by simp [fxn])).up (by simp [fxn])).up (by simp [fxn])
      have fM : fr fmn M (gz_up (gz_up (gz_up (gz_up (gz_up M (2, 10, 0) (4 * l) (M (2, 1, 0) 0)) (2, 10, 0) (4 * l + 1) a1) (2, 10, 0) (4 * l + 2) a2) (2, 10, 0) (4 * l + 3) a3) (2, 1, 0) 2 (gz_up (gz_up (gz_up (gz_up M (2, 10, 0) (4 * l) (M (2, 1, 0) 0)) (2, 10, 0) (4 * l + 1) a1) (2, 10, 0) (4 * l + 2) a2) (2, 10, 0) (4 * l + 3) a3 (2, 1, 0) 2 + 1)) := ((((fr.rf.up (by simp [fmn])).up (by simp [fmn])).up (by simp [fmn])).up (by simp [fmn])).up (by simp [fmn])
      refine ⟨_, _, rfl, rfl, ?_, fX, fM⟩
      have e1 : Int32.ofNat l + 1 = Int32.ofNat (l + 1) := o_addr 1 l
      have vx : gz_up (gz_up (gz_up (gz_up V (26, k, l) 0 (V (20, k, 0) 17)) (26, k, l) 1 a1) (26, k, l) 2 a2) (26, k, l) 3 a3 (20, k, 0) 19 + 1 = Int32.ofNat (l + 1) := by
        simp [up_at]
        rw [h.2.1.lines, el]
      have vm : gz_up (gz_up (gz_up (gz_up M (2, 10, 0) (4 * l) (M (2, 1, 0) 0)) (2, 10, 0) (4 * l + 1) a1) (2, 10, 0) (4 * l + 2) a2) (2, 10, 0) (4 * l + 3) a3 (2, 1, 0) 2 + 1 = Int32.ofNat (l + 1) := by
        simp [up_at]
        rw [el]
      rw [vx] at fX ⊢
      rw [vm] at fM ⊢
      have i2 : (Int32.ofNat (l + 1)).toInt = l + 1 := by rw [i_of (by omega)]; omega
      refine h.mv (fX.wk fxn_fx) (fM.wk fmn_fm) (fun i hi => ?_) ⟨fun i hi1 hi2 => ?_, fun j hj => ?_, ?_⟩ (fun _ => ⟨if b ≤ l then l + 1 else b, by split <;> omega, ?_, by split <;> omega, fun i hi j hj => ?_⟩)
      · rw [xu_lines, xr_no (by simp [xsl]), xr_no (by simp [xsl]), xr_no (by simp [xsl]), xr_no (by simp [xsl]), upd_at, up_at]
        have := h.2.1 i hi
        by_cases q : i = 2
        · simp [q]
        · simp [q, up_at, this]
      · have := h.2.2.1.1 i hi1 hi2
        simp [up_at, show i ≠ 2 by omega]
        exact this
      · have := h.2.2.1.2.1 j hj
        simp [up_at, show 101 + j ≠ 2 by omega]
        exact this
      · simp only [up_at, and_self, if_true]
        rw [i2]
        omega
      · simp only [up_at, and_self, if_true]
        rw [i2]
        split <;> omega
      · by_cases hil : i = l
        · subst hil
          have : j = 0 ∨ j = 1 ∨ j = 2 ∨ j = 3 := by omega
          rcases this with rfl | rfl | rfl | rfl
          · simp [up_at]; exact h.2.1.day
          · simp [up_at]
          · simp [up_at]
          · simp [up_at]
        · have hib : i < b := by split at hi <;> omega
          have := hb3 i hib j hj
          simp [up_at, hil, show 4 * i + j ≠ 4 * l by omega, show 4 * i + j ≠ 4 * l + 1 by omega, show 4 * i + j ≠ 4 * l + 2 by omega, show 4 * i + j ≠ 4 * l + 3 by omega]
          exact this
  · rw [if_neg hF, if_neg hF]
    exact ⟨V, M, rfl, rfl, h, fr.rf, fr.rf⟩
end CORE
