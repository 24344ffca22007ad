/-! WHAT GOES OVER, and back -/
set_option maxRecDepth 100000
def fxb (k : Nat) : gz_N → Nat → Bool := fun n i => fxa k n i || ((n.1 == 24 || n.1 == 41) && n.2.1 == k)
def fmb : gz_N → Nat → Bool := fun n i => fma n i || n == (2, 45, 0) || n == (2, 46, 0) || (n == (2, 1, 0) && (5 ≤ i && i < 65))
theorem fxb_fx {k : Nat} (n : gz_N) (i : Nat) (h : fx k n i = false) : fxb k n i = false := by
  have h2 := fxa_fx n i h
  unfold fxb
  rw [h2, Bool.false_or]
  obtain ⟨a, b, c⟩ := n
  unfold fx at h
  clear h2
  simp only [Bool.and_eq_false_iff, Bool.or_eq_false_iff, beq_eq_false_iff_ne, decide_eq_false_iff_not, Prod.mk.injEq, ne_eq] at *
  omega
theorem fmb_fm (n : gz_N) (i : Nat) (h : fm n i = false) : fmb n i = false := by
  have h2 := fma_fm n i h
  unfold fmb
  rw [h2]
  unfold fm at h
  simp only [Bool.or_eq_false_iff] at *
  exact ⟨⟨⟨trivial, h.1.1.2⟩, h.1.2⟩, by rw [h.1.1.1.1.1.1]; rfl⟩
theorem fxa_b {k : Nat} (n : gz_N) (i : Nat) (h : fxb k n i = false) : fxa k n i = false := by
  unfold fxb at h
  simp only [Bool.or_eq_false_iff] at h
  exact h.1
theorem fma_b (n : gz_N) (i : Nat) (h : fmb n i = false) : fma n i = false := by
  unfold fmb at h
  simp only [Bool.or_eq_false_iff] at h
  exact h.1.1.1
/-- what went over of a trait, both ways, and that it can go back -/
def goR (k p q t : Nat) (V M : gz_V) : Prop := V (24, k, 0) t = M (2, 45, 0) t ∧ V (24, k, 1) t = M (2, 46, 0) t ∧ (0 ≤ (M (2, 45, 0) t).toInt ∧ (M (2, 45, 0) t).toInt ≤ 999 ∧ 0 ≤ (M (2, 46, 0) t).toInt ∧ (M (2, 46, 0) t).toInt ≤ 999)
  ∧ (0 ≤ (M (2, 1, 0) (5 + 5 * p + t)).toInt + (M (2, 45, 0) t).toInt - (M (2, 46, 0) t).toInt ∧ (M (2, 1, 0) (5 + 5 * p + t)).toInt + (M (2, 45, 0) t).toInt - (M (2, 46, 0) t).toInt ≤ 999)
  ∧ 0 ≤ (M (2, 1, 0) (5 + 5 * q + t)).toInt + (M (2, 46, 0) t).toInt - (M (2, 45, 0) t).toInt ∧ (M (2, 1, 0) (5 + 5 * q + t)).toInt + (M (2, 46, 0) t).toInt - (M (2, 45, 0) t).toInt ≤ 999
theorem m_hasTrait_ok {M : gz_V} {p t : Nat} {v : Int32} (hp : p < 12) (ht : t < 5) : m_hasTrait M (Int32.ofNat p) (Int32.ofNat t) v = some (gz_up M (2, 1, 0) (5 + 5 * p + t) (m_held v 0 999)) := by
  unfold m_hasTrait
  rw [o_mull, o_addl, o_add, gs_gd (o_inb (by omega) (by omega)), o_nat (by omega)]
  rfl
section OVER
variable {k P H b0 p q t N : Nat} {F : Int32} {Ds : gz_S} {Df : gz_R} {V M : gz_V}
/-- both traits of a pair change alike -/
theorem cU.two (h : cU k P H F b0 Ds Df V M) (hp : p < 12) (hq : q < 12) (ht : t < 5) (hpq : p ≠ q) {a b : Int32} (ha : 0 ≤ a.toInt ∧ a.toInt ≤ 999) (hb : 0 ≤ b.toInt ∧ b.toInt ≤ 999) : cU k P H F b0 Ds Df (gz_up (gz_up V (41, k, p) t a) (41, k, q) t b) (gz_up (gz_up M (2, 1, 0) (5 + 5 * p + t) a) (2, 1, 0) (5 + 5 * q + t) b) := by
  refine h.row ((fr.rf.up (by simp [fx])).up (by simp [fx])) ((fr.rf.up (by simp [fm])).up (by simp [fm])) (fun i hi => ?_) (fun i h1 h2 => ?_) (fun j hj => ?_) ?_ (fun i => ?_) ?_
  · have := h.2.1 i hi
    rw [xu_trait hq ht, xu_trait hp ht]
    simp only [upd_at, up_at, true_and, this]
  · have := h.2.2.1.1 i h1 h2
    simp only [up_at, true_and]
    split
    · exact hb
    · split
      · exact ha
      · exact this
  · have := h.2.2.1.2.1 j hj
    have hH := h.1.2.2.1
    simp only [up_at, true_and]
    rw [if_neg (by omega), if_neg (by omega)]
    exact this
  · simp only [up_at, true_and]
    rw [if_neg (by omega), if_neg (by omega)]
  · rw [up_ne (by simp), up_ne (by simp)]
  · rw [up_ne (by decide), up_ne (by decide)]
/-- a trait goes over -/
theorem z_over (h : cU k P H F b0 Ds Df V M) (hg : grR k V M) (hN : 500 ≤ N) (hp : p < 12) (hq : q < 12) (hpq : p ≠ q) (ht : t < 5) (h2 : V (23, k, 0) 2 = Int32.ofNat p) (h3 : V (23, k, 0) 3 = Int32.ofNat q) :
    ∃ V' M', x1_goesOver N Ds Df V k (Int32.ofNat t) = some V' ∧ (∀ (n : Nat) (s : Int32), m_passAll_L5 N (Int32.ofNat p) (Int32.ofNat q) (n + 1) M s (Int32.ofNat t) = m_passAll_L5 N (Int32.ofNat p) (Int32.ofNat q) n M' ((s + M' (2, 45, 0) t) + M' (2, 46, 0) t) (Int32.ofNat (t + 1))) ∧ cU k P H F b0 Ds Df V' M' ∧ fr (fxb k) V V' ∧ fr fmb M M' ∧ goR k p q t V' M' ∧ ∀ s, s < 5 → s ≠ t → (M' (2, 45, 0) s = M (2, 45, 0) s ∧ M' (2, 46, 0) s = M (2, 46, 0) s) ∧ (goR k p q s V M → goR k p q s V' M') := by
  have tn : (Int32.ofNat t).toNatClampNeg = t := o_nat (by omega)
  have tb : gz_inb (Int32.ofNat t) 5 = true := o_inb ht (by omega)
  have pn : (Int32.ofNat p).toNatClampNeg = p := o_nat (by omega)
  have qn : (Int32.ofNat q).toNatClampNeg = q := o_nat (by omega)
  have pb : gz_inb (Int32.ofNat p) 12 = true := o_inb hp (by omega)
  have qb : gz_inb (Int32.ofNat q) 12 = true := o_inb hq (by omega)
  obtain ⟨V1, M1, r1, a1, a2, a3, a4, a5, a6, a7⟩ := z_passes h hg hN hp hq ht
  have g1 : grR k V1 M1 := by
    unfold grR
    rw [show V1 (23, k, 0) = V (23, k, 0) from funext (fun i => a6 _ i (by simp [fxa])), show M1 (1, 0, 0) = M (1, 0, 0) from funext (fun i => a7 _ i rfl), show M1 (2, 8, 0) = M (2, 8, 0) from funext (fun i => a7 _ i rfl), show M1 (2, 9, 0) = M (2, 9, 0) from funext (fun i => a7 _ i rfl)]
    exact hg
  obtain ⟨V2, M2, r2, b1, b2, b3, b4, b5, b6, b7⟩ := z_passes a5 g1 hN hq hp ht
  have x12 := a6.trans b6
  have m12 := a7.trans b7
  have v1 : V1 (23, k, 0) = V (23, k, 0) := funext (fun i => a6 _ i (by simp [fxa]))
  have v2 : V2 (23, k, 0) = V (23, k, 0) := funext (fun i => x12 _ i (by simp [fxa]))
  have row1 : M1 (2, 1, 0) = M (2, 1, 0) := funext (fun i => a7 _ i rfl)
  have row2 : M2 (2, 1, 0) = M (2, 1, 0) := funext (fun i => m12 _ i rfl)
  have T0p := h.2.1.trait hp ht
  have T1q : V1 (41, k, q) t = M (2, 1, 0) (5 + 5 * q + t) := by rw [← row1]; exact a5.2.1.trait hq ht
  have T2p : V2 (41, k, p) t = M (2, 1, 0) (5 + 5 * p + t) := by rw [← row2]; exact b5.2.1.trait hp ht
  have T2q : V2 (41, k, q) t = M (2, 1, 0) (5 + 5 * q + t) := by rw [← row2]; exact b5.2.1.trait hq ht
  have Ro := h.2.2.1.1 (5 + 5 * p + t) (by omega) (by omega)
  have Rq := h.2.2.1.1 (5 + 5 * q + t) (by omega) (by omega)
  generalize hown : M (2, 1, 0) (5 + 5 * p + t) = own at *
  generalize hoth : M (2, 1, 0) (5 + 5 * q + t) = oth at *
  have ov := ar_over Ro.1 Ro.2 a3 a4
  have bkk := ar_over Rq.1 Rq.2 b3 b4
  generalize hover : own * r1 / 1000 = over at *
  generalize hback : oth * r2 / 1000 = back at *
  obtain ⟨wr, e1, e2, e3, e4, w1, w2, w3, w4⟩ := ar_pass ov.1 ov.2 Ro.2 bkk.1 bkk.2 Rq.2 (wO := m_lesser over ((999 - oth) + back)) (wB := m_lesser back ((999 - own) + over)) rfl rfl
  generalize hwO : m_lesser over ((999 - oth) + back) = wO at *
  generalize hwB : m_lesser back ((999 - own) + over) = wB at *
  have c0 : cU k P H F b0 Ds Df (gz_up (gz_up V2 (24, k, 0) t wO) (24, k, 1) t wB) (gz_up (gz_up M2 (2, 45, 0) t wO) (2, 46, 0) t wB) := b5.sc ((fr.rf.up (by simp [fx])).up (by simp [fx])) ((fr.rf.up (by simp [fm])).up (by simp [fm])) (by rw [xr_no (by simp [xsl]), xr_no (by simp [xsl])]) (by rw [up_ne (by decide), up_ne (by decide)]) (fun i => by rw [up_ne (by simp), up_ne (by simp)]) (by rw [up_ne (by decide), up_ne (by decide)])
  have c1 := c0.two hp hq ht hpq (a := own + 1 * (wB - wO)) (b := oth - 1 * (wB - wO)) (by rw [e3]; exact ⟨w1, w2⟩) (by rw [e4]; exact ⟨w3, w4⟩)
  refine ⟨_, _, ?_, ?_, c1, ?_, ?_, ?_, ?_⟩
  · unfold x1_goesOver
    rw [h2, h3, gs_gd pb, pn, gs_let, gs_gd qb, qn, gs_let, gs_gd tb, a1, gs_b2, tn, T0p, hover, gs_let, gs_gd tb, v1, h2, h3, b1, gs_b2, T1q, hback, gs_let, gs_gd tb, gs_gd tb, T2q, b_min, hwO, gs_let, gs_gd tb, gs_gd tb]
    rw [show gz_up V2 (24, k, 0) t wO (41, k, p) t = own by rw [up_ne (by simp)]; exact T2p, b_min, hwB, gs_let]
    unfold x1_shifts
    rw [gs_gd tb, gs_gd tb, tn, gs_let]
    have k2 : gz_up (gz_up V2 (24, k, 0) t wO) (24, k, 1) t wB (23, k, 0) = V (23, k, 0) := by rw [up_ne (by simp), up_ne (by simp), v2]
    rw [k2, h2, gs_gd pb, gs_gd tb, gs_gd tb, pn, gs_let]
    have k3 : ∀ x, gz_up (gz_up (gz_up V2 (24, k, 0) t wO) (24, k, 1) t wB) (41, k, p) t x (23, k, 0) = V (23, k, 0) := fun x => by rw [up_ne (by simp)]; exact k2
    rw [k3, h3, gs_gd qb, gs_gd tb, gs_gd tb, qn, gs_let, gs_bd]
    have k4 : gz_up (gz_up V2 (24, k, 0) t wO) (24, k, 1) t wB (24, k, 1) t = wB := by simp [up_at]
    have k5 : gz_up (gz_up V2 (24, k, 0) t wO) (24, k, 1) t wB (24, k, 0) t = wO := by simp [up_at]
    have k6 : gz_up (gz_up V2 (24, k, 0) t wO) (24, k, 1) t wB (41, k, p) t = own := by rw [up_ne (by simp), up_ne (by simp)]; exact T2p
    have k7 : ∀ x, gz_up (gz_up (gz_up V2 (24, k, 0) t wO) (24, k, 1) t wB) (41, k, p) t x (41, k, q) t = oth := fun x => by rw [up_ne (by simp; omega), up_ne (by simp), up_ne (by simp)]; exact T2q
    rw [k4, k5, k6, k7]
  · intro n s
    have e51 : Int32.ofNat t + 1 = Int32.ofNat (t + 1) := o_addr 1 t
    rw [m_passAll_L5, if_neg (by rw [o_lel (by decide) (by omega)]; show ¬ 5 ≤ t; omega), m_trait_ok hp ht, gs_bd, m_trait_ok hq ht, gs_bd, a2, gs_b2, gs_let, b2, gs_b2, gs_let, gs_gd tb, gs_let, gs_gd tb, gs_let, gs_gd tb, gs_gd tb, tn, hown, hoth, hover, hback, hwO, hwB]
    have k4 : gz_up (gz_up M2 (2, 45, 0) t wO) (2, 46, 0) t wB (2, 45, 0) t = wO := by simp [up_at]
    have k5 : gz_up (gz_up M2 (2, 45, 0) t wO) (2, 46, 0) t wB (2, 46, 0) t = wB := by simp [up_at]
    rw [k4, k5, m_hasTrait_ok hp ht, gs_bd, gs_gd tb, gs_gd tb]
    have k6 : ∀ (j : Nat) (x : Int32), gz_up (gz_up (gz_up M2 (2, 45, 0) t wO) (2, 46, 0) t wB) (2, 1, 0) j x (2, 45, 0) t = wO := fun j x => by simp [up_at]
    have k7 : ∀ (j : Nat) (x : Int32), gz_up (gz_up (gz_up M2 (2, 45, 0) t wO) (2, 46, 0) t wB) (2, 1, 0) j x (2, 46, 0) t = wB := fun j x => by simp [up_at]
    rw [k6, k7, m_hasTrait_ok hq ht, gs_bd, gs_gd tb, gs_gd tb, gs_let, e51, e1, e2]
  · exact (((((x12.wk fxa_b).up (by simp [fxb])).up (by simp [fxb])).up (by simp [fxb])).up (by simp [fxb]))
  · exact (((((m12.wk fma_b).up (by simp [fmb])).up (by simp [fmb])).up (by simp [fmb]; omega)).up (by simp [fmb]; omega))
  · unfold goR
    have n1 : 5 + 5 * p + t ≠ 5 + 5 * q + t := by omega
    have y1 : gz_up (gz_up (gz_up (gz_up V2 (24, k, 0) t wO) (24, k, 1) t wB) (41, k, p) t (own + 1 * (wB - wO))) (41, k, q) t (oth - 1 * (wB - wO)) (24, k, 0) t = wO := by simp [up_at]
    have y2 : gz_up (gz_up (gz_up (gz_up V2 (24, k, 0) t wO) (24, k, 1) t wB) (41, k, p) t (own + 1 * (wB - wO))) (41, k, q) t (oth - 1 * (wB - wO)) (24, k, 1) t = wB := by simp [up_at]
    have y3 : gz_up (gz_up (gz_up (gz_up M2 (2, 45, 0) t wO) (2, 46, 0) t wB) (2, 1, 0) (5 + 5 * p + t) (own + 1 * (wB - wO))) (2, 1, 0) (5 + 5 * q + t) (oth - 1 * (wB - wO)) (2, 45, 0) t = wO := by simp [up_at]
    have y4 : gz_up (gz_up (gz_up (gz_up M2 (2, 45, 0) t wO) (2, 46, 0) t wB) (2, 1, 0) (5 + 5 * p + t) (own + 1 * (wB - wO))) (2, 1, 0) (5 + 5 * q + t) (oth - 1 * (wB - wO)) (2, 46, 0) t = wB := by simp [up_at]
    have y5 : gz_up (gz_up (gz_up (gz_up M2 (2, 45, 0) t wO) (2, 46, 0) t wB) (2, 1, 0) (5 + 5 * p + t) (own + 1 * (wB - wO))) (2, 1, 0) (5 + 5 * q + t) (oth - 1 * (wB - wO)) (2, 1, 0) (5 + 5 * p + t) = own + 1 * (wB - wO) := by rw [up_at, if_neg (fun z => n1 z.2), up_at, if_pos ⟨rfl, rfl⟩]
    have y6 : gz_up (gz_up (gz_up (gz_up M2 (2, 45, 0) t wO) (2, 46, 0) t wB) (2, 1, 0) (5 + 5 * p + t) (own + 1 * (wB - wO))) (2, 1, 0) (5 + 5 * q + t) (oth - 1 * (wB - wO)) (2, 1, 0) (5 + 5 * q + t) = oth - 1 * (wB - wO) := by rw [up_at, if_pos ⟨rfl, rfl⟩]
    rw [y1, y2, y3, y4, y5, y6, e3, e4]
    exact ⟨rfl, rfl, wr, ⟨by omega, by omega⟩, by omega, by omega⟩
  · intro s hs hst
    unfold goR
    have n1 : 5 + 5 * p + s ≠ 5 + 5 * p + t := by omega
    have n2 : 5 + 5 * p + s ≠ 5 + 5 * q + t := by omega
    have n3 : 5 + 5 * q + s ≠ 5 + 5 * p + t := by omega
    have n4 : 5 + 5 * q + s ≠ 5 + 5 * q + t := by omega
    have y1 : gz_up (gz_up (gz_up (gz_up V2 (24, k, 0) t wO) (24, k, 1) t wB) (41, k, p) t (own + 1 * (wB - wO))) (41, k, q) t (oth - 1 * (wB - wO)) (24, k, 0) s = V (24, k, 0) s := by
      simp [up_at, hst]
      exact x12 _ s (by simp [fxa])
    have y2 : gz_up (gz_up (gz_up (gz_up V2 (24, k, 0) t wO) (24, k, 1) t wB) (41, k, p) t (own + 1 * (wB - wO))) (41, k, q) t (oth - 1 * (wB - wO)) (24, k, 1) s = V (24, k, 1) s := by
      simp [up_at, hst]
      exact x12 _ s (by simp [fxa])
    have y3 : gz_up (gz_up (gz_up (gz_up M2 (2, 45, 0) t wO) (2, 46, 0) t wB) (2, 1, 0) (5 + 5 * p + t) (own + 1 * (wB - wO))) (2, 1, 0) (5 + 5 * q + t) (oth - 1 * (wB - wO)) (2, 45, 0) s = M (2, 45, 0) s := by
      simp [up_at, hst]
      exact m12 _ s rfl
    have y4 : gz_up (gz_up (gz_up (gz_up M2 (2, 45, 0) t wO) (2, 46, 0) t wB) (2, 1, 0) (5 + 5 * p + t) (own + 1 * (wB - wO))) (2, 1, 0) (5 + 5 * q + t) (oth - 1 * (wB - wO)) (2, 46, 0) s = M (2, 46, 0) s := by
      simp [up_at, hst]
      exact m12 _ s rfl
    have y5 : gz_up (gz_up (gz_up (gz_up M2 (2, 45, 0) t wO) (2, 46, 0) t wB) (2, 1, 0) (5 + 5 * p + t) (own + 1 * (wB - wO))) (2, 1, 0) (5 + 5 * q + t) (oth - 1 * (wB - wO)) (2, 1, 0) (5 + 5 * p + s) = M (2, 1, 0) (5 + 5 * p + s) := by rw [up_at, if_neg (fun z => n2 z.2), up_at, if_neg (fun z => n1 z.2), up_ne (by decide), up_ne (by decide), row2]
    have y6 : gz_up (gz_up (gz_up (gz_up M2 (2, 45, 0) t wO) (2, 46, 0) t wB) (2, 1, 0) (5 + 5 * p + t) (own + 1 * (wB - wO))) (2, 1, 0) (5 + 5 * q + t) (oth - 1 * (wB - wO)) (2, 1, 0) (5 + 5 * q + s) = M (2, 1, 0) (5 + 5 * q + s) := by rw [up_at, if_neg (fun z => n4 z.2), up_at, if_neg (fun z => n3 z.2), up_ne (by decide), up_ne (by decide), row2]
    rw [y1, y2, y3, y4, y5, y6]
    exact ⟨⟨rfl, rfl⟩, id⟩
end OVER
