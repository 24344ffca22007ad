/-! feed -/
set_option maxRecDepth 100000
section FEED
variable {Ds : gz_S} {Df : gz_R} {c N : Nat}
theorem z_type {V M : gz_V} {t n m : Nat} {v z : Int32} (h : JJ Ds Df V c M) (ht : t < 400) (hx : V (10, 0, 0) 1 = Int32.ofNat t) (hm : M (1, 0, 0) 12 = Int32.ofNat t) (hz : ¬ z < 0) :
    ∃ V' M', x0_word_L3 N v (n + 1) V z = x0_word_L3 N v n V' (z + (-8)) ∧ m_types_L3 N v (m + 1) M z = m_types_L3 N v m M' (z + (-8)) ∧ JJ Ds Df V' c M' ∧ V' (10, 0, 0) 1 = Int32.ofNat (t + 1) ∧ M' (1, 0, 0) 12 = Int32.ofNat (t + 1) := by
  have tn : (Int32.ofNat t).toNatClampNeg = t := o_nat (by omega)
  have tb : gz_inb (Int32.ofNat t) 400 = true := o_inb ht (by omega)
  have e1 : Int32.ofNat t + 1 = Int32.ofNat (t + 1) := o_addr 1 t
  obtain ⟨P, H, b, -, -, -, ⟨-, -, -, -, g7, -⟩, -⟩ := id h
  rw [x0_word_L3, if_neg hz, hx, gs_gd tb, gs_let, gs_let, tn, up_ne (show ((10, 0, 0) : gz_N) ≠ (11, 0, 0) by decide), hx, e1, m_types_L3, if_neg hz, hm, gs_gd tb, gs_let, gs_let, tn, up_ne (show ((1, 0, 0) : gz_N) ≠ (2, 11, 0) by decide), hm, e1]
  refine ⟨_, _, rfl, rfl, h.tp (fun n i q1 q2 => ?_) (fun n i q1 q2 => ?_) ⟨t + 1, by omega, by rw [up_at, if_pos ⟨rfl, rfl⟩], by rw [up_at, if_pos ⟨rfl, rfl⟩]⟩ (fun i hi => ?_), by rw [up_at, if_pos ⟨rfl, rfl⟩], by rw [up_at, if_pos ⟨rfl, rfl⟩]⟩
  · rw [up_at, if_neg q1, up_ne q2]
  · rw [up_at, if_neg q1, up_ne q2]
  · rw [up_ne (by decide), up_at, up_ne (by decide), up_at]
    by_cases q : i = t
    · rw [if_pos ⟨rfl, q⟩, if_pos ⟨rfl, q⟩]
      exact tp_byte _
    · rw [if_neg (fun z => q z.2), if_neg (fun z => q z.2)]
      exact g7 i hi
theorem z_word4 {V M : gz_V} {t : Nat} (v : Int32) (hN : 1000 ≤ N) (h : JJ Ds Df V c M) (ht : t + 4 ≤ 400) (hx : V (10, 0, 0) 1 = Int32.ofNat t) (hm : M (1, 0, 0) 12 = Int32.ofNat t) :
    ∃ V' M', x0_word N V v = some V' ∧ m_types N M v = some M' ∧ JJ Ds Df V' c M' ∧ V' (10, 0, 0) 1 = Int32.ofNat (t + 4) ∧ M' (1, 0, 0) 12 = Int32.ofNat (t + 4) := by
  obtain ⟨k, rfl⟩ : ∃ k, N = k + 5 := ⟨N - 5, by omega⟩
  obtain ⟨V1, M1, a1, b1, c1, d1, f1⟩ := z_type (N := k + 5) (n := k + 4) (m := k + 4) (v := v) (z := 24) h (by omega) hx hm (by decide)
  obtain ⟨V2, M2, a2, b2, c2, d2, f2⟩ := z_type (N := k + 5) (n := k + 3) (m := k + 3) (v := v) (z := 24 + (-8)) c1 (by omega) d1 f1 (by decide)
  obtain ⟨V3, M3, a3, b3, c3, d3, f3⟩ := z_type (N := k + 5) (n := k + 2) (m := k + 2) (v := v) (z := 24 + (-8) + (-8)) c2 (by omega) d2 f2 (by decide)
  obtain ⟨V4, M4, a4, b4, c4, d4, f4⟩ := z_type (N := k + 5) (n := k + 1) (m := k + 1) (v := v) (z := 24 + (-8) + (-8) + (-8)) c3 (by omega) d3 f3 (by decide)
  refine ⟨V4, M4, ?_, ?_, c4, d4, f4⟩
  · unfold x0_word
    rw [a1, a2, a3, a4, x0_word_L3, if_pos (by decide)]
    rfl
  · unfold m_types
    rw [b1, b2, b3, b4, m_types_L3, if_pos (by decide)]
    rfl
end FEED
theorem J_feed {N : Nat} (hN : 1000 ≤ N) : lo_feed JJ N := by
  intro Ds Df V c M a1 a2 a3 a4 a5 h
  have h0 := h.m0
  obtain ⟨P, H, b, -, -, -, ⟨-, -, -, ⟨t, g4, g5, g6⟩, -⟩, -⟩ := h.m0
  unfold x0_feed m_feed
  rw [gs_let]
  generalize gz_up M (1, 0, 0) 0 0 = M1 at *
  rw [g5, g6]
  by_cases ht : t ≤ 380
  · have c1 : Int32.ofNat t + 20 ≤ 400 := by
      rw [show Int32.ofNat t + 20 = Int32.ofNat (t + 20) from o_addr 20 t, show (400 : Int32) = Int32.ofNat 400 from rfl, o_le (by omega) (by omega)]
      omega
    have c2 : Int32.ofNat t ≤ 380 := by
      rw [show (380 : Int32) = Int32.ofNat 380 from rfl, o_le (by omega) (by omega)]
      omega
    rw [if_pos c1, if_pos c2]
    obtain ⟨V1, M2, x1, y1, j1, p1, q1⟩ := z_word4 a1 hN h0 (by omega) g5 g6
    obtain ⟨V2, M3, x2, y2, j2, p2, q2⟩ := z_word4 a2 hN j1 (by omega) p1 q1
    obtain ⟨V3, M4, x3, y3, j3, p3, q3⟩ := z_word4 a3 hN j2 (by omega) p2 q2
    obtain ⟨V4, M5, x4, y4, j4, p4, q4⟩ := z_word4 a4 hN j3 (by omega) p3 q3
    obtain ⟨V5, M6, x5, y5, j5, p5, q5⟩ := z_word4 a5 hN j4 (by omega) p4 q4
    rw [x1, gs_bd, x2, gs_bd, x3, gs_bd, x4, gs_bd, x5, gs_bd, y1, gs_bd, y2, gs_bd, y3, gs_bd, y4, gs_bd, y5, gs_bd, p5, q5]
    exact ⟨V5, M6, _, rfl, rfl, j5⟩
  · have c1 : ¬ Int32.ofNat t + 20 ≤ 400 := by
      rw [show Int32.ofNat t + 20 = Int32.ofNat (t + 20) from o_addr 20 t, show (400 : Int32) = Int32.ofNat 400 from rfl, o_le (by omega) (by omega)]
      omega
    have c2 : ¬ Int32.ofNat t ≤ 380 := by
      rw [show (380 : Int32) = Int32.ofNat 380 from rfl, o_le (by omega) (by omega)]
      omega
    rw [if_neg c1, if_neg c2]
    exact ⟨V, M1, -1, rfl, rfl, h0⟩
