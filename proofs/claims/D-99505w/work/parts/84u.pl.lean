/-! more people, more horses -/
set_option maxRecDepth 100000
section MORE
variable {k P H b : Nat} {Ds : gz_S} {Df : gz_R} {V M V2 M2 : gz_V}
/-- what stays, with more people and horses -/
theorem cS.more {P' H' : Nat} (h : cS k P H Ds Df V M) (hP : P ≤ P') (hP2 : P' ≤ 12) (hH : H ≤ H') (hH2 : H' ≤ 10) (e1 : V2 (20, k, 0) 13 = Int32.ofNat P') (e2 : M2 (1, 0, 0) 6 = Int32.ofNat P') (e3 : V2 (20, k, 0) 14 = Int32.ofNat H') (e4 : M2 (1, 0, 0) 7 = Int32.ofNat H')
    (hw : ∀ h, h < 10 → V2 (42, k, h) 1 = M2 (2, 8, 0) h ∧ V2 (42, k, h) 2 = M2 (2, 9, 0) h) (hv : ∀ n : gz_N, 90 ≤ n.1 → V2 n = V n) (hm : ∀ f, (f = 18 ∨ f = 19 ∨ f = 20 ∨ f = 21 ∨ f = 22 ∨ f = 23 ∨ f = 24 ∨ f = 35 ∨ f = 37 ∨ f = 39) → M2 (2, f, 0) = M (2, f, 0)) (h34 : M2 (1, 0, 0) 34 = M (1, 0, 0) 34) (h36 : M2 (1, 0, 0) 36 = M (1, 0, 0) 36) : cS k P' H' Ds Df V2 M2 := by
  obtain ⟨h1, h2, h3, h4, h5, h6, h7, h8, ⟨n, h9, hl⟩, ⟨n2, L2, el2, a1, a2, a3, a4⟩, ⟨n3, L3, el3, b1, b2, b3, b4⟩, ⟨n4, K, c1, c2, c3, c4, c5⟩⟩ := h
  refine ⟨h1, hP2, hH2, e1, e2, e3, e4, hw, ⟨n, h9, ?_⟩, ⟨n2, L2, el2, a1, a2.eqV hv, h34.trans a3, fun i hi => ?_⟩, ⟨n3, L3, el3, b1, b2.eqV hv, h36.trans b3, fun i hi => ?_⟩, ⟨n4, K, c1, c2, c3, fun p hp => ?_, c5⟩⟩
  · rw [hm 18 (by decide), hm 19 (by decide), hm 20 (by decide), hm 21 (by decide), hm 22 (by decide), hm 23 (by decide), hm 24 (by decide)]
    exact hl.eqV hv
  · rw [hm 35 (by decide)]
    obtain ⟨q1, q2, q3, q4, q5, q6, q7, q8⟩ := a4 i hi
    exact ⟨q1, q2, by rw [hv _ q1]; exact q3, q4, by omega, q6, by omega, q8⟩
  · rw [hm 37 (by decide)]
    have q := b4 i hi
    unfold deR at q ⊢
    rw [hv _ q.1]
    exact ⟨q.1, q.2.1, q.2.2.1, q.2.2.2.1, by have := q.2.2.2.2.1; omega, q.2.2.2.2.2⟩
  · rw [hv _ c2, hm 39 (by decide)]
    exact ⟨(c4 p hp).1, (c4 p hp).2.1, Nat.lt_of_lt_of_le (c4 p hp).2.2 (Nat.pow_le_pow_right (by decide) hP)⟩
end MORE
