/-! J through deeds -/
set_option maxRecDepth 100000
section EQD
variable {Ds : gz_S} {Df D2 : gz_R} {V M : gz_V} {k P H b : Nat}
theorem tC.eqD (h : ∀ n : gz_N, 90 ≤ n.1 → D2 n = Df n) {d : Nat} {n : gz_N} {cs : List (Int32 × Int32)} {b : Bool} (hc : tC Ds Df V d n cs b) : tC Ds D2 V d n cs b := hc.grow (P := fun _ => True) (fun n hn _ _ => ⟨rfl, h n hn, rfl⟩) (fun _ _ _ _ _ => trivial)
theorem lst.eqD (h : ∀ n : gz_N, 90 ≤ n.1 → D2 n = Df n) {n : gz_N} {L : Nat} {el : Nat → gz_N} (hl : lst Ds Df V n L el) : lst Ds D2 V n L el := by
  refine ⟨hl.1, hl.2.1, hl.2.2.1, hl.2.2.2.1, fun hL => ?_⟩
  obtain ⟨a, cap, q1, q2, q3, q4, q5⟩ := hl.2.2.2.2 hL
  exact ⟨a, cap, by rw [h n hl.1]; exact q1, q2, q3, q4, fun i hi => by rw [h a q2]; exact q5 i hi⟩
theorem lnR.eqD (hv : ∀ n : gz_N, 90 ≤ n.1 → D2 n = Df n) {n : gz_N} {w f h t : Int32} {op ar : Nat → Int32} (hl : lnR Ds Df V n w f h t op ar) : lnR Ds D2 V n w f h t op ar := by
  obtain ⟨g1, g2, w', f', h', t', tm, cs, g3, g4, g5, g6, g7, g8, g9, g10, g11, g12, g13, g14⟩ := hl
  refine ⟨g1, g2, w', f', h', t', tm, cs, g3, g4, g5, g6, g7, g8, g9, by rw [hv n g1]; exact g10, g11.eqD hv, g12, g13, ?_⟩
  rw [hv n g1]
  rcases g14 with q | ⟨tw, cw, q1, q2, q3⟩
  · exact Or.inl q
  · exact Or.inr ⟨tw, cw, q1, q2.eqD hv, q3⟩
theorem mR.eqD (h : mR k P H b Ds Df V M) (hv : ∀ n : gz_N, 90 ≤ n.1 → D2 n = Df n) (hk : ∀ f, 9 ≤ f → f ≤ 12 → D2 (20, k, 0) f = Df (20, k, 0) f) : mR k P H b Ds D2 V M := by
  obtain ⟨⟨h1, h2, h3, h4, h5, h6, h7, h8, ⟨n, h9, L, el, h10, h11, h12⟩, ⟨n2, L2, el2, a1, a2, a3, a4⟩, ⟨n3, L3, el3, b1, b2, b3, b4⟩, ⟨n4, K, c1, c2⟩⟩, hr⟩ := h
  exact ⟨⟨h1, h2, h3, h4, h5, h6, h7, h8, ⟨n, by rw [hk 9 (by decide) (by decide)]; exact h9, L, el, h10.eqD hv, h11, fun i hi => (h12 i hi).eqD hv⟩, ⟨n2, L2, el2, by rw [hk 10 (by decide) (by decide)]; exact a1, a2.eqD hv, a3, a4⟩, ⟨n3, L3, el3, by rw [hk 11 (by decide) (by decide)]; exact b1, b2.eqD hv, b3, b4⟩, ⟨n4, K, by rw [hk 12 (by decide) (by decide)]; exact c1, c2⟩⟩, hr⟩
end EQD
section DEEDS
variable {Ds : gz_S} {Df : gz_R} {V M V2 M2 : gz_V} {k P H b c N : Nat}
/-- a market through deeds -/
theorem mR.core (h : mR k P H b Ds Df V M) (u : cU k P H 0 b Ds Df V2 M2) (hx : fr (fx k) V V2) (hm : fr fm M M2) : ∃ b', b ≤ b' ∧ mR k P H b' Ds Df V2 M2 := by
  obtain ⟨h1, h2, h3, h4, h5, h6, h7, h8, h9, h10, h11⟩ := h
  obtain ⟨b', hb, hb2⟩ := u.2.2.2.2.2 rfl
  have x27 : ∀ r, V2 (27, k, r) 1 = V (27, k, r) 1 := fun r => hx _ _ (by simp [fx])
  have x30 : ∀ r i j, r < 5 → V2 (30 + r, k, i) j = V (30 + r, k, i) j := fun r i j hr => hx _ _ (by
    unfold fx
    have : 30 + r ≠ 23 ∧ 30 + r ≠ 24 ∧ 30 + r ≠ 26 ∧ 30 + r ≠ 40 ∧ 30 + r ≠ 41 ∧ 30 + r ≠ 42 ∧ 30 + r ≠ 20 := by omega
    simp [this])
  have td : ∀ {r f a lo hi cap : Nat}, r < 5 → fm (1, 0, 0) f = false → (∀ i, fm (2, a, 0) i = false) → tdR k r f a lo hi cap V M → tdR k r f a lo hi cap V2 M2 := by
    intro r f a lo hi cap hr hf ha ⟨m, q1, q2, q3, q4⟩
    refine ⟨m, q1, by rw [x27]; exact q2, by rw [hm _ _ hf]; exact q3, fun i hi => ?_⟩
    rw [x30 r i 0 hr, hm _ _ (ha i)]
    exact q4 i hi
  refine ⟨b', hb, u.1, u.2.1, u.2.2.1, hb2, by rw [hx (20, k, 0) 20 (by simp [fx]), hm _ _ rfl]; exact h5, td (by decide) rfl (fun _ => rfl) h6, fun m q1 q2 i hi => ?_, td (by decide) rfl (fun _ => rfl) h8, td (by decide) rfl (fun _ => rfl) h9, td (by decide) rfl (fun _ => rfl) h10, td (by decide) rfl (fun _ => rfl) h11⟩
  rw [x27] at q1
  rw [x30 0 i 1 (by decide), show V2 (30, k, i) 0 = V (30, k, i) 0 from x30 0 i 0 (by decide), hm _ _ rfl]
  exact h7 m q1 q2 i hi
theorem bw.mono {κ j b' : Nat} (h : bw P H b κ j V M) (hb : b ≤ b') : bw P H b' κ j V M := ⟨h.1, h.2.1, by have := h.2.2.1; omega, h.2.2.2⟩
theorem fx0_jx {n : gz_N} {i : Nat} (h : n.2.1 ≠ 0) : fx 0 n i = false := by
  unfold fx
  simp [h]
/-- J, to be carried through deeds of the market -/
theorem JJ.deeds (h : JJ Ds Df V c M) : ∃ P H b, cU 0 P H 0 b Ds Df V M ∧ mR 0 P H b Ds Df V M ∧ bR P H b Df V M ∧ ∀ V2 M2, cU 0 P H 0 b Ds Df V2 M2 → fr (fx 0) V V2 → fr fm M M2 → JJ Ds Df V2 c M2 := by
  obtain ⟨P, H, b, h1, h2, h3, h4, h5⟩ := h
  refine ⟨P, H, b, ⟨h1.1, h1.2.1, h1.2.2.1, h4.1, h4.2.2.1, fun _ => ⟨b, Nat.le_refl _, h1.2.2.2.1⟩⟩, h1, h2, fun V2 M2 u hx hm => ?_⟩
  obtain ⟨b', hb, hmr⟩ := h1.core u hx hm
  have xk : ∀ k, k ≠ 0 → ∀ n i, relX k n i → V2 n i = V n i := fun k hk n i hn => hx n i (by
    rcases hn with q | q
    · exact fx_dyn q
    · exact fx0_jx (by rw [q.1]; exact hk))
  have x10 : ∀ n i, n.1 < 20 → V2 n i = V n i := fun n i hn => hx n i (by
    unfold fx
    have : n.1 ≠ 23 ∧ n.1 ≠ 24 ∧ n.1 ≠ 26 ∧ n.1 ≠ 40 ∧ n.1 ≠ 41 ∧ n.1 ≠ 42 ∧ n.1 ≠ 20 := by omega
    simp [this])
  refine ⟨P, H, b', hmr, ?_, ?_, ?_, h5⟩
  · obtain ⟨u', κ, q1, q2, q3, q4, q5, q6⟩ := h2
    refine ⟨u', κ, q1, by rw [x10 _ _ (by decide)]; exact q2, by rw [hm _ _ rfl]; exact q3, q4, q5, fun j hj => ?_⟩
    have k3 := (q4 j (by omega)).1
    obtain ⟨b1, b2, b3, b4⟩ := q6 j hj
    have m22 : ∀ i, M2 (2, 2, 0) i = M (2, 2, 0) i := fun i => hm _ _ rfl
    refine ⟨fun i hi => ?_, rg_row h1.1.2.2.1 b2 (fun i _ => by rw [MB_row, MB_row]; exact m22 _), by rw [m22]; omega, fun h hh => ?_⟩
    · have e := b1 i hi
      rw [MB_row] at e ⊢
      rw [m22, ← e]
      exact congrFun (xr_rel (xk (κ j) (by omega))) i
    · rw [hx (42, κ j, h) 1 (fx0_jx (show κ j ≠ 0 by omega)), hx (42, κ j, h) 2 (fx0_jx (show κ j ≠ 0 by omega)), hx (42, 0, h) 1 (by simp [fx]), hx (42, 0, h) 2 (by simp [fx])]
      exact b4 h hh
  · refine ⟨by rw [x10 _ _ (by decide), hm _ _ rfl]; exact h3.1, ?_⟩
    rw [x10 (10, 0, 0) 9 (by decide)]
    rcases h3.2 with q | ⟨q, P', H', b'', q2⟩
    · exact Or.inl q
    · exact Or.inr ⟨q, P', H', b'', q2.eq (xk 1 (by decide)) (fun n i _ => hm _ _ rfl)⟩
  · obtain ⟨g1, g2, g3, ⟨t, g4, g5, g6⟩, g7, g8, g9, g10, g11, g12⟩ := h4
    refine ⟨by rw [hx (20, 0, 0) 21 (by simp [fx])]; exact g1, by rw [hx (20, 2, 0) 21 (fx0_jx (by decide))]; exact g2, by rw [hm _ _ rfl]; exact g3, ⟨t, g4, by rw [x10 _ _ (by decide)]; exact g5, by rw [hm _ _ rfl]; exact g6⟩, fun i hi => ?_, by rw [x10 _ _ (by decide), hm _ _ rfl]; exact g8, by rw [x10 _ _ (by decide), hm _ _ rfl]; exact g9, fun p hp => by rw [x10 _ _ (by decide)]; exact g10 p hp, by rw [x10 _ _ (by decide)]; exact g11, fun i hi => by rw [hm _ _ rfl]; exact g12 i hi⟩
    rw [x10 _ _ (by decide), hm _ _ rfl]
    exact g7 i hi
/-- now is kept behind -/
theorem JJ.rem (hN : 1000 ≤ N) (h : JJ Ds Df V c M) : ∃ V' D' M', x0_remembers N Ds Df V = some (V', D') ∧ m_keepsAhead N M = some M' ∧ JJ Ds D' V' c M' ∧ (∀ n i, ¬ bx n → ¬ (n = (10, 0, 0) ∧ i = 8) → V' n i = V n i) ∧ (∀ m j, m ≠ (11, 7, 0) → D' m j = Df m j) ∧ (∀ n i, n ≠ (2, 2, 0) → ¬ (n = (1, 0, 0) ∧ i = 3) → M' n i = M n i) := by
  obtain ⟨P, H, b, h1, h2, h3, h4, h5⟩ := h
  obtain ⟨V', D', M', a1, a2, a3, a4, a5, a6⟩ := z_rem (N := N) (Ds := Ds) hN h1.1.2.2.1 h1.2.1 h1.2.2.1 h1.2.2.2.1.1 h2
  have dv : ∀ n : gz_N, 90 ≤ n.1 → D' n = Df n := fun n hn => funext (fun j => a5 n j (fun e => by rw [e] at hn; exact absurd hn (by decide)))
  have dk : ∀ k f, D' (20, k, 0) f = Df (20, k, 0) f := fun k f => a5 _ f (by simp)
  have xk : ∀ k, k < 3 → ∀ n i, relX k n i → V' n i = V n i := fun k hk n i hn => a4 n i (fun z => by
    unfold bx at z
    rcases hn with q | q
    · omega
    · omega) (fun z => by
    rcases hn with q | ⟨q, q2⟩
    · rw [z.1] at q; exact absurd q (by decide)
    · rw [z.1] at q2
      rcases q2 with w | w | w | w | w | w | w
      · exact absurd w.1 (by decide)
      · exact absurd w (by decide)
      · exact absurd w (by decide)
      · exact absurd w.1 (by decide)
      · exact absurd w (by decide)
      · exact absurd w (by decide)
      · exact absurd w (by decide))
  have mk : ∀ n i, relM n i = true → M' n i = M n i := fun n i hn => a6 n i (fun e => by rw [e] at hn; cases hn) (fun z => by rw [z.1, z.2] at hn; cases hn)
  have x10 : ∀ n i, n.1 < 20 → i ≠ 8 → V' n i = V n i := fun n i hn hi => a4 n i (fun z => by unfold bx at z; omega) (fun z => hi z.2)
  have m2 : ∀ f i, f ≠ 2 → M' (2, f, 0) i = M (2, f, 0) i := fun f i hf => a6 _ i (by simp [hf]) (by simp)
  have m1 : ∀ i, i ≠ 3 → M' (1, 0, 0) i = M (1, 0, 0) i := fun i hi => a6 _ i (by decide) (by simp [hi])
  refine ⟨V', D', M', a1, a2, ⟨P, H, b, (h1.eq (xk 0 (by decide)) mk).eqD dv (fun f _ _ => dk 0 f), a3, ?_, ?_, h5⟩, a4, a5, a6⟩
  · refine ⟨by rw [x10 _ _ (by decide) (by decide), m1 _ (by decide)]; exact h3.1, ?_⟩
    rw [x10 (10, 0, 0) 9 (by decide) (by decide)]
    rcases h3.2 with q | ⟨q, P', H', b'', q2⟩
    · exact Or.inl q
    · exact Or.inr ⟨q, P', H', b'', (q2.eq (xk 1 (by decide)) (fun n i _ => m2 68 _ (by decide))).eqD dv (fun f _ _ => dk 1 f)⟩
  · obtain ⟨g1, g2, g3, ⟨t, g4, g5, g6⟩, g7, g8, g9, g10, g11, g12⟩ := h4
    have x20 : ∀ k, k < 3 → V' (20, k, 0) 21 = V (20, k, 0) 21 := fun k hk => a4 _ _ (fun z => by have := z.2.2; dsimp only at this; omega) (by simp)
    have x11 : ∀ f i, V' (11, f, 0) i = V (11, f, 0) i := fun f i => a4 _ _ (fun z => absurd z.1 (by show ¬ 20 ≤ 11; decide)) (by simp)
    refine ⟨by rw [x20 0 (by decide)]; exact g1, by rw [x20 2 (by decide)]; exact g2, by rw [m1 5 (by decide)]; exact g3, ⟨t, g4, by rw [x10 _ _ (by decide) (by decide)]; exact g5, by rw [m1 12 (by decide)]; exact g6⟩, fun i hi => ?_, by rw [x10 _ _ (by decide) (by decide), m1 32 (by decide)]; exact g8, by rw [x10 _ _ (by decide) (by decide), m1 33 (by decide)]; exact g9, fun p hp => by rw [x11]; exact g10 p hp, by rw [x11]; exact g11, fun i hi => by rw [m2 17 i (by decide)]; exact g12 i hi⟩
    rw [x11, m2 11 i (by decide)]
    exact g7 i hi
end DEEDS
