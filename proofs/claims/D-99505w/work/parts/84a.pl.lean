/-! THE INVARIANT of both worlds -/
set_option maxRecDepth 100000
/-- the slots of the twin that an image keeps -/
def relM (n : gz_N) (i : Nat) : Bool :=
  if n = (1, 0, 0) then (i == 6 || i == 7 || i == 34 || i == 36 || i == 38 || i == 48 || i == 51 || i == 57 || i == 59 || i == 62)
  else n.1 == 2 && n.2.2 == 0 && (match n.2.1 with
    | 1 => decide (i < 121) | 8 => decide (i < 10) | 9 => decide (i < 10) | 10 => decide (i < 600) | 18 => i == 0 | 19 => decide (i < 16) | 20 => decide (i < 16) | 21 => decide (i < 16) | 22 => decide (i < 16)
    | 23 => decide (i < 400) | 24 => decide (i < 400) | 35 => decide (i < 80) | 37 => decide (i < 80) | 39 => decide (i < 12) | 49 => decide (i < 16) | 50 => decide (i < 16) | 52 => decide (i < 9) | 58 => decide (i < 5) | 60 => decide (i < 7) | 63 => decide (i < 6) | _ => false)
/-- the slots of market k that matter -/
def relX (k : Nat) (n : gz_N) (i : Nat) : Prop := 90 ≤ n.1 ∨ (n.2.1 = k ∧ ((n.1 = 20 ∧ 13 ≤ i ∧ i ≤ 20) ∨ n.1 = 26 ∨ n.1 = 27 ∨ (30 ≤ n.1 ∧ n.1 < 35) ∨ n.1 = 40 ∨ n.1 = 41 ∨ n.1 = 42))
/-- rows that are told -/
def tdR (k r f a lo hi cap : Nat) (V M : gz_V) : Prop := ∃ m, m ≤ cap ∧ V (27, k, r) 1 = Int32.ofNat m ∧ M (1, 0, 0) f = Int32.ofNat m ∧ ∀ i, i < m → ∃ v, lo ≤ v ∧ v ≤ hi ∧ V (30 + r, k, i) 0 = Int32.ofNat v ∧ M (2, a, 0) i = Int32.ofNat v
def tdC (k : Nat) (V M : gz_V) : Prop := ∀ m, V (27, k, 0) 1 = Int32.ofNat m → m ≤ 16 → ∀ i, i < m → ∃ v, v ≤ 11 ∧ V (30, k, i) 1 = Int32.ofNat v ∧ M (2, 50, 0) i = Int32.ofNat v ∧ V (30, k, i) 0 ≠ V (30, k, i) 1
/-- a whole market -/
def mR (k P H b : Nat) (Ds : gz_S) (Df : gz_R) (V M : gz_V) : Prop := cS k P H Ds Df V M ∧ rR k V M ∧ rg P H M ∧ bk k b V M ∧ V (20, k, 0) 20 = M (1, 0, 0) 38 ∧ tdR k 0 48 49 0 11 16 V M ∧ tdC k V M ∧ tdR k 1 51 52 0 8 9 V M ∧ tdR k 2 57 58 1 200 5 V M ∧ tdR k 3 59 60 1 30 7 V M ∧ tdR k 4 62 63 1 20 6 V M
theorem lwR.cg {Ds : gz_S} {Df : gz_R} {V : gz_V} {n : gz_N} {lm : Int32} {lw lf lh lt op ar lw2 lf2 lh2 lt2 op2 ar2 : Nat → Int32} (h : lwR Ds Df V n lm lw lf lh lt op ar) (h1 : ∀ i, i < 16 → lw2 i = lw i ∧ lf2 i = lf i ∧ lh2 i = lh i ∧ lt2 i = lt i) (h2 : ∀ i, i < 400 → op2 i = op i ∧ ar2 i = ar i) : lwR Ds Df V n lm lw2 lf2 lh2 lt2 op2 ar2 := by
  obtain ⟨L, el, a, b, c⟩ := h
  have h16 := a.2.2.2.1
  refine ⟨L, el, a, b, fun i hi => ?_⟩
  obtain ⟨q1, q2, q3, q4⟩ := h1 i (by omega)
  rw [q1, q2, q3, q4]
  obtain ⟨g1, g2, w', f', h', t', tm, cs, g3, g4, g5, g6, g7, g8, g9, g10, g11, g12, g13, g14⟩ := c i hi
  have hh : h' ≤ 400 := by rcases g14 with ⟨-, q⟩ | ⟨tw, cw, -, -, -, q⟩ <;> omega
  refine ⟨g1, g2, w', f', h', t', tm, cs, g3, g4, g5, g6, g7, g8, g9, g10, g11, g12.cg (fun i _ hi => h2 i (by omega)), g13, ?_⟩
  rcases g14 with q | ⟨tw, cw, r1, r2, r3, r4⟩
  · exact Or.inl q
  · exact Or.inr ⟨tw, cw, r1, r2, r3.cg (fun i _ hi => h2 i (by omega)), r4⟩
theorem lwR.eqV {Ds : gz_S} {Df : gz_R} {V V2 : gz_V} (hv : ∀ n : gz_N, 90 ≤ n.1 → V2 n = V n) {n : gz_N} {lm : Int32} {lw lf lh lt op ar : Nat → Int32} (h : lwR Ds Df V n lm lw lf lh lt op ar) : lwR Ds Df V2 n lm lw lf lh lt op ar := by
  obtain ⟨L, el, a, b, c⟩ := h
  exact ⟨L, el, a.eqV hv, b, fun i hi => (c i hi).eqV hv⟩
section MRE
variable {k P H b : Nat} {Ds : gz_S} {Df : gz_R} {V M V2 M2 : gz_V}
theorem cS.eq (h : cS k P H Ds Df V M) (hx : ∀ n i, relX k n i → V2 n i = V n i) (hm : ∀ n i, relM n i = true → M2 n i = M n i) : cS k P H Ds Df V2 M2 := by
  obtain ⟨h1, h2, h3, h4, h5, h6, h7, h8, ⟨n, h9, hl⟩, ⟨n2, L2, el2, a1, a2, a3, a4⟩, ⟨n3, L3, el3, b1, b2, b3, b4⟩, ⟨n4, K, c1, c2, c3, c4, c5⟩⟩ := h
  have hv : ∀ n : gz_N, 90 ≤ n.1 → V2 n = V n := fun n hn => funext (fun i => hx n i (Or.inl hn))
  have ha := a2.2.2.2.1
  have hb := b2.2.2.2.1
  refine ⟨h1, h2, h3, by rw [hx _ _ (Or.inr ⟨rfl, Or.inl ⟨rfl, by decide, by decide⟩⟩)]; exact h4, by rw [hm _ _ rfl]; exact h5, by rw [hx _ _ (Or.inr ⟨rfl, Or.inl ⟨rfl, by decide, by decide⟩⟩)]; exact h6, by rw [hm _ _ rfl]; exact h7, fun h hh => ?_, ⟨n, h9, ?_⟩, ⟨n2, L2, el2, a1, a2.eqV hv, by rw [hm _ _ rfl]; exact a3, fun i hi => ?_⟩, ⟨n3, L3, el3, b1, b2.eqV hv, by rw [hm _ _ rfl]; exact b3, fun i hi => ?_⟩, ⟨n4, K, c1, c2, c3, fun p hp => ?_, c5⟩⟩
  · have := h8 h hh
    rw [hx (42, k, h) 1 (Or.inr ⟨rfl, by simp⟩), hx (42, k, h) 2 (Or.inr ⟨rfl, by simp⟩), hm (2, 8, 0) h (by simp [relM, hh]), hm (2, 9, 0) h (by simp [relM, hh])]
    exact this
  · have e := (hl.eqV hv).cg (lw2 := M2 (2, 19, 0)) (lf2 := M2 (2, 20, 0)) (lh2 := M2 (2, 21, 0)) (lt2 := M2 (2, 22, 0)) (op2 := M2 (2, 23, 0)) (ar2 := M2 (2, 24, 0)) (fun i hi => ⟨hm _ _ (by simp [relM, hi]), hm _ _ (by simp [relM, hi]), hm _ _ (by simp [relM, hi]), hm _ _ (by simp [relM, hi])⟩) (fun i hi => ⟨hm _ _ (by simp [relM, hi]), hm _ _ (by simp [relM, hi])⟩)
    rw [hm (2, 18, 0) 0 rfl]
    exact e
  · have q := a4 i hi
    have w : ∀ j, j < 5 → M2 (2, 35, 0) (5 * i + j) = M (2, 35, 0) (5 * i + j) := fun j hj => hm _ _ (by simp [relM]; omega)
    obtain ⟨q1, q2, q3, q4⟩ := q
    dsimp only at q3 q4
    refine ⟨q1, q2, fun j hj => ?_, ?_⟩
    · rw [hv _ q1]
      dsimp only
      rw [w j hj]
      exact q3 j hj
    · dsimp only
      rw [w 1 (by decide), w 2 (by decide), w 3 (by decide), w 4 (by decide)]
      exact q4
  · have q := b4 i hi
    have w : ∀ j, j < 5 → M2 (2, 37, 0) (5 * i + j) = M (2, 37, 0) (5 * i + j) := fun j hj => hm _ _ (by simp [relM]; omega)
    unfold deR at q ⊢
    dsimp only at q ⊢
    rw [hv _ q.1, w 0 (by decide), w 1 (by decide), w 2 (by decide), w 3 (by decide), w 4 (by decide)]
    exact q
  · rw [hv _ c2, hm (2, 39, 0) p (by simp [relM, hp])]
    exact c4 p hp
theorem xr_rel (hx : ∀ n i, relX k n i → V2 n i = V n i) : xr V2 k = xr V k := xr_eq (fun n i hn => hx n i (by
  obtain ⟨a, b, c⟩ := n
  unfold xsl at hn
  simp only [Bool.and_eq_true, Bool.or_eq_true, beq_iff_eq, decide_eq_true_eq] at hn
  refine Or.inr ⟨hn.1, ?_⟩
  show (a = 20 ∧ 13 ≤ i ∧ i ≤ 20) ∨ _
  omega))
theorem tdR.eq {r f a lo hi cap : Nat} (h : tdR k r f a lo hi cap V M) (hr : r < 5) (hx : ∀ n i, relX k n i → V2 n i = V n i) (hf : M2 (1, 0, 0) f = M (1, 0, 0) f) (ha : ∀ i, i < cap → M2 (2, a, 0) i = M (2, a, 0) i) : tdR k r f a lo hi cap V2 M2 := by
  obtain ⟨m, h1, h2, h3, h4⟩ := h
  refine ⟨m, h1, by rw [hx _ _ (Or.inr ⟨rfl, by simp⟩)]; exact h2, hf.trans h3, fun i hi => ?_⟩
  obtain ⟨v, v1, v2, v3, v4⟩ := h4 i hi
  exact ⟨v, v1, v2, by rw [hx (30 + r, k, i) 0 (Or.inr ⟨rfl, by show _ ∨ _ ∨ _ ∨ (30 ≤ 30 + r ∧ 30 + r < 35) ∨ _; omega⟩)]; exact v3, (ha i (by omega)).trans v4⟩
theorem mR.eq (h : mR k P H b Ds Df V M) (hx : ∀ n i, relX k n i → V2 n i = V n i) (hm : ∀ n i, relM n i = true → M2 n i = M n i) : mR k P H b Ds Df V2 M2 := by
  obtain ⟨h1, h2, h3, h4, h5, h6, h7, h8, h9, h10, h11⟩ := h
  have row : ∀ i, i < 121 → M2 (2, 1, 0) i = M (2, 1, 0) i := fun i hi => hm _ _ (by simp [relM, hi])
  have hH := h1.2.2.1
  refine ⟨h1.eq hx hm, fun i hi => ?_, ⟨fun i q1 q2 => ?_, fun j hj => ?_, ?_⟩, ⟨?_, h4.2.1, fun i hi j hj => ?_⟩, ?_, h6.eq (by decide) hx (hm _ _ rfl) (fun i hi => hm _ _ (by simp [relM, hi])), ?_, h8.eq (by decide) hx (hm _ _ rfl) (fun i hi => hm _ _ (by simp [relM, hi])), h9.eq (by decide) hx (hm _ _ rfl) (fun i hi => hm _ _ (by simp [relM, hi])), h10.eq (by decide) hx (hm _ _ rfl) (fun i hi => hm _ _ (by simp [relM, hi])), h11.eq (by decide) hx (hm _ _ rfl) (fun i hi => hm _ _ (by simp [relM, hi]))⟩
  · rw [xr_rel hx, row i hi]; exact h2 i hi
  · rw [row i (by omega)]; exact h3.1 i q1 q2
  · rw [row _ (by omega)]; exact h3.2.1 j hj
  · rw [row _ (by decide)]; exact h3.2.2
  · rw [row _ (by decide)]; exact h4.1
  · have := h4.2.1
    rw [hx (26, k, i) j (Or.inr ⟨rfl, by simp⟩), hm (2, 10, 0) _ (by simp [relM]; omega)]
    exact h4.2.2 i hi j hj
  · rw [hx (20, k, 0) 20 (Or.inr ⟨rfl, by simp⟩), hm _ _ rfl]; exact h5
  · intro m q1 q2 i hi
    rw [hx (27, k, 0) 1 (Or.inr ⟨rfl, by simp⟩)] at q1
    obtain ⟨v, v1, v2, v3, v4⟩ := h7 m q1 q2 i hi
    exact ⟨v, v1, by rw [hx (30, k, i) 1 (Or.inr ⟨rfl, by simp⟩)]; exact v2, by rw [hm (2, 50, 0) i (by simp [relM]; omega)]; exact v3, by rw [hx (30, k, i) 1 (Or.inr ⟨rfl, by simp⟩), hx (30, k, i) 0 (Or.inr ⟨rfl, by simp⟩)]; exact v4⟩
end MRE
