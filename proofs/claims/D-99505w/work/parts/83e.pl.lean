/-! A MARKET and the twin: what must hold of both -/
set_option maxRecDepth 100000
/-- what deeds and days may change: of market k, of the twin -/
def fx (k : Nat) : gz_N → Nat → Bool := fun n i => n.2.1 == k && (n.1 == 23 || n.1 == 24 || n.1 == 26 || n.1 == 40 || n.1 == 41 || (n.1 == 42 && (i == 0 || i == 3)) || (n.1 == 20 && ((15 ≤ i && i ≤ 19) || (22 ≤ i && i ≤ 24))))
def fm : gz_N → Nat → Bool := fun n i => n == (2, 1, 0) || n == (2, 10, 0) || n == (2, 40, 0) || n == (2, 41, 0) || n == (2, 45, 0) || n == (2, 46, 0) || (n == (1, 0, 0) && (i == 42 || i == 43 || i == 44 || i == 47))
/-- kin -/
def kiR (Ds : gz_S) (Df : gz_R) (V : gz_V) (k P : Nat) (M : gz_V) : Prop := ∃ (n : gz_N) (K : Nat → Nat), Df (20, k, 0) 12 = some n ∧ 90 ≤ n.1 ∧ Ds n = some (100, 12) ∧ (∀ p, p < 12 → V n p = Int32.ofNat (K p) ∧ M (2, 39, 0) p = Int32.ofNat (K p) ∧ K p < 2 ^ P) ∧ ∀ p q, p < 12 → q < 12 → (K p).testBit q = (K q).testBit p
/-- the fair -/
def ofR (Ds : gz_S) (V : gz_V) (n : gz_N) (P H : Nat) (o : Nat → Int32) : Prop := 90 ≤ n.1 ∧ Ds n = some (14, 5) ∧ (∀ j, j < 5 → V n j = o j) ∧ 0 ≤ (o 1).toInt ∧ (o 1).toInt < P ∧ 0 ≤ (o 2).toInt ∧ (o 2).toInt < H ∧ 0 ≤ (o 3).toInt ∧ (o 3).toInt ≤ 9999 ∧ 1 ≤ (o 4).toInt ∧ (o 4).toInt ≤ 9
def faR (Ds : gz_S) (Df : gz_R) (V : gz_V) (k P H : Nat) (M : gz_V) : Prop := ∃ (n : gz_N) (L : Nat) (el : Nat → gz_N), Df (20, k, 0) 10 = some n ∧ lst Ds Df V n L el ∧ M (1, 0, 0) 34 = Int32.ofNat L ∧ ∀ i, i < L → ofR Ds V (el i) P H (fun j => M (2, 35, 0) (5 * i + j))
/-- habits -/
def deR (Ds : gz_S) (V : gz_V) (n : gz_N) (P : Nat) (o : Nat → Int32) : Prop := 90 ≤ n.1 ∧ V n 0 = o 0 ∧ V n 1 = o 2 ∧ 0 ≤ (o 2).toInt ∧ (o 2).toInt < P ∧
  ((Ds n = some (17, 3) ∧ ((o 1 = 0 ∧ V n 2 = 1) ∨ (o 1 = 1 ∧ V n 2 = 0) ∨ (o 1 = 2 ∧ V n 2 = 2))) ∨ (Ds n = some (15, 3) ∧ o 1 = 3 ∧ V n 2 = o 4) ∨ (Ds n = some (16, 4) ∧ o 1 = 4 ∧ V n 2 = o 3 ∧ V n 3 = o 4 ∧ 0 ≤ (o 3).toInt ∧ (o 3).toInt < 5 ∧ 1 ≤ (o 4).toInt ∧ (o 4).toInt ≤ 99))
def haR (Ds : gz_S) (Df : gz_R) (V : gz_V) (k P : Nat) (M : gz_V) : Prop := ∃ (n : gz_N) (L : Nat) (el : Nat → gz_N), Df (20, k, 0) 11 = some n ∧ lst Ds Df V n L el ∧ M (1, 0, 0) 36 = Int32.ofNat L ∧ ∀ i, i < L → deR Ds V (el i) P (fun j => M (2, 37, 0) (5 * i + j))
/-- what stays -/
def cS (k P H : Nat) (Ds : gz_S) (Df : gz_R) (V M : gz_V) : Prop := k < 9 ∧ P ≤ 12 ∧ H ≤ 10 ∧ V (20, k, 0) 13 = Int32.ofNat P ∧ M (1, 0, 0) 6 = Int32.ofNat P ∧ V (20, k, 0) 14 = Int32.ofNat H ∧ M (1, 0, 0) 7 = Int32.ofNat H ∧ (∀ h, h < 10 → V (42, k, h) 1 = M (2, 8, 0) h ∧ V (42, k, h) 2 = M (2, 9, 0) h)
  ∧ (∃ n, Df (20, k, 0) 9 = some n ∧ lwR Ds Df V n (M (2, 18, 0) 0) (M (2, 19, 0)) (M (2, 20, 0)) (M (2, 21, 0)) (M (2, 22, 0)) (M (2, 23, 0)) (M (2, 24, 0))) ∧ faR Ds Df V k P H M ∧ haR Ds Df V k P M ∧ kiR Ds Df V k P M
/-- the row -/
def rR (k : Nat) (V M : gz_V) : Prop := ∀ i, i < 121 → xr V k i = M (2, 1, 0) i
def rg (P H : Nat) (M : gz_V) : Prop := (∀ i, 5 ≤ i → i < 65 → 0 ≤ (M (2, 1, 0) i).toInt ∧ (M (2, 1, 0) i).toInt ≤ 999) ∧ (∀ h, h < H → 0 ≤ (M (2, 1, 0) (101 + h)).toInt ∧ (M (2, 1, 0) (101 + h)).toInt < P) ∧ 0 ≤ (M (2, 1, 0) 2).toInt ∧ (M (2, 1, 0) 2).toInt ≤ 150
/-- the book -/
def bk (k b : Nat) (V M : gz_V) : Prop := (M (2, 1, 0) 2).toInt ≤ b ∧ b ≤ 150 ∧ ∀ i, i < b → ∀ j, j < 4 → V (26, k, i) j = M (2, 10, 0) (4 * i + j)
/-- all that deeds and days stand on -/
def cU (k P H : Nat) (F : Int32) (b0 : Nat) (Ds : gz_S) (Df : gz_R) (V M : gz_V) : Prop := cS k P H Ds Df V M ∧ rR k V M ∧ rg P H M ∧ V (20, k, 0) 21 = F ∧ M (1, 0, 0) 5 = F ∧ (F = 0 → ∃ b, b0 ≤ b ∧ bk k b V M)
/-! what lies from 90 on is kept -/
theorem fx_dyn {k : Nat} {n : gz_N} {i : Nat} (h : 90 ≤ n.1) : fx k n i = false := by
  unfold fx
  have : n.1 ≠ 23 ∧ n.1 ≠ 24 ∧ n.1 ≠ 26 ∧ n.1 ≠ 40 ∧ n.1 ≠ 41 ∧ n.1 ≠ 42 ∧ n.1 ≠ 20 := by omega
  simp [this]
theorem tC.eqV {Ds : gz_S} {Df : gz_R} {V V2 : gz_V} (h : ∀ n : gz_N, 90 ≤ n.1 → V2 n = V n) {d : Nat} {n : gz_N} {cs : List (Int32 × Int32)} {b : Bool} (hc : tC Ds Df V d n cs b) : tC Ds Df V2 d n cs b := hc.grow (P := fun _ => True) (fun n hn _ _ => ⟨rfl, rfl, h n hn⟩) (fun _ _ _ _ _ => trivial)
theorem lst.eqV {Ds : gz_S} {Df : gz_R} {V V2 : gz_V} (h : ∀ n : gz_N, 90 ≤ n.1 → V2 n = V n) {n : gz_N} {L : Nat} {el : Nat → gz_N} (hl : lst Ds Df V n L el) : lst Ds Df V2 n L el := ⟨hl.1, hl.2.1, by rw [h n hl.1]; exact hl.2.2.1, hl.2.2.2⟩
theorem lnR.eqV {Ds : gz_S} {Df : gz_R} {V V2 : gz_V} (hv : ∀ n : gz_N, 90 ≤ n.1 → V2 n = V n) {n : gz_N} {w f h t : Int32} {op ar : Nat → Int32} (hl : lnR Ds Df V n w f h t op ar) : lnR Ds Df V2 n w f h t op ar := by
  obtain ⟨g1, g2, w', f', h', t', tm, cs, g3, g4, g5, g6, g7, g8, g9, g10, g11, g12, g13, g14⟩ := hl
  refine ⟨g1, g2, w', f', h', t', tm, cs, g3, by rw [hv n g1]; exact g4, g5, g6, g7, g8, g9, g10, g11.eqV hv, g12, g13, ?_⟩
  rcases g14 with q | ⟨tw, cw, q1, q2, q3⟩
  · exact Or.inl q
  · exact Or.inr ⟨tw, cw, q1, q2.eqV hv, q3⟩
/-- it moves along -/
theorem cS.mv {k P H : Nat} {Ds : gz_S} {Df : gz_R} {V M V2 M2 : gz_V} (h : cS k P H Ds Df V M) (hx : fr (fx k) V V2) (hm : fr fm M M2) : cS k P H Ds Df V2 M2 := by
  obtain ⟨h1, h2, h3, h4, h5, h6, h7, h8, ⟨n, h9, L, el, h10, h11, h12⟩, ⟨n2, L2, el2, a1, a2, a3, a4⟩, ⟨n3, L3, el3, b1, b2, b3, b4⟩, ⟨n4, K, c1, c2, c3, c4, c5⟩⟩ := h
  have hv : ∀ n : gz_N, 90 ≤ n.1 → V2 n = V n := fun n hn => funext (fun i => hx n i (fx_dyn hn))
  have m1 : ∀ f, fm (1, 0, 0) f = false → M2 (1, 0, 0) f = M (1, 0, 0) f := fun f hf => hm _ f hf
  have m2 : ∀ f, f ≠ 1 → f ≠ 10 → f ≠ 40 → f ≠ 41 → f ≠ 45 → f ≠ 46 → M2 (2, f, 0) = M (2, f, 0) := fun f e1 e2 e3 e4 e5 e6 => funext (fun i => hm _ i (by simp [fm, e1, e2, e3, e4, e5, e6]))
  have x0 : ∀ j, j < 15 → V2 (20, k, 0) j = V (20, k, 0) j := fun j hj => hx _ j (by simp [fx]; omega)
  refine ⟨h1, h2, h3, by rw [x0 13 (by decide)]; exact h4, by rw [m1 6 rfl]; exact h5, by rw [x0 14 (by decide)]; exact h6, by rw [m1 7 rfl]; exact h7, fun h hh => ?_, ⟨n, h9, L, el, h10.eqV hv, ?_, fun i hi => ?_⟩, ⟨n2, L2, el2, a1, a2.eqV hv, by rw [m1 34 rfl]; exact a3, fun i hi => ?_⟩, ⟨n3, L3, el3, b1, b2.eqV hv, by rw [m1 36 rfl]; exact b3, fun i hi => ?_⟩, ⟨n4, K, c1, c2, c3, fun p hp => ?_, c5⟩⟩
  · rw [hx (42, k, h) 1 (by simp [fx]), hx (42, k, h) 2 (by simp [fx]), m2 8 (by decide) (by decide) (by decide) (by decide) (by decide) (by decide), m2 9 (by decide) (by decide) (by decide) (by decide) (by decide) (by decide)]
    exact h8 h hh
  · rw [m2 18 (by decide) (by decide) (by decide) (by decide) (by decide) (by decide)]
    exact h11
  · rw [m2 19 (by decide) (by decide) (by decide) (by decide) (by decide) (by decide), m2 20 (by decide) (by decide) (by decide) (by decide) (by decide) (by decide), m2 21 (by decide) (by decide) (by decide) (by decide) (by decide) (by decide), m2 22 (by decide) (by decide) (by decide) (by decide) (by decide) (by decide), m2 23 (by decide) (by decide) (by decide) (by decide) (by decide) (by decide), m2 24 (by decide) (by decide) (by decide) (by decide) (by decide) (by decide)]
    exact (h12 i hi).eqV hv
  · rw [m2 35 (by decide) (by decide) (by decide) (by decide) (by decide) (by decide)]
    have q := a4 i hi
    exact ⟨q.1, q.2.1, by rw [hv _ q.1]; exact q.2.2.1, q.2.2.2⟩
  · rw [m2 37 (by decide) (by decide) (by decide) (by decide) (by decide) (by decide)]
    have q := b4 i hi
    unfold deR at q ⊢
    rw [hv _ q.1]
    exact q
  · rw [hv _ c2, m2 39 (by decide) (by decide) (by decide) (by decide) (by decide) (by decide)]
    exact c4 p hp
section CUU
variable {k P H b0 : Nat} {F : Int32} {Ds : gz_S} {Df : gz_R} {V M V2 M2 : gz_V}
theorem cU.mv (h : cU k P H F b0 Ds Df V M) (hx : fr (fx k) V V2) (hm : fr fm M M2) (hr : rR k V2 M2) (hg : rg P H M2) (hb : F = 0 → ∃ b, b0 ≤ b ∧ bk k b V2 M2) : cU k P H F b0 Ds Df V2 M2 := ⟨h.1.mv hx hm, hr, hg, by rw [hx (20, k, 0) 21 (by simp [fx])]; exact h.2.2.2.1, by rw [hm (1, 0, 0) 5 rfl]; exact h.2.2.2.2.1, hb⟩
/-- scratch alone changed -/
theorem cU.sc (h : cU k P H F b0 Ds Df V M) (hx : fr (fx k) V V2) (hm : fr fm M M2) (hr : xr V2 k = xr V k) (hr2 : M2 (2, 1, 0) = M (2, 1, 0)) (hb : ∀ i, V2 (26, k, i) = V (26, k, i)) (hb2 : M2 (2, 10, 0) = M (2, 10, 0)) : cU k P H F b0 Ds Df V2 M2 := by
  refine h.mv hx hm (fun i hi => ?_) ?_ (fun hF => ?_)
  · rw [hr, hr2]; exact h.2.1 i hi
  · unfold rg; rw [hr2]; exact h.2.2.1
  · obtain ⟨b, h1, h2⟩ := h.2.2.2.2.2 hF
    refine ⟨b, h1, ?_⟩
    unfold bk
    rw [hr2, hb2]
    exact ⟨h2.1, h2.2.1, fun i hi j hj => by rw [hb i]; exact h2.2.2 i hi j hj⟩
/-- the row changed alike, but for its traits, owners and lines -/
theorem cU.row (h : cU k P H F b0 Ds Df V M) (hx : fr (fx k) V V2) (hm : fr fm M M2) (hr : ∀ i, i < 121 → xr V2 k i = M2 (2, 1, 0) i) (ht : ∀ i, 5 ≤ i → i < 65 → 0 ≤ (M2 (2, 1, 0) i).toInt ∧ (M2 (2, 1, 0) i).toInt ≤ 999) (ho : ∀ h, h < H → 0 ≤ (M2 (2, 1, 0) (101 + h)).toInt ∧ (M2 (2, 1, 0) (101 + h)).toInt < P) (hl : M2 (2, 1, 0) 2 = M (2, 1, 0) 2) (hb : ∀ i, V2 (26, k, i) = V (26, k, i)) (hb2 : M2 (2, 10, 0) = M (2, 10, 0)) : cU k P H F b0 Ds Df V2 M2 := by
  refine h.mv hx hm hr ⟨ht, ho, by rw [hl]; exact h.2.2.1.2.2⟩ (fun hF => ?_)
  obtain ⟨b, h1, h2⟩ := h.2.2.2.2.2 hF
  refine ⟨b, h1, ?_⟩
  unfold bk
  rw [hl, hb2]
  exact ⟨h2.1, h2.2.1, fun i hi j hj => by rw [hb i]; exact h2.2.2 i hi j hj⟩
end CUU
section RRR
variable {k p t h : Nat} {V M : gz_V}
theorem rR.trait (r : rR k V M) (hp : p < 12) (ht : t < 5) : V (41, k, p) t = M (2, 1, 0) (5 + 5 * p + t) := (xr_trait hp ht).symm.trans (r _ (by omega))
theorem rR.purse (r : rR k V M) (hp : p < 12) : V (40, k, p) 1 = M (2, 1, 0) (65 + p) := (xr_purse hp).symm.trans (r _ (by omega))
theorem rR.hand (r : rR k V M) (hp : p < 12) : V (40, k, p) 2 = M (2, 1, 0) (77 + p) := (xr_hand hp).symm.trans (r _ (by omega))
theorem rR.shook (r : rR k V M) (hp : p < 12) : V (40, k, p) 3 = M (2, 1, 0) (89 + p) := (xr_shook hp).symm.trans (r _ (by omega))
theorem rR.owner (r : rR k V M) (hp : h < 10) : V (42, k, h) 0 = M (2, 1, 0) (101 + h) := (xr_owner hp).symm.trans (r _ (by omega))
theorem rR.sold (r : rR k V M) (hp : h < 10) : V (42, k, h) 3 = M (2, 1, 0) (111 + h) := xr_sold.symm.trans (r _ (by omega))
theorem rR.day (r : rR k V M) : V (20, k, 0) 17 = M (2, 1, 0) 0 := r 0 (by decide)
theorem rR.state (r : rR k V M) : V (20, k, 0) 18 = M (2, 1, 0) 1 := r 1 (by decide)
theorem rR.lines (r : rR k V M) : V (20, k, 0) 19 = M (2, 1, 0) 2 := r 2 (by decide)
theorem rR.passed (r : rR k V M) : V (20, k, 0) 15 = M (2, 1, 0) 3 := r 3 (by decide)
theorem rR.held (r : rR k V M) : V (20, k, 0) 16 = M (2, 1, 0) 4 := r 4 (by decide)
end RRR
