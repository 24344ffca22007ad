/-! THE THREE WORDS, both ways -/
set_option maxRecDepth 100000
def fxa (k : Nat) : gz_N → Nat → Bool := fun n i => n == (20, k, 0) && (22 ≤ i && i ≤ 24)
def fma : gz_N → Nat → Bool := fun n _ => n == (2, 40, 0) || n == (2, 41, 0)
theorem fxa_fx {k : Nat} (n : gz_N) (i : Nat) (h : fx k n i = false) : fxa k n i = false := by
  obtain ⟨a, b, c⟩ := n
  unfold fx fxa at *
  simp only [Bool.and_eq_false_iff, Bool.or_eq_false_iff, beq_eq_false_iff_ne, decide_eq_false_iff_not, Prod.mk.injEq, ne_eq] at *
  omega
theorem fma_fm (n : gz_N) (i : Nat) (h : fm n i = false) : fma n i = false := by
  unfold fm fma at *
  simp only [Bool.or_eq_false_iff] at *
  exact ⟨h.1.1.1.1.2, h.1.1.1.2⟩
section WORDS
variable {k P H b0 p q t N : Nat} {F : Int32} {Ds : gz_S} {Df : gz_R} {V M : gz_V}
theorem z_word (h : cU k P H F b0 Ds Df V M) (hg : grR k V M) (hN : 500 ≤ N) (hp : p < 12) (hq : q < 12) (ht : t < 5) {w : Nat} (hw : w < 3) {a4 tr wo mo : Int32} (htr : (tr = -1 ∧ a4 = 0 ∧ t = 0) ∨ (tr = Int32.ofNat t ∧ a4 = 1)) (hmo : 0 ≤ mo.toInt) :
    ∃ V' M1 M' r, x1_tells N Ds Df V k (Int32.ofNat (7 + w)) (Int32.ofNat p) (Int32.ofNat q) tr wo mo = some (V', r) ∧ m_looks M (Int32.ofNat p) (Int32.ofNat q) (Int32.ofNat t) a4 = some M1 ∧ M1 (1, 0, 0) = M (1, 0, 0) ∧ M1 (2, 1, 0) = M (2, 1, 0) ∧ M1 (2, 40, 0) 5 = V (23, k, 0) 6 ∧ m_lawTells N M1 (Int32.ofNat w) wo mo = some (M', r) ∧ 0 ≤ r.toInt ∧ r.toInt ≤ mo.toInt ∧ cU k P H F b0 Ds Df V' M' ∧ fr (fxa k) V V' ∧ fr fma M M' := by
  have hg0 := hg
  obtain ⟨g1, g2, g3⟩ := hg
  have hgm : (M (1, 0, 0) 44 = -1 ∧ V (23, k, 0) 6 = 0 ∧ V (23, k, 0) 7 = 0) ∨ ∃ h, h < 10 ∧ M (1, 0, 0) 44 = Int32.ofNat h ∧ V (23, k, 0) 6 = M (2, 8, 0) h ∧ V (23, k, 0) 7 = M (2, 9, 0) h := g3
  obtain ⟨M1, m1, m2, m3⟩ := m_looks_ok (M := M) hp hq ht (a4 := a4) hgm
  have fx1 : fr (fxa k) V (gz_up (gz_up (gz_up V (20, k, 0) 22 (Int32.ofNat p)) (20, k, 0) 23 (Int32.ofNat q)) (20, k, 0) 24 tr) := ((fr.rf.up (by simp [fxa])).up (by simp [fxa])).up (by simp [fxa])
  have fm1 : fr fma M M1 := m2.wk (fun n i hn => by unfold fma at hn; simp only [Bool.or_eq_false_iff] at hn; exact hn.1)
  generalize hV5 : gz_up (gz_up (gz_up V (20, k, 0) 22 (Int32.ofNat p)) (20, k, 0) 23 (Int32.ofNat q)) (20, k, 0) 24 tr = V5 at fx1
  have hxr : xr V5 k = xr V k := xr_eq (fun n i hn => fx1 n i (by
    obtain ⟨a, b, c⟩ := n
    unfold xsl at hn
    unfold fxa
    simp only [Bool.and_eq_true, Bool.or_eq_true, beq_iff_eq, decide_eq_true_eq, Bool.and_eq_false_iff, beq_eq_false_iff_ne, decide_eq_false_iff_not, Prod.mk.injEq, ne_eq] at *
    omega))
  have u5 : cU k P H F b0 Ds Df V5 M := h.sc (fx1.wk fxa_fx) fr.rf hxr rfl (fun i => funext (fun j => fx1 _ j (by simp [fxa]))) rfl
  have n23 : ∀ j, V5 (23, k, 0) j = V (23, k, 0) j := fun j => fx1 _ j (by simp [fxa])
  have hfact := l_fact (a4 := a4) (tr := tr) (w := V (23, k, 0) 6) (s := V (23, k, 0) 7) u5.1 u5.2.1 ⟨by rw [n23]; exact g1, by rw [n23]; exact g2, n23 6, n23 7⟩ hp hq ht (by rw [← hV5]; simp [up_at]) (by rw [← hV5]; simp [up_at]) (by rw [← hV5]; simp [up_at]) htr
  have hS1 := u5.1.mv (V2 := V5) (M2 := M1) fr.rf (fm1.wk fma_fm)
  obtain ⟨n, hn, hl⟩ := hS1.2.2.2.2.2.2.2.2.1
  obtain ⟨M', r, r1, r2, r3, y, r4⟩ := l_tells (N := N) hfact (fun x hx => m3 x hx) hn hN hl hw (v5 := wo) (v6 := mo) hmo
  have hx : x1_tells N Ds Df V k (Int32.ofNat (7 + w)) (Int32.ofNat p) (Int32.ofNat q) tr wo mo = some (V5, r) := by
    unfold x1_tells
    simp only [gs_let, hV5]
    exact r1
  have hr := b_rg (x := y) hmo
  rw [← r4] at hr
  have fm2 : fr fma M1 M' := r3.wk (fun n i hn => by unfold fma at hn; simp only [Bool.or_eq_false_iff] at hn; exact hn.2)
  refine ⟨V5, M1, M', r, hx, m1, funext (fun i => m2 _ i rfl), funext (fun i => m2 _ i rfl), m3 5 (by decide), r2, hr.1, hr.2, ?_, fx1, fm1.trans fm2⟩
  exact u5.sc fr.rf ((fm1.trans fm2).wk fma_fm) rfl (funext (fun i => (fm1.trans fm2) _ i rfl)) (fun _ => rfl) (funext (fun i => (fm1.trans fm2) _ i rfl))
theorem z_passes (h : cU k P H F b0 Ds Df V M) (hg : grR k V M) (hN : 500 ≤ N) (hp : p < 12) (hq : q < 12) (ht : t < 5) :
    ∃ V' M' r, x1_passes N Ds Df V k (Int32.ofNat p) (Int32.ofNat q) (Int32.ofNat t) = some (V', r) ∧ m_passesOf N M (Int32.ofNat p) (Int32.ofNat q) (Int32.ofNat t) = some (M', r) ∧ 0 ≤ r.toInt ∧ r.toInt ≤ 1000 ∧ cU k P H F b0 Ds Df V' M' ∧ fr (fxa k) V V' ∧ fr fma M M' := by
  obtain ⟨V', M1, M', r, h1, h2, h3, h4, h5, h6, h7, h8, h9, h10, h11⟩ := z_word h hg hN hp hq ht (w := 0) (by decide) (a4 := 1) (tr := Int32.ofNat t) (wo := 20 * V (23, k, 0) 4) (mo := 1000) (Or.inr ⟨rfl, rfl⟩) (by decide)
  refine ⟨V', M', r, ?_, ?_, h7, h8, h9, h10, h11⟩
  · unfold x1_passes
    rw [show (7 : Int32) = Int32.ofNat (7 + 0) from rfl, h1]
    rfl
  · unfold m_passesOf
    rw [h2, gs_bd, h3, ← hg.1, show (0 : Int32) = Int32.ofNat 0 from rfl, h6]
    rfl
theorem z_holds (h : cU k P H F b0 Ds Df V M) (hg : grR k V M) (hN : 500 ≤ N) (hp : p < 12) (hq : q < 12) :
    ∃ V' M' r, x1_holds N Ds Df V k (Int32.ofNat p) (Int32.ofNat q) = some (V', r) ∧ m_holdsOf N M (Int32.ofNat p) (Int32.ofNat q) = some (M', r) ∧ 0 ≤ r.toInt ∧ r.toInt ≤ 1000 ∧ cU k P H F b0 Ds Df V' M' ∧ fr (fxa k) V V' ∧ fr fma M M' := by
  obtain ⟨V', M1, M', r, h1, h2, h3, h4, h5, h6, h7, h8, h9, h10, h11⟩ := z_word h hg hN hp hq (t := 0) (by decide) (w := 1) (by decide) (a4 := 1) (tr := Int32.ofNat 0) (wo := 100 - (10 * V (40, k, p) 3)) (mo := 1000) (Or.inr ⟨rfl, rfl⟩) (by decide)
  refine ⟨V', M', r, ?_, ?_, h7, h8, h9, h10, h11⟩
  · unfold x1_holds
    rw [gs_gd (o_inb hp (by omega)), o_nat (by omega), show (8 : Int32) = Int32.ofNat (7 + 1) from rfl, show (0 : Int32) = Int32.ofNat 0 from rfl, h1]
    rfl
  · unfold m_holdsOf
    rw [show (0 : Int32) = Int32.ofNat 0 from rfl, h2, gs_bd, o_addl, gs_gd (o_inb (by omega) (by omega)), o_nat (by omega), h4, ← h.2.1.shook hp, show (1 : Int32) = Int32.ofNat 1 from rfl, h6]
    rfl
theorem z_asks (h : cU k P H F b0 Ds Df V M) (hg : grR k V M) (hN : 500 ≤ N) (hp : p < 12) (hq : q < 12) :
    ∃ V' M' r, x1_asks N Ds Df V k (Int32.ofNat p) (Int32.ofNat q) = some (V', r) ∧ m_asksOf N M (Int32.ofNat p) (Int32.ofNat q) = some (M', r) ∧ 0 ≤ r.toInt ∧ r.toInt ≤ 9999 ∧ cU k P H F b0 Ds Df V' M' ∧ fr (fxa k) V V' ∧ fr fma M M' := by
  obtain ⟨V', M1, M', r, h1, h2, h3, h4, h5, h6, h7, h8, h9, h10, h11⟩ := z_word h hg hN hp hq (t := 0) (by decide) (w := 2) (by decide) (a4 := 0) (tr := -1) (wo := V (23, k, 0) 6 - (10 * V (23, k, 0) 4)) (mo := 9999) (Or.inl ⟨rfl, rfl, rfl⟩) (by decide)
  refine ⟨V', M', r, ?_, ?_, h7, h8, h9, h10, h11⟩
  · unfold x1_asks
    rw [show (9 : Int32) = Int32.ofNat (7 + 2) from rfl, h1]
    rfl
  · unfold m_asksOf
    rw [show m_looks M (Int32.ofNat p) (Int32.ofNat q) 0 0 = some M1 from h2, gs_bd, h3, ← hg.1, show (5 : Int32).toNatClampNeg = 5 from rfl, h5, show (2 : Int32) = Int32.ofNat 2 from rfl, h6]
    rfl
end WORDS
