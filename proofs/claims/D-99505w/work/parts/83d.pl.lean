/-! WHAT THE LAW TELLS, both ways -/
set_option maxRecDepth 100000
/-- a list in the heap -/
def lst (Ds : gz_S) (Df : gz_R) (V : gz_V) (n : gz_N) (L : Nat) (el : Nat → gz_N) : Prop :=
  90 ≤ n.1 ∧ Ds n = some (18, 3) ∧ V n 2 = Int32.ofNat L ∧ L ≤ 16 ∧ (0 < L → ∃ a cap, Df n 1 = some a ∧ 90 ≤ a.1 ∧ Ds a = some (114, cap) ∧ L ≤ cap ∧ ∀ i, i < L → Df a i = some (el i))
theorem lst.get {Ds : gz_S} {Df : gz_R} {V : gz_V} {n : gz_N} {L i : Nat} {el : Nat → gz_N} (h : lst Ds Df V n L el) (hi : i < L) : j2_get Ds Df V n (Int32.ofNat i) = some (el i) := by
  obtain ⟨h1, h2, h3, h4, h5⟩ := h
  obtain ⟨a, cap, q1, q2, q3, q4, q5⟩ := h5 (by omega)
  unfold j2_get j3_checkIndex j4_checkIndex j2_elementData
  rw [if_neg (by rw [i_lt, i_of (by omega)]; show ¬ (i : Int) < 0; omega), h3, if_pos ((o_lt (by omega) (by omega)).mpr hi)]
  simp only [gs_bd, q1]
  rw [gs_gd q2, q3]
  rw [show gz_q114 (some (114, cap)) = some cap from rfl, gs_bd, gs_gd (o_inb (by omega) (by omega)), o_nat (by omega), q5 i hi]
  rfl
/-- a line of the law -/
def lnR (Ds : gz_S) (Df : gz_R) (V : gz_V) (n : gz_N) (w f h t : Int32) (op ar : Nat → Int32) : Prop :=
  90 ≤ n.1 ∧ Ds n = some (13, 3) ∧ ∃ (w' f' h' t' : Nat) (tm : gz_N) (cs : List (Int32 × Int32)), w' < 3 ∧ V n 0 = Int32.ofNat (7 + w') ∧ w = Int32.ofNat w' ∧ f = Int32.ofNat f' ∧ h = Int32.ofNat h' ∧ t = Int32.ofNat t' ∧ t' ≤ 400
    ∧ Df n 1 = some tm ∧ tC Ds Df V 400 tm cs false ∧ cdF op ar f' cs ∧ f' + cs.length = h'
    ∧ ((Df n 2 = none ∧ h' = t') ∨ ∃ tw cw, Df n 2 = some tw ∧ tC Ds Df V 400 tw cw true ∧ cdF op ar h' cw ∧ h' + cw.length = t')
/-- the law as the twin has it -/
def lwR (Ds : gz_S) (Df : gz_R) (V : gz_V) (n : gz_N) (lm : Int32) (lw lf lh lt op ar : Nat → Int32) : Prop := ∃ (L : Nat) (el : Nat → gz_N), lst Ds Df V n L el ∧ lm = Int32.ofNat L ∧ ∀ i, i < L → lnR Ds Df V (el i) (lw i) (lf i) (lh i) (lt i) op ar
theorem b_held {x m : Int32} (hm : 0 ≤ m.toInt) : x0_bound x 0 m = m_held x 0 m := by
  unfold x0_bound m_held gz_max gz_min
  have h0 : (0 : Int32).toInt = 0 := rfl
  rw [i_eq]
  repeat' split
  all_goals (simp only [i_lt, i_le] at * <;> omega)
theorem b_rg {x m : Int32} (hm : 0 ≤ m.toInt) : 0 ≤ (x0_bound x 0 m).toInt ∧ (x0_bound x 0 m).toInt ≤ m.toInt := by
  unfold x0_bound gz_max gz_min
  have h0 : (0 : Int32).toInt = 0 := rfl
  repeat' split
  all_goals (simp only [i_lt, i_le] at * <;> omega)
section TELLS
variable {Ds : gz_S} {Df : gz_R} {V M : gz_V} {k N : Nat} {n : gz_N} {A : Nat → Int32}
theorem l_tells1 (hA : ∀ w : Int32, 0 ≤ w.toInt → w.toInt < 11 → x1_fact Ds Df V k w = some (A w.toNatClampNeg)) (hM : ∀ w, w < 11 → M (2, 40, 0) w = A w) (hn : Df (20, k, 0) 9 = some n) (hN : 500 ≤ N) {L : Nat} {el : Nat → gz_N} (hl : lst Ds Df V n L el) (hm : M (2, 18, 0) 0 = Int32.ofNat L)
    (hln : ∀ i, i < L → lnR Ds Df V (el i) (M (2, 19, 0) i) (M (2, 20, 0) i) (M (2, 21, 0) i) (M (2, 22, 0) i) (M (2, 23, 0)) (M (2, 24, 0))) {w : Nat} (hw : w < 3) {v5 v6 : Int32} :
    ∀ (d i : Nat) {M1 : gz_V} {a b : Nat}, i + d = L → d < a → d < b → fr fS M M1 → ∃ M2, fr fS M M2 ∧ ((x1_tells_L19 N Ds Df V k (Int32.ofNat (7 + w)) v5 v6 a (Int32.ofNat i) = some (.inr ()) ∧ m_lineOf_L2 N (Int32.ofNat w) b M1 (Int32.ofNat i) = some (.inr M2))
      ∨ ∃ (j : Nat) (v : Int32), j < L ∧ x1_tells_L19 N Ds Df V k (Int32.ofNat (7 + w)) v5 v6 a (Int32.ofNat i) = some (.inl (V, x0_bound v 0 v6)) ∧ m_lineOf_L2 N (Int32.ofNat w) b M1 (Int32.ofNat i) = some (.inl (M2, Int32.ofNat j)) ∧ ∃ M3, m_runs N M2 0 (M (2, 20, 0) j) (M (2, 21, 0) j) = some (M3, v) ∧ fr fS M M3) := by
  have h16 : L ≤ 16 := hl.2.2.2.1
  intro d
  induction d with
  | zero =>
    intro i M1 a b hi ha hb hf
    obtain ⟨a, rfl⟩ : ∃ m, a = m + 1 := ⟨a - 1, by omega⟩
    obtain ⟨b, rfl⟩ : ∃ m, b = m + 1 := ⟨b - 1, by omega⟩
    refine ⟨M1, hf, Or.inl ⟨?_, ?_⟩⟩
    · rw [x1_tells_L19, hn, gs_bd, gs_gd ⟨hl.1, hl.2.1⟩, if_pos]
      show V n 2 ≤ _
      rw [hl.2.2.1, o_le (by omega) (by omega)]
      omega
    · rw [m_lineOf_L2, if_pos]
      show M1 (2, 18, 0) 0 ≤ _
      rw [hf (2, 18, 0) 0 rfl, hm, o_le (by omega) (by omega)]
      omega
  | succ d ih =>
    intro i M1 a b hi ha hb hf
    obtain ⟨a, rfl⟩ : ∃ m, a = m + 1 := ⟨a - 1, by omega⟩
    obtain ⟨b, rfl⟩ : ∃ m, b = m + 1 := ⟨b - 1, by omega⟩
    have e1 : Int32.ofNat i + 1 = Int32.ofNat (i + 1) := o_addr 1 i
    obtain ⟨g1, g2, w', f', h', t', tm, cs, g3, g4, g5, g6, g7, g8, g9, g10, g11, g12, g13, g14⟩ := hln i (by omega)
    have hxs : ¬ V n 2 ≤ Int32.ofNat i := by rw [hl.2.2.1, o_le (by omega) (by omega)]; omega
    have hms : ¬ M1 (2, 18, 0) (0 : Int32).toNatClampNeg ≤ Int32.ofNat i := by
      show ¬ M1 (2, 18, 0) 0 ≤ _
      rw [hf (2, 18, 0) 0 rfl, hm, o_le (by omega) (by omega)]; omega
    have ib : gz_inb (Int32.ofNat i) 48 = true := o_inb (by omega) (by omega)
    have inat : (Int32.ofNat i).toNatClampNeg = i := o_nat (by omega)
    rw [x1_tells_L19, hn, gs_bd, gs_gd ⟨hl.1, hl.2.1⟩, if_neg (show ¬ j2_size V n ≤ _ from hxs), gs_bd, gs_gd ⟨hl.1, hl.2.1⟩, hl.get (by omega), gs_bd, gs_gd ⟨g1, g2⟩, m_lineOf_L2, if_neg hms, gs_gd ib, inat, g4, hf (2, 19, 0) i rfl, g5, e1]
    by_cases hww : w' = w
    · subst hww
      rw [if_pos rfl, if_pos rfl, gs_gd ib, gs_gd ib, hf (2, 21, 0) i rfl, hf (2, 22, 0) i rfl, g7, g8]
      obtain ⟨v, v1, -, v3⟩ := tC.of hA g11 (show 400 ≤ 410 by decide)
      have kc := g11.cok
      have fin : ∀ M2, fr fS M M2 → ∃ M3, m_runs N M2 0 (M (2, 20, 0) i) (M (2, 21, 0) i) = some (M3, v) ∧ fr fS M M3 := fun M2 f2 => by
        have q23 : M2 (2, 23, 0) = M (2, 23, 0) := funext (fun i => f2 _ i rfl)
        have q24 : M2 (2, 24, 0) = M (2, 24, 0) := funext (fun i => f2 _ i rfl)
        have le : cs.length ≤ 400 := by
          rcases g14 with ⟨-, q⟩ | ⟨tw, cw, -, -, -, q⟩ <;> omega
        have le2 : h' ≤ 400 := by
          rcases g14 with ⟨-, q⟩ | ⟨tw, cw, -, -, -, q⟩ <;> omega
        obtain ⟨M3, r1, r2⟩ := m_run (N := N) (M := M2) (A := A) (fun w hw => by rw [f2 (2, 40, 0) w rfl]; exact hM w hw) (by unfold cd; rw [q23, q24]; exact g12) kc.1 le g13 le2 hN (v3 [])
        rw [g6, g7]
        exact ⟨M3, r1, f2.trans r2⟩
      rcases g14 with ⟨q1, q2⟩ | ⟨tw, cw, q1, q2, q3, q4⟩
      · rw [q1, gs_on0, g10, gs_bd, v1, gs_bd, if_pos (by rw [q2])]
        exact ⟨M1, hf, Or.inr ⟨i, v, by omega, rfl, rfl, fin M1 hf⟩⟩
      · have kw := q2.cok
        rw [q1, gs_on1, if_neg (by rw [o_eq (by omega) (by omega)]; omega), gs_gd ib, gs_gd ib]
        obtain ⟨x, x1, x2, x3⟩ := tC.of hA q2 (show 400 ≤ 410 by decide)
        have q23 : M1 (2, 23, 0) = M (2, 23, 0) := funext (fun i => hf _ i rfl)
        have q24 : M1 (2, 24, 0) = M (2, 24, 0) := funext (fun i => hf _ i rfl)
        obtain ⟨M2, r1, r2⟩ := m_run (N := N) (M := M1) (A := A) (fun w hw => by rw [hf (2, 40, 0) w rfl]; exact hM w hw) (by unfold cd; rw [q23, q24]; exact q3) kw.1 (by omega) q4 g9 hN (x3 [])
        rw [x1, gs_bd, r1, gs_b2]
        rcases x2 rfl with rfl | rfl
        · rw [if_neg (by decide), if_pos rfl]
          exact ih (i + 1) (by omega) (by omega) (by omega) (hf.trans r2)
        · rw [if_pos rfl, if_neg (by decide), g10, gs_bd, v1, gs_bd]
          exact ⟨M2, hf.trans r2, Or.inr ⟨i, v, by omega, rfl, rfl, fin M2 (hf.trans r2)⟩⟩
    · rw [if_neg (by rw [o_eq (by omega) (by omega)]; omega), if_neg (by rw [o_eq (by omega) (by omega)]; omega)]
      exact ih (i + 1) (by omega) (by omega) (by omega) hf
/-- the same word of the law -/
theorem l_tells (hA : ∀ w : Int32, 0 ≤ w.toInt → w.toInt < 11 → x1_fact Ds Df V k w = some (A w.toNatClampNeg)) (hM : ∀ w, w < 11 → M (2, 40, 0) w = A w) (hn : Df (20, k, 0) 9 = some n) (hN : 500 ≤ N)
    (hl : lwR Ds Df V n (M (2, 18, 0) 0) (M (2, 19, 0)) (M (2, 20, 0)) (M (2, 21, 0)) (M (2, 22, 0)) (M (2, 23, 0)) (M (2, 24, 0))) {w : Nat} (hw : w < 3) {v5 v6 : Int32} (h6 : 0 ≤ v6.toInt) :
    ∃ M2 r, gz_lp (x1_tells_L19 N Ds Df V k (Int32.ofNat (7 + w)) v5 v6 N 0) some (fun _ => some (V, x0_bound v5 0 v6)) = some (V, r) ∧ m_lawTells N M (Int32.ofNat w) v5 v6 = some (M2, r) ∧ fr fS M M2 ∧ ∃ y, r = x0_bound y 0 v6 := by
  obtain ⟨L, el, h1, h2, h3⟩ := hl
  have h16 : L ≤ 16 := h1.2.2.2.1
  obtain ⟨M2, f2, h⟩ := l_tells1 (N := N) (v5 := v5) (v6 := v6) hA hM hn hN h1 h2 h3 hw L 0 (a := N) (b := N) (by omega) (by omega) (by omega) fr.rf
  unfold m_lawTells m_lineOf
  rcases h with ⟨q1, q2⟩ | ⟨j, v, hj, q1, q2, M3, q3, q4⟩
  · rw [show (0 : Int32) = Int32.ofNat 0 from rfl, q1, q2]
    refine ⟨M2, x0_bound v5 0 v6, rfl, ?_, f2, v5, rfl⟩
    rw [gs_lpr, gs_b2, if_pos rfl, gs_b2]
    rw [show (Int32.ofNat 0) = (0 : Int32) from rfl, b_held h6]
  · rw [show (0 : Int32) = Int32.ofNat 0 from rfl, q1, q2]
    refine ⟨M3, x0_bound v 0 v6, rfl, ?_, q4, v, rfl⟩
    rw [gs_lpl, gs_b2, if_neg (by rw [i_eq, i_of (by omega)]; show ¬ (j : Int) = -1; omega), gs_gd (o_inb (by omega) (by omega)), gs_gd (o_inb (by omega) (by omega)), o_nat (by omega), f2 (2, 20, 0) j rfl, f2 (2, 21, 0) j rfl]
    rw [show (Int32.ofNat 0) = (0 : Int32) from rfl, q3, gs_b2, gs_b2, b_held h6]
end TELLS
