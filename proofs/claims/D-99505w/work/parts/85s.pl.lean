/-! pairs: the tables; partners -/
set_option maxRecDepth 100000
section PAIRS2
variable {N P : Nat} {K : Nat → Nat} {Ds : gz_S} {Df : gz_R} {V M V2 M2 : gz_V}
theorem knT.eq (t : knT Ds Df V M P K) (hx : ∀ n i, n ≠ (11, 11, 0) → V2 n i = V n i) (hm : ∀ n i, n ≠ (2, 55, 0) → M2 n i = M n i) : knT Ds Df V2 M2 P K := by
  obtain ⟨t1, t2, t3, ⟨nn, t4, t5, t6, t7⟩, t8, t9⟩ := t
  refine ⟨t1, by rw [hx _ _ (by decide)]; exact t2, by rw [hm _ _ (by decide)]; exact t3, ⟨nn, t4, t5, t6, fun p hp => ?_⟩, fun p hp => ?_, t9⟩
  · rw [hx _ _ (by rintro rfl; exact absurd t5 (by decide))]; exact t7 p hp
  · rw [hm _ _ (by decide)]; exact t8 p hp
theorem z_tab (hN : 500 ≤ N) {V0 M0 : gz_V} : ∀ (d t : Nat) {n n2 : Nat} {V M : gz_V} {T : Nat → Nat}, t + d = 2 ^ P → d < n → d < n2 → knT Ds Df V M P K → tbl (11, 11, 0) V t T → tbl (2, 55, 0) M t T → (∀ n i, n ≠ (11, 11, 0) → V n i = V0 n i) → (∀ n i, n ≠ (2, 55, 0) → M n i = M0 n i) → ∃ V' M' T', x0_mostPairs_L2 N Ds Df (Int32.ofNat (2 ^ P - 1)) n V (Int32.ofNat t) = some V' ∧ m_findsPairs_L2 N n2 M (Int32.ofNat t) = some M' ∧ tbl (11, 11, 0) V' (2 ^ P) T' ∧ tbl (2, 55, 0) M' (2 ^ P) T' ∧ (∀ n i, n ≠ (11, 11, 0) → V' n i = V0 n i) ∧ (∀ n i, n ≠ (2, 55, 0) → M' n i = M0 n i) := by
  intro d
  induction d with
  | zero =>
    intro t n n2 V M T ht hn hn2 kn tx tm hx hm
    obtain ⟨n, rfl⟩ : ∃ z, n = z + 1 := ⟨n - 1, by omega⟩
    obtain ⟨n2, rfl⟩ : ∃ z, n2 = z + 1 := ⟨n2 - 1, by omega⟩
    have t1 := kn.1
    have pl : 2 ^ P ≤ 4096 := Nat.pow_le_pow_right (n := 2) (by decide) t1
    have pp := Nat.two_pow_pos P
    have : t = 2 ^ P := by omega
    subst this
    refine ⟨V, M, T, ?_, ?_, tx, tm, hx, hm⟩
    · rw [x0_mostPairs_L2, if_pos (by rw [o_lt (by omega) (by omega)]; omega)]
    · rw [m_findsPairs_L2, kn.2.2.1, bt_sh P (by omega), if_pos (i_le.mpr (Int.le_refl _))]
  | succ d ih =>
    intro t n n2 V M T ht hn hn2 kn tx tm hx hm
    obtain ⟨n, rfl⟩ : ∃ z, n = z + 1 := ⟨n - 1, by omega⟩
    obtain ⟨n2, rfl⟩ : ∃ z, n2 = z + 1 := ⟨n2 - 1, by omega⟩
    have t1 := kn.1
    have t3 := kn.2.2.1
    have pl : 2 ^ P ≤ 4096 := Nat.pow_le_pow_right (n := 2) (by decide) t1
    have pp := Nat.two_pow_pos P
    have e1 : Int32.ofNat t + 1 = Int32.ofNat (t + 1) := o_addr 1 t
    have tn : (Int32.ofNat t).toNatClampNeg = t := o_nat (by omega)
    have fin : ∀ (V3 : gz_V) (v : Nat), v ≤ t → V3 (11, 11, 0) t = Int32.ofNat v → (∀ n i, ¬ (n = (11, 11, 0) ∧ i = t) → V3 n i = V n i) → ∃ V' M' T', x0_mostPairs_L2 N Ds Df (Int32.ofNat (2 ^ P - 1)) n V3 (Int32.ofNat (t + 1)) = some V' ∧ m_findsPairs_L2 N n2 (gz_up M (2, 55, 0) t (Int32.ofNat v)) (Int32.ofNat (t + 1)) = some M' ∧ tbl (11, 11, 0) V' (2 ^ P) T' ∧ tbl (2, 55, 0) M' (2 ^ P) T' ∧ (∀ n i, n ≠ (11, 11, 0) → V' n i = V0 n i) ∧ (∀ n i, n ≠ (2, 55, 0) → M' n i = M0 n i) := fun V3 v hv e3 f3 => by
      have hx3 : ∀ n i, n ≠ (11, 11, 0) → V3 n i = V n i := fun n i hn => f3 n i (fun z => hn z.1)
      refine ih (t + 1) (T := fun s => if s = t then v else T s) (by omega) (by omega) (by omega) (kn.eq hx3 (fun n i hn => by rw [up_ne hn])) (fun s hs => ?_) (fun s hs => ?_) (fun n i hn => (hx3 n i hn).trans (hx n i hn)) (fun n i hn => by rw [up_ne hn]; exact hm n i hn)
      · dsimp only
        by_cases q : s = t
        · subst q; rw [if_pos rfl]; exact ⟨e3, hv⟩
        · rw [if_neg q, f3 _ _ (fun z => q z.2)]; exact tx s (by omega)
      · dsimp only
        rw [up_at]
        by_cases q : s = t
        · subst q; rw [if_pos rfl, if_pos ⟨rfl, rfl⟩]; exact ⟨rfl, hv⟩
        · rw [if_neg q, if_neg (fun z => q z.2)]; exact tm s (by omega)
    rw [x0_mostPairs_L2, if_neg (by rw [o_lt (by omega) (by omega)]; omega), gs_gd (o_inb (show t < 4096 by omega) (by omega)), gs_let, tn, m_findsPairs_L2, t3, bt_sh P (by omega), if_neg (show ¬ Int32.ofNat (2 ^ P) ≤ Int32.ofNat t by rw [o_le (by omega) (by omega)]; omega), e1]
    by_cases z0 : t = 0
    · subst z0
      have m16 : m_findsPairs_L16 N M (Int32.ofNat 0) N 0 0 = some 0 := by
        obtain ⟨N', hN'⟩ : ∃ z, N = z + 1 := ⟨N - 1, by omega⟩
        conv => lhs; arg 4; rw [hN']
        rw [m_findsPairs_L16, t3]
        by_cases p0 : Int32.ofNat P ≤ 0
        · rw [if_pos p0]
        · rw [if_neg p0, if_pos (by decide)]
      rw [if_pos (show Int32.ofNat 0 = 0 from rfl), gs_bd, m16, gs_bd, gs_gd (o_inb (show 0 < 4096 by omega) (by omega)), gs_let, tn]
      exact fin _ 0 (Nat.le_refl 0) (by rw [up_at, if_pos ⟨rfl, rfl⟩]; rfl) (fun n i hn => by rw [up_at, if_neg hn])
    · have t4 : t < 4096 := by omega
      obtain ⟨o1, o2⟩ := lo_at t4 z0
      have lz : ∀ j, j < lo t → t.testBit j = false := fun j hj => lo_lt hj
      have lP : lo t < P := by
        by_cases q : lo t < P
        · exact q
        · rw [bt_tf (k := P) (show t < 2 ^ P by omega) (by omega)] at o1; cases o1
      rw [if_neg (by rw [bt_z (by omega)]; exact z0), bt_ntz t4 z0]
      generalize lo t = l at *
      have clt := clr_lt t4 o1
      have tv := tx _ clt
      have el : Int32.ofNat l + 1 = Int32.ofNat (l + 1) := o_addr 1 l
      rw [gs_let, bt_sh l (by omega), clr_int t4, gs_gd (o_inb (show clr t (2 ^ l) < 4096 by omega) (by omega)), gs_gd (o_inb (show t < 4096 by omega) (by omega)), gs_let, gs_let, el, o_nat (show clr t (2 ^ l) < 2147483648 by omega), up_at, if_neg (by omega), tv.1]
      obtain ⟨n3, s1, s2⟩ := m_skip65 (N := N) (M := M) (v := Int32.ofNat (T (clr t (2 ^ l)))) t4 lz t1 lP t3 (l + 1) 0 (n2 := N) (by omega) (by omega)
      obtain ⟨V', v', q1, q2, q3, q4, q5⟩ := z_most2 (N := N) (S := t) (l := l) (v1 := Int32.ofNat (2 ^ P - 1)) (T := T) (V0 := V) (M := M) (P := P) (K := K) (Ds := Ds) (Df := Df) t4 o1 o2 (P - (l + 1)) (l + 1) (n := N) (n2 := n3) (v := T (clr t (2 ^ l))) (V := gz_up (gz_up V (11, 11, 0) t 0) (11, 11, 0) t (Int32.ofNat (T (clr t (2 ^ l))))) (by omega) (by omega) (by omega) (by omega) (by omega) (by rw [up_at, if_pos ⟨rfl, rfl⟩]) (fun n i hn => by rw [up_at, if_neg hn, up_at, if_neg hn]) kn tx tm
      rw [q1, gs_bd, gs_bd, show m_findsPairs_L16 N M (Int32.ofNat t) N 0 0 = _ from m_16 (N := N) t4 z0 o1 lz t1 lP t3 tm l 0 (n := N) (by omega) (by omega), show m_findsPairs_L65 N M (Int32.ofNat t) (Int32.ofNat l) (Int32.ofNat (clr t (2 ^ l))) N (Int32.ofNat (T (clr t (2 ^ l)))) 0 = _ from s2, q2, gs_bd, gs_bd, gs_gd (o_inb (show t < 4096 by omega) (by omega)), gs_let, tn]
      exact fin V' v' q3 q4 q5
/-- the partner of the lowest -/
def pok (K T : Nat → Nat) (S l j : Nat) : Prop := S.testBit j = true ∧ (K l).testBit j = false ∧ 1 + T (clr S (2 ^ l ||| 2 ^ j)) = T S
def FJ (K T : Nat → Nat) (S l P : Nat) (r : Int32) : Prop := (r = -1 ∧ ∀ j, l < j → j < P → ¬ pok K T S l j) ∨ ∃ j, r = Int32.ofNat j ∧ l < j ∧ j < P ∧ pok K T S l j ∧ ∀ i, l < i → i < j → ¬ pok K T S l i
theorem FJ.uq {T : Nat → Nat} {S l : Nat} {r r' : Int32} (h : FJ K T S l P r) (h' : FJ K T S l P r') : r = r' := by
  rcases h with ⟨rfl, h⟩ | ⟨j, rfl, h1, h2, h3, h4⟩
  · rcases h' with ⟨rfl, -⟩ | ⟨j', rfl, k1, k2, k3, k4⟩
    · rfl
    · exact absurd k3 (h j' k1 k2)
  · rcases h' with ⟨rfl, k⟩ | ⟨j', rfl, k1, k2, k3, k4⟩
    · exact absurd h3 (k j h1 h2)
    · by_cases a : j < j'
      · exact absurd h3 (k4 j h1 a)
      · by_cases b : j' < j
        · exact absurd k3 (h4 j' k1 b)
        · rw [show j = j' by omega]
theorem x_part {S l : Nat} {T : Nat → Nat} (hS : S < 4096) (hl : S.testBit l = true) (l12 : l < 12) (kn : knT Ds Df V M P K) (tx : tbl (11, 11, 0) V (S + 1) T) : ∀ (d j : Nat) {n : Nat}, j + d = P → l < j → d < n → (∀ i, l < i → i < j → ¬ pok K T S l i) → (∃ r, x0_partner_L9 N Ds Df V (Int32.ofNat S) (Int32.ofNat l) n (Int32.ofNat j) = some (.inl r) ∧ FJ K T S l P r) ∨ (x0_partner_L9 N Ds Df V (Int32.ofNat S) (Int32.ofNat l) n (Int32.ofNat j) = some (.inr ()) ∧ FJ K T S l P (-1)) := by
  obtain ⟨t1, t2, t3, ⟨nn, t4, t5, t6, t7⟩, t8, t9⟩ := id kn
  have lK := bt_4096 t1 (t8 l l12).2
  intro d
  induction d with
  | zero =>
    intro j n hj hlj hn h
    obtain ⟨n, rfl⟩ : ∃ z, n = z + 1 := ⟨n - 1, by omega⟩
    have : j = P := by omega
    subst this
    exact Or.inr ⟨by rw [x0_partner_L9, t2, if_pos (i_le.mpr (Int.le_refl _))], Or.inl ⟨rfl, h⟩⟩
  | succ d ih =>
    intro j n hj hlj hn h
    obtain ⟨n, rfl⟩ : ∃ z, n = z + 1 := ⟨n - 1, by omega⟩
    have e1 : Int32.ofNat j + 1 = Int32.ofNat (j + 1) := o_addr 1 j
    have nxt : ¬ pok K T S l j → ∀ i, l < i → i < j + 1 → ¬ pok K T S l i := fun z i h1 h2 => by
      by_cases e : i = j
      · subst e; exact z
      · exact h i h1 (by omega)
    rw [x0_partner_L9, t2, if_neg (by rw [o_le (by omega) (by omega)]; omega), e1]
    by_cases q : S.testBit j = true
    · rw [if_pos ((bt_h1 (by omega) (by omega)).mpr q), t4, gs_bd, gs_gd ⟨t5, t6⟩, gs_gd (o_inb l12 (by omega)), o_nat (show l < 2147483648 by omega), t7 l l12]
      by_cases q2 : (K l).testBit j = false
      · have lt2 := clr_lt2 (j := j) hS hl
        have tv := tx _ (show clr S (2 ^ l ||| 2 ^ j) < S + 1 by omega)
        have tS := tx S (by omega)
        rw [if_pos ((bt_h0 (by omega) (by omega)).mpr q2), bt_sh l (by omega), bt_sh j (by omega), bt_or, clr_int hS, gs_gd (o_inb (show clr S (2 ^ l ||| 2 ^ j) < 4096 by omega) (by omega)), gs_gd (o_inb hS (by omega)), o_nat (show S < 2147483648 by omega), o_nat (show clr S (2 ^ l ||| 2 ^ j) < 2147483648 by omega), tv.1, tS.1, show (1 : Int32) = Int32.ofNat 1 from rfl, o_add]
        by_cases q3 : 1 + T (clr S (2 ^ l ||| 2 ^ j)) = T S
        · rw [if_pos (by rw [q3])]
          exact Or.inl ⟨_, rfl, Or.inr ⟨j, rfl, hlj, by omega, ⟨q, q2, q3⟩, h⟩⟩
        · rw [if_neg (by rw [o_eq (by omega) (by omega)]; exact q3)]
          exact ih (j + 1) (by omega) (by omega) (by omega) (nxt (fun z => q3 z.2.2))
      · rw [if_neg (fun z => q2 ((bt_h0 (by omega) (by omega)).mp z))]
        exact ih (j + 1) (by omega) (by omega) (by omega) (nxt (fun z => q2 z.2.1))
    · rw [if_neg (fun z => q ((bt_h1 (by omega) (by omega)).mp z))]
      exact ih (j + 1) (by omega) (by omega) (by omega) (nxt (fun z => q z.1))
theorem x_partner (hN : 500 ≤ N) {S : Nat} {T : Nat → Nat} (hS : S < 2 ^ P) (h0 : S ≠ 0) (kn : knT Ds Df V M P K) (tx : tbl (11, 11, 0) V (S + 1) T) : ∃ r, x0_partner N Ds Df V (Int32.ofNat S) = some r ∧ FJ K T S (lo S) P r := by
  have S4 := bt_4096 kn.1 hS
  obtain ⟨o1, o2⟩ := lo_at S4 h0
  have lP : lo S < P := by
    by_cases q : lo S < P
    · exact q
    · rw [bt_tf (k := P) hS (by omega)] at o1; cases o1
  have t1 := kn.1
  unfold x0_partner
  rw [bt_ntz S4 h0]
  generalize lo S = l at *
  rw [gs_let, gs_let, show Int32.ofNat l + 1 = Int32.ofNat (l + 1) from o_addr 1 l]
  rcases x_part (N := N) S4 o1 o2 kn tx (P - (l + 1)) (l + 1) (n := N) (by omega) (by omega) (by omega) (fun i h1 h2 => by omega) with ⟨r, r1, r2⟩ | ⟨r1, r2⟩
  · rw [r1]; exact ⟨r, rfl, r2⟩
  · rw [r1]; exact ⟨-1, rfl, r2⟩
theorem m_part {S l : Nat} {v1 : Int32} {T : Nat → Nat} (hS : S < 4096) (hl : S.testBit l = true) (l12 : l < 12) (kn : knT Ds Df V M P K) (tm : tbl (2, 55, 0) M (S + 1) T) : ∀ (d j : Nat) {n : Nat} {r : Int32}, j = l + d → j < P → d < n → ((r = -1 ∧ ∀ i, j < i → i < P → ¬ pok K T S l i) ∨ ∃ k, r = Int32.ofNat k ∧ j < k ∧ k < P ∧ pok K T S l k ∧ ∀ i, j < i → i < k → ¬ pok K T S l i) → ∃ r', m_partnerOf_L51 N M v1 (Int32.ofNat S) (Int32.ofNat l) (Int32.ofNat (clr S (2 ^ l))) n r (Int32.ofNat j) = some r' ∧ FJ K T S l P r' := by
  obtain ⟨t1, t2, t3, t4, t8, t9⟩ := id kn
  have lK := bt_4096 t1 (t8 l l12).2
  have c1 : clr S (2 ^ l) ≤ S := clr_le
  intro d
  induction d with
  | zero =>
    intro j n r hj hP hn h
    obtain ⟨n, rfl⟩ : ∃ z, n = z + 1 := ⟨n - 1, by omega⟩
    have : j = l := by omega
    subst this
    exact ⟨r, by rw [m_partnerOf_L51, if_pos (i_le.mpr (Int.le_refl _))], h⟩
  | succ d ih =>
    intro j n r hj hP hn h
    obtain ⟨n, rfl⟩ : ∃ z, n = z + 1 := ⟨n - 1, by omega⟩
    have em : Int32.ofNat j + -1 = Int32.ofNat (j - 1) := by rw [← Int32.sub_eq_add_neg]; exact o_sub (c := 1) (by omega) (by omega)
    have cb : (clr S (2 ^ l)).testBit j = S.testBit j := by
      rw [clr_tb hS, bt_p2]
      have : ¬ l = j := by omega
      simp [this]
    have keep : ¬ pok K T S l j → ((r = -1 ∧ ∀ i, j - 1 < i → i < P → ¬ pok K T S l i) ∨ ∃ k, r = Int32.ofNat k ∧ j - 1 < k ∧ k < P ∧ pok K T S l k ∧ ∀ i, j - 1 < i → i < k → ¬ pok K T S l i) := fun z => by
      rcases h with ⟨h1, h2⟩ | ⟨k, h1, h2, h3, h4, h5⟩
      · refine Or.inl ⟨h1, fun i i1 i2 => ?_⟩
        by_cases e : i = j
        · subst e; exact z
        · exact h2 i (by omega) i2
      · refine Or.inr ⟨k, h1, by omega, h3, h4, fun i i1 i2 => ?_⟩
        by_cases e : i = j
        · subst e; exact z
        · exact h5 i (by omega) i2
    rw [m_partnerOf_L51, if_neg (by rw [o_le (by omega) (by omega)]; omega), em]
    by_cases q : S.testBit j = true
    · rw [if_neg (by rw [bt_m0 (by omega) (by omega), cb, q]; decide), gs_gd (o_inb (show l < 24 by omega) (by omega)), o_nat (show l < 2147483648 by omega), (t8 l l12).1]
      by_cases q2 : (K l).testBit j = false
      · have lt2 := clr_lt2 (j := j) hS hl
        have tv := tm _ (show clr S (2 ^ l ||| 2 ^ j) < S + 1 by omega)
        have tS := tm S (by omega)
        rw [if_pos ((bt_m0 (by omega) (by omega)).mpr q2), bt_sh j (by omega), clr_int (show clr S (2 ^ l) < 4096 by omega), clr2 hS, gs_gd (o_inb (show clr S (2 ^ l ||| 2 ^ j) < 4096 by omega) (by omega)), gs_gd (o_inb hS (by omega)), o_nat (show S < 2147483648 by omega), o_nat (show clr S (2 ^ l ||| 2 ^ j) < 2147483648 by omega), tv.1, tS.1, show (1 : Int32) = Int32.ofNat 1 from rfl, o_add]
        by_cases q3 : 1 + T (clr S (2 ^ l ||| 2 ^ j)) = T S
        · rw [if_pos (by rw [q3]), gs_bd]
          exact ih (j - 1) (by omega) (by omega) (by omega) (Or.inr ⟨j, rfl, by omega, hP, ⟨q, q2, q3⟩, fun i i1 i2 => by omega⟩)
        · rw [if_neg (by rw [o_eq (by omega) (by omega)]; exact q3), gs_bd]
          exact ih (j - 1) (by omega) (by omega) (by omega) (keep (fun z => q3 z.2.2))
      · rw [if_neg (fun z => q2 ((bt_m0 (by omega) (by omega)).mp z)), gs_bd]
        exact ih (j - 1) (by omega) (by omega) (by omega) (keep (fun z => q2 z.2.1))
    · rw [if_pos (by rw [bt_m0 (by omega) (by omega), cb]; simpa using q), gs_bd]
      exact ih (j - 1) (by omega) (by omega) (by omega) (keep (fun z => q z.1))
end PAIRS2
