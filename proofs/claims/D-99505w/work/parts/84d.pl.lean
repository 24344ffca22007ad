/-! WHAT CAN BE UNDONE -/
set_option maxRecDepth 100000
/-- a row of the twin's rows, as its row of now -/
def MB (M : gz_V) (j : Nat) : gz_V := fun n i => if n = (2, 1, 0) then M (2, 2, 0) (121 * j + i) else M n i
theorem MB_row {M : gz_V} {j i : Nat} : MB M j (2, 1, 0) i = M (2, 2, 0) (121 * j + i) := if_pos rfl
/-- a market of the row behind -/
def bw (P H b κ j : Nat) (V M : gz_V) : Prop := rR κ V (MB M j) ∧ rg P H (MB M j) ∧ (M (2, 2, 0) (121 * j + 2)).toInt ≤ b ∧ ∀ h, h < 10 → V (42, κ, h) 1 = V (42, 0, h) 1 ∧ V (42, κ, h) 2 = V (42, 0, h) 2
/-- the row behind -/
def bR (P H b : Nat) (Df : gz_R) (V M : gz_V) : Prop := ∃ (u : Nat) (κ : Nat → Nat), u ≤ 6 ∧ V (10, 0, 0) 8 = Int32.ofNat u ∧ M (1, 0, 0) 3 = Int32.ofNat u ∧ (∀ j, j < 6 → 3 ≤ κ j ∧ κ j < 9 ∧ Df (11, 7, 0) j = some (20, κ j, 0)) ∧ (∀ i j, i < 6 → j < 6 → κ i = κ j → i = j) ∧ ∀ j, j < u → bw P H b (κ j) j V M
section REM
variable {N P H b : Nat} {Ds : gz_S} {Df : gz_R} {V M : gz_V}
theorem gz_mk_ok {k : Nat} (hk : k < 9) : gz_mk (some (20, k, 0)) = some k := by
  unfold gz_mk
  simp [hk]
/-- rotated -/
theorem x_rot {V : gz_V} {w : Nat} {κ : Nat → Nat} {D0 : gz_R} (hκ : ∀ j, j < 6 → κ j < 9 ∧ D0 (11, 7, 0) j = some (20, κ j, 0)) : ∀ (d t : Nat) {n : Nat} {D : gz_R}, t + d = 6 → 1 ≤ t → d < n → (∀ j, j < t - 1 → D (11, 7, 0) j = some (20, κ (j + 1), 0)) → (∀ m j, m ≠ (11, 7, 0) ∨ t - 1 ≤ j → D m j = D0 m j) →
    ∃ D', x0_remembers_L18 N Ds V w n D (Int32.ofNat t) = some D' ∧ (∀ j, j < 5 → D' (11, 7, 0) j = some (20, κ (j + 1), 0)) ∧ ∀ m j, m ≠ (11, 7, 0) ∨ 5 ≤ j → D' m j = D0 m j := by
  intro d
  induction d with
  | zero =>
    intro t n D ht h1 hn h h'
    obtain ⟨n, rfl⟩ : ∃ z, n = z + 1 := ⟨n - 1, by omega⟩
    have t6 : t = 6 := by omega
    subst t6
    exact ⟨D, by rw [x0_remembers_L18, if_pos (by decide)], h, h'⟩
  | succ d ih =>
    intro t n D ht h1 hn h h'
    obtain ⟨n, rfl⟩ : ∃ z, n = z + 1 := ⟨n - 1, by omega⟩
    have e1 : Int32.ofNat t + 1 = Int32.ofNat (t + 1) := o_addr 1 t
    have em : Int32.ofNat t - 1 = Int32.ofNat (t - 1) := by
      have e : Int32.ofNat t = Int32.ofNat (t - 1) + 1 := by rw [o_addr]; congr 1; omega
      rw [e, Int32.add_sub_cancel]
    have hd : D (11, 7, 0) t = some (20, κ t, 0) := (h' _ _ (Or.inr (by omega))).trans (hκ t (by omega)).2
    obtain ⟨D', a, b, c⟩ := ih (t + 1) (n := n) (D := gz_ur D (11, 7, 0) (t - 1) (some (20, κ t, 0))) (by omega) (by omega) (by omega) (fun j hj => by
      rw [gz_ur_eq]
      dsimp only
      by_cases q : j = t - 1
      · rw [if_pos q, show j + 1 = t by omega]
      · rw [if_neg q]
        exact h j (by omega)) (fun m j hm => by
      by_cases q : m = (11, 7, 0)
      · subst q
        have hj : t ≤ j := by rcases hm with z | z; exact absurd rfl z; omega
        rw [gz_ur_eq]
        dsimp only
        rw [if_neg (by omega)]
        exact h' _ _ (Or.inr (by omega))
      · rw [gz_ur_ne q]
        exact h' m j (Or.inl q))
    refine ⟨D', ?_, b, c⟩
    rw [x0_remembers_L18, if_neg (by rw [o_lel (by decide) (by omega)]; show ¬ 6 ≤ t; omega), gs_gd (o_inb (by omega) (by omega)), o_nat (by omega), hd, gz_mk_ok (hκ t (by omega)).1, gs_bd, em, gs_gd (o_inb (by omega) (by omega)), gs_let, o_nat (by omega), e1]
    exact a
/-- where the row behind may be written -/
def bx (n : gz_N) : Prop := (20 ≤ n.1 ∧ n.1 < 90 ∧ 3 ≤ n.2.1)
theorem rg_row {P H : Nat} {M M2 : gz_V} (hH : H ≤ 10) (h : rg P H M) (he : ∀ i, i < 121 → M2 (2, 1, 0) i = M (2, 1, 0) i) : rg P H M2 := by
  refine ⟨fun i h1 h2 => ?_, fun j hj => ?_, ?_⟩
  · rw [he i (by omega)]; exact h.1 i h1 h2
  · rw [he _ (by omega)]; exact h.2.1 j hj
  · rw [he 2 (by decide)]; exact h.2.2
theorem bw.eq {κ j j2 : Nat} {V2 M2 : gz_V} (h : bw P H b κ j V M) (hH : H ≤ 10) (hx : ∀ n i, (n.2.1 = κ ∨ n.2.1 = 0) → 20 ≤ n.1 → n.1 < 90 → V2 n i = V n i) (hm : ∀ i, i < 121 → M2 (2, 2, 0) (121 * j2 + i) = M (2, 2, 0) (121 * j + i)) : bw P H b κ j2 V2 M2 := by
  obtain ⟨h1, h2, h3, h4⟩ := h
  refine ⟨fun i hi => ?_, rg_row hH h2 (fun i hi => by rw [MB_row, MB_row]; exact hm i hi), by rw [hm 2 (by decide)]; exact h3, fun h hh => ?_⟩
  · have e := h1 i hi
    rw [MB_row] at e
    rw [MB_row, hm i hi, ← e]
    refine congrFun (xr_eq (fun n i hn => hx n i ?_ ?_ ?_)) i
    · unfold xsl at hn
      simp only [Bool.and_eq_true, beq_iff_eq] at hn
      exact Or.inl hn.1
    · obtain ⟨a, b, c⟩ := n
      unfold xsl at hn
      simp only [Bool.and_eq_true, Bool.or_eq_true, beq_iff_eq, decide_eq_true_eq] at hn
      show 20 ≤ a
      omega
    · obtain ⟨a, b, c⟩ := n
      unfold xsl at hn
      simp only [Bool.and_eq_true, Bool.or_eq_true, beq_iff_eq, decide_eq_true_eq] at hn
      show a < 90
      omega
  · rw [hx (42, κ, h) 1 (Or.inl rfl) (show 20 ≤ 42 by decide) (show 42 < 90 by decide), hx (42, κ, h) 2 (Or.inl rfl) (show 20 ≤ 42 by decide) (show 42 < 90 by decide), hx (42, 0, h) 1 (Or.inr rfl) (show 20 ≤ 42 by decide) (show 42 < 90 by decide), hx (42, 0, h) 2 (Or.inr rfl) (show 20 ≤ 42 by decide) (show 42 < 90 by decide)]
    exact h4 h hh
theorem xr_cp {k1 k2 : Nat} {V0 V1 : gz_V} (h : cpR k2 (mvS k1) V0 V1) : ∀ i, i < 121 → xr V1 k1 i = xr V0 k2 i := by
  intro i hi
  have c : ∀ n j, mvS k1 n j → V1 n j = V0 (n.1, k2, n.2.2) j := fun n j q => (h n j).1 q
  unfold xr
  rw [c (20, k1, 0) 17 ⟨rfl, Or.inr (Or.inr ⟨rfl, rfl, by decide, by decide⟩)⟩, c (20, k1, 0) 18 ⟨rfl, Or.inr (Or.inr ⟨rfl, rfl, by decide, by decide⟩)⟩, c (20, k1, 0) 19 ⟨rfl, Or.inr (Or.inr ⟨rfl, rfl, by decide, by decide⟩)⟩, c (20, k1, 0) 15 ⟨rfl, Or.inr (Or.inr ⟨rfl, rfl, by decide, by decide⟩)⟩, c (20, k1, 0) 16 ⟨rfl, Or.inr (Or.inr ⟨rfl, rfl, by decide, by decide⟩)⟩]
  by_cases q0 : i < 5
  · have : i = 0 ∨ i = 1 ∨ i = 2 ∨ i = 3 ∨ i = 4 := by omega
    rcases this with rfl | rfl | rfl | rfl | rfl <;> rfl
  rw [if_neg (show ¬ i = 0 by omega), if_neg (show ¬ i = 0 by omega), if_neg (show ¬ i = 1 by omega), if_neg (show ¬ i = 1 by omega), if_neg (show ¬ i = 2 by omega), if_neg (show ¬ i = 2 by omega), if_neg (show ¬ i = 3 by omega), if_neg (show ¬ i = 3 by omega), if_neg (show ¬ i = 4 by omega), if_neg (show ¬ i = 4 by omega)]
  by_cases q1 : i < 65
  · rw [if_pos q1, if_pos q1]
    exact c _ _ ⟨rfl, Or.inl ⟨show (i - 5) / 5 < 12 by omega, Or.inl ⟨rfl, Nat.mod_lt _ (by decide)⟩⟩⟩
  rw [if_neg q1, if_neg q1]
  by_cases q2 : i < 77
  · rw [if_pos q2, if_pos q2]
    exact c _ _ ⟨rfl, Or.inl ⟨show i - 65 < 12 by omega, Or.inr ⟨rfl, by decide, by decide⟩⟩⟩
  rw [if_neg q2, if_neg q2]
  by_cases q3 : i < 89
  · rw [if_pos q3, if_pos q3]
    exact c _ _ ⟨rfl, Or.inl ⟨show i - 77 < 12 by omega, Or.inr ⟨rfl, by decide, by decide⟩⟩⟩
  rw [if_neg q3, if_neg q3]
  by_cases q4 : i < 101
  · rw [if_pos q4, if_pos q4]
    exact c _ _ ⟨rfl, Or.inl ⟨show i - 89 < 12 by omega, Or.inr ⟨rfl, by decide, by decide⟩⟩⟩
  rw [if_neg q4, if_neg q4]
  by_cases q5 : i < 111
  · rw [if_pos q5, if_pos q5]
    exact c _ _ ⟨rfl, Or.inr (Or.inl ⟨show i - 101 < 10 by omega, rfl, by decide⟩)⟩
  rw [if_neg q5, if_neg q5]
  exact c _ _ ⟨rfl, Or.inr (Or.inl ⟨show i - 111 < 10 by omega, rfl, by decide⟩)⟩
/-- the second half: now goes behind -/
theorem z_rem2 (hN : 1000 ≤ N) (hH : H ≤ 10) (hr : rR 0 V M) (hg : rg P H M) (hl : (M (2, 1, 0) 2).toInt ≤ b) {u : Nat} {κ : Nat → Nat} (hu : u < 6) (e8 : V (10, 0, 0) 8 = Int32.ofNat u) (e3 : M (1, 0, 0) 3 = Int32.ofNat u) (hκ : ∀ j, j < 6 → 3 ≤ κ j ∧ κ j < 9 ∧ Df (11, 7, 0) j = some (20, κ j, 0)) (inj : ∀ i j, i < 6 → j < 6 → κ i = κ j → i = j) (rows : ∀ j, j < u → bw P H b (κ j) j V M) :
    ∃ V17 M9, x1_moves N V (κ u) 0 = some V17 ∧ V17 (10, 0, 0) = V (10, 0, 0) ∧ m_keepsAhead_L55 N N M 0 = some M9 ∧ M9 (1, 0, 0) = M (1, 0, 0) ∧ bR P H b Df (gz_up V17 (10, 0, 0) 8 (Int32.ofNat u + 1)) (gz_up M9 (1, 0, 0) 3 (Int32.ofNat u + 1)) ∧ (∀ n i, ¬ bx n → V17 n i = V n i) ∧ (∀ n i, n ≠ (2, 2, 0) → M9 n i = M n i) := by
  obtain ⟨k1, k2, k3⟩ := hκ u hu
  obtain ⟨V17, a1, a2⟩ := x_moves (N := N) (V0 := V) (k1 := κ u) (k2 := 0) (by omega) (by omega)
  obtain ⟨M9, b1, b2⟩ := m_keepsL (N := N) hu e3 121 0 (n := N) (M := M) (by decide) (by omega) ⟨fun i hi => absurd hi (by omega), fun n i _ => rfl⟩
  have vno : ∀ n i, n.2.1 ≠ κ u ∨ ¬ (20 ≤ n.1 ∧ n.1 < 90) → V17 n i = V n i := fun n i hn => (a2 n i).2 (fun z => by
    obtain ⟨z1, z2⟩ := z
    rcases hn with q | q
    · exact q z1
    · rcases z2 with z2 | z2 | z2
      · rcases z2.2 with z3 | z3 <;> exact q (by omega)
      · exact q (by omega)
      · exact q (by omega))
  have v10 : V17 (10, 0, 0) = V (10, 0, 0) := funext (fun i => vno _ i (Or.inr (by show ¬ (20 ≤ 10 ∧ 10 < 90); omega)))
  have mno : ∀ n i, n ≠ (2, 2, 0) → M9 n i = M n i := fun n i hn => b2.2 n i (Or.inl hn)
  have e1 : Int32.ofNat u + 1 = Int32.ofNat (u + 1) := o_addr 1 u
  refine ⟨V17, M9, a1, v10, b1, funext (fun i => mno _ i (by decide)), ?_, fun n i hn => vno n i ?_, mno⟩
  · rw [e1]
    refine ⟨u + 1, κ, by omega, by rw [up_at, if_pos ⟨rfl, rfl⟩], by rw [up_at, if_pos ⟨rfl, rfl⟩], hκ, inj, fun j hj => ?_⟩
    by_cases hju : j = u
    · subst hju
      have r1 : ∀ i, i < 121 → gz_up M9 (1, 0, 0) 3 (Int32.ofNat (j + 1)) (2, 2, 0) (121 * j + i) = M (2, 1, 0) i := fun i hi => by
        rw [up_ne (by decide), b2.1 i hi, Nat.zero_add]
      refine ⟨fun i hi => ?_, rg_row hH hg (fun i hi => by rw [MB_row]; exact r1 i hi), by rw [r1 2 (by decide)]; exact hl, fun h hh => ?_⟩
      · rw [MB_row, r1 i hi, xr_no (by simp [xsl]), xr_cp a2 i hi]
        exact hr i hi
      · have c1 : ∀ f, f < 4 → V17 (42, κ j, h) f = V (42, 0, h) f := fun f hf => (a2 _ _).1 ⟨rfl, Or.inr (Or.inl ⟨hh, rfl, hf⟩)⟩
        have c2 : ∀ f, V17 (42, 0, h) f = V (42, 0, h) f := fun f => vno _ _ (Or.inl (by show 0 ≠ κ j; omega))
        rw [up_ne (by simp), up_ne (by simp), c1 1 (by decide), c1 2 (by decide), c2 1, c2 2]
        exact ⟨rfl, rfl⟩
    · have hne : κ j ≠ κ u := fun e => hju (inj j u (by omega) hu e)
      refine (rows j (by omega)).eq hH (fun n i hn h1 h2 => ?_) (fun i hi => ?_)
      · rw [up_ne (fun e => by rw [e] at h1; exact absurd h1 (by decide))]
        refine vno n i (Or.inl ?_)
        rcases hn with q | q
        · rw [q]; exact hne
        · rw [q]; omega
      · rw [up_ne (by decide)]
        exact b2.2 _ _ (Or.inr (Or.inl (by omega)))
  · unfold bx at hn
    by_cases q : n.2.1 = κ u
    · exact Or.inr (fun z => hn ⟨z.1, z.2, by omega⟩)
    · exact Or.inl q
theorem z_rem (hN : 1000 ≤ N) (hH : H ≤ 10) (hr : rR 0 V M) (hg : rg P H M) (hl : (M (2, 1, 0) 2).toInt ≤ b) (hb : bR P H b Df V M) :
    ∃ V' D' M', x0_remembers N Ds Df V = some (V', D') ∧ m_keepsAhead N M = some M' ∧ bR P H b D' V' M' ∧ (∀ n i, ¬ bx n → ¬ (n = (10, 0, 0) ∧ i = 8) → V' n i = V n i) ∧ (∀ m j, m ≠ (11, 7, 0) → D' m j = Df m j) ∧ (∀ n i, n ≠ (2, 2, 0) → ¬ (n = (1, 0, 0) ∧ i = 3) → M' n i = M n i) := by
  obtain ⟨u, κ, hu, e8, e3, hκ, inj, rows⟩ := hb
  unfold x0_remembers m_keepsAhead
  rw [e8, e3]
  by_cases h6 : u = 6
  · subst h6
    rw [if_pos (show Int32.ofNat 6 = 6 from rfl), if_pos (show Int32.ofNat 6 = 6 from rfl)]
    obtain ⟨D8, a, b', c⟩ := x_rot (N := N) (Ds := Ds) (V := V) (w := κ 0) (D0 := Df) (κ := κ) (fun j hj => ⟨(hκ j hj).2.1, (hκ j hj).2.2⟩) 5 1 (n := N) (D := Df) (by decide) (by decide) (by omega) (fun j hj => absurd hj (by omega)) (fun m j _ => rfl)
    have e5 : Int32.ofNat 6 - 1 = Int32.ofNat 5 := by decide
    generalize hM5 : gz_up M (1, 0, 0) 3 (Int32.ofNat 5) = M5
    obtain ⟨M7, d1, d2, d3⟩ := m_downL (N := N) (M0 := M5) (by rw [← hM5]; simp [up_at]) 605 0 (n := N) (M := M5) (by decide) (by omega) (fun i hi => absurd hi (by omega)) (fun n i _ => rfl)
    generalize hV12 : gz_up V (10, 0, 0) 8 (Int32.ofNat 5) = V12
    have m5 : ∀ n i, ¬ (n = (1, 0, 0) ∧ i = 3) → M5 n i = M n i := fun n i hn => by rw [← hM5, up_at, if_neg hn]
    have v12 : ∀ n i, ¬ (n = (10, 0, 0) ∧ i = 8) → V12 n i = V n i := fun n i hn => by rw [← hV12, up_at, if_neg hn]
    have hk2 : ∀ j, j < 6 → 3 ≤ (if j < 5 then κ (j + 1) else κ 0) ∧ (if j < 5 then κ (j + 1) else κ 0) < 9 ∧ gz_ur D8 (11, 7, 0) 5 (some (20, κ 0, 0)) (11, 7, 0) j = some (20, (if j < 5 then κ (j + 1) else κ 0), 0) := fun j hj => by
      rw [gz_ur_eq]
      dsimp only
      by_cases q : j < 5
      · rw [if_pos q, if_neg (by omega)]
        exact ⟨(hκ (j + 1) (by omega)).1, (hκ (j + 1) (by omega)).2.1, b' j q⟩
      · rw [if_neg q, if_pos (by omega)]
        exact ⟨(hκ 0 (by decide)).1, (hκ 0 (by decide)).2.1, rfl⟩
    have inj2 : ∀ i j, i < 6 → j < 6 → (if i < 5 then κ (i + 1) else κ 0) = (if j < 5 then κ (j + 1) else κ 0) → i = j := fun i j hi hj e => by
      by_cases q1 : i < 5
      · rw [if_pos q1] at e
        by_cases q2 : j < 5
        · rw [if_pos q2] at e
          have := inj _ _ (by omega) (by omega) e
          omega
        · rw [if_neg q2] at e
          have := inj _ _ (by omega) (by omega) e
          omega
      · rw [if_neg q1] at e
        by_cases q2 : j < 5
        · rw [if_pos q2] at e
          have := inj _ _ (by omega) (by omega) e
          omega
        · omega
    have row7 : ∀ i, M7 (2, 1, 0) i = M (2, 1, 0) i := fun i => (d3 _ i (by decide)).trans (m5 _ i (by simp))
    obtain ⟨V17, M9, y1, y2, y3, y4, y5, y6, y7⟩ := z_rem2 (N := N) (P := P) (H := H) (b := b) (V := V12) (M := M7) (Df := gz_ur D8 (11, 7, 0) 5 (some (20, κ 0, 0))) (u := 5) (κ := fun j => if j < 5 then κ (j + 1) else κ 0) hN hH (fun i hi => by
      rw [row7, ← hV12, xr_no (by simp [xsl])]
      exact hr i hi) (rg_row hH hg (fun i _ => row7 i)) (by rw [row7]; exact hl) (by decide) (by rw [← hV12]; simp [up_at]) (by rw [d3 _ _ (by decide), ← hM5]; simp [up_at]) hk2 inj2 (fun j hj => by
      rw [if_pos hj]
      refine (rows (j + 1) (by omega)).eq hH (fun n i hn h1 h2 => v12 n i (fun z => by rw [z.1] at h1; exact absurd h1 (by decide))) (fun i hi => ?_)
      rw [d2 _ (by omega), m5 _ _ (by simp)]
      congr 1
      omega)
    refine ⟨_, _, _, ?_, ?_, y5, fun n i h1 h2 => ?_, fun m j hm => ?_, fun n i h1 h2 => ?_⟩
    · rw [show (0 : Int32).toNatClampNeg = 0 from rfl, (hκ 0 (by decide)).2.2, gz_mk_ok (hκ 0 (by decide)).2.1, gs_bd, show x0_remembers_L18 N Ds V (κ 0) N Df 1 = some D8 from a, gs_bd]
      simp only [gs_let, e5]
      rw [hV12, gs_b2, show (5 : Int32).toNatClampNeg = 5 from rfl]
      have w8 : V12 (10, 0, 0) 8 = Int32.ofNat 5 := by rw [← hV12]; simp [up_at]
      rw [w8, gs_gd (by decide), show (Int32.ofNat 5).toNatClampNeg = 5 from rfl, (hk2 5 (by decide)).2.2, gz_mk_ok (hk2 5 (by decide)).2.1, gs_bd]
      rw [show x1_moves N V12 (if 5 < 5 then κ (5 + 1) else κ 0) 0 = some V17 from y1, gs_bd, y2, w8]
    · simp only [gs_let, e5]
      rw [hM5, show m_keepsAhead_L21 N N M5 0 = some M7 from d1, gs_bd, gs_bd, y3, gs_bd, y4, d3 (1, 0, 0) 3 (by decide), ← hM5]
      simp [up_at]
    · rw [up_at, if_neg h2, y6 n i h1, v12 n i h2]
    · rw [gz_ur_ne hm]
      exact c m j (Or.inl hm)
    · rw [up_at, if_neg h2, y7 n i h1, d3 n i h1, m5 n i h2]
  · have n6 : ¬ Int32.ofNat u = 6 := by
      rw [show (6 : Int32) = Int32.ofNat 6 from rfl, o_eq (by omega) (by omega)]
      exact h6
    rw [if_neg n6, if_neg n6, gs_b2, gs_bd]
    have hu6 : u < 6 := by omega
    obtain ⟨V17, M9, y1, y2, y3, y4, y5, y6, y7⟩ := z_rem2 (N := N) hN hH hr hg hl hu6 e8 e3 hκ inj rows
    rw [e8, gs_gd (o_inb hu6 (by omega)), o_nat (by omega), (hκ u hu6).2.2, gz_mk_ok (hκ u hu6).2.1, gs_bd, y1, gs_bd, y2, e8, y3, gs_bd, y4, e3]
    exact ⟨_, _, _, rfl, rfl, y5, fun n i h1 h2 => by rw [up_at, if_neg h2, y6 n i h1], fun m j hm => rfl, fun n i h1 h2 => by rw [up_at, if_neg h2, y7 n i h1]⟩
end REM
