/-! number, weight, herd, row -/
set_option maxRecDepth 100000
section TELL
variable {V M : gz_V} {r f a lo hi cap v : Nat}
theorem z_tell (h : tdR 0 r f a lo hi cap V M) (hr : r < 5) (hcap : xw_rl r = cap) (h16 : cap ≤ 16) (hv : lo ≤ v ∧ v ≤ hi) (hv2 : v < 2147483648) (a2 : Int32) :
    ∃ V' M' s, x3_tells V 0 r (Int32.ofNat v) a2 = some (V', s) ∧ (if (M (1, 0, 0) f) = Int32.ofNat cap then some (M, (-1)) else gz_gd (gz_inb (M (1, 0, 0) f) cap = true) (gz_let (gz_up M (2, a, 0) (M (1, 0, 0) f).toNatClampNeg (Int32.ofNat v)) (fun V7 => gz_let (gz_up V7 (1, 0, 0) f ((V7 (1, 0, 0) f) + 1)) (fun V9 => some (V9, (V9 (1, 0, 0) f)))))) = some (M', s)
      ∧ tdR 0 r f a lo hi cap V' M' ∧ (∀ n i, ¬ (n = (27, 0, r) ∧ i = 1) → ¬ (n.1 = 30 + r ∧ n.2.1 = 0) → V' n i = V n i) ∧ (∀ n i, ¬ (n = (1, 0, 0) ∧ i = f) → n ≠ (2, a, 0) → M' n i = M n i) := by
  obtain ⟨m, h1, h2, h3, h4⟩ := h
  unfold x3_tells
  rw [hcap, h2, h3, show (cap : Nat).toInt32 = Int32.ofNat cap from rfl]
  by_cases hm : m = cap
  · subst hm
    rw [if_pos rfl, if_pos rfl]
    exact ⟨V, M, -1, rfl, rfl, ⟨m, h1, h2, h3, h4⟩, fun _ _ _ _ => rfl, fun _ _ _ _ => rfl⟩
  have hne : ¬ Int32.ofNat m = Int32.ofNat cap := by rw [o_eq (by omega) (by omega)]; exact hm
  have mn : (Int32.ofNat m).toNatClampNeg = m := o_nat (by omega)
  have mb : gz_inb (Int32.ofNat m) cap = true := o_inb (by omega) (by omega)
  have e1 : Int32.ofNat m + 1 = Int32.ofNat (m + 1) := o_addr 1 m
  have w1 : ∀ (W : gz_V) (j : Nat) (x : Int32), gz_up W (30 + r, 0, m) j x (27, 0, r) = W (27, 0, r) := fun W j x => up_ne (by simp; omega)
  have w2 : ∀ (W : gz_V) (j : Nat) (x : Int32), gz_up W (2, a, 0) j x (1, 0, 0) = W (1, 0, 0) := fun W j x => up_ne (by simp)
  rw [if_neg hne, if_neg hne, gs_gd mb, gs_gd mb]
  simp only [gs_let, mn, w1, w2, h2, h3, gs_gd mb, e1]
  rw [show (0 : Int32).toNatClampNeg = 0 from rfl, show (1 : Int32).toNatClampNeg = 1 from rfl]
  have sx : ∀ W : gz_V, gz_up W (27, 0, r) 1 (Int32.ofNat (m + 1)) (27, 0, r) 1 = Int32.ofNat (m + 1) := fun W => by rw [up_at, if_pos ⟨rfl, rfl⟩]
  have sm : ∀ W : gz_V, gz_up W (1, 0, 0) f (Int32.ofNat (m + 1)) (1, 0, 0) f = Int32.ofNat (m + 1) := fun W => by rw [up_at, if_pos ⟨rfl, rfl⟩]
  rw [sx, sm]
  refine ⟨_, _, Int32.ofNat (m + 1), rfl, rfl, ⟨m + 1, by omega, by rw [up_at, if_pos ⟨rfl, rfl⟩], by rw [up_at, if_pos ⟨rfl, rfl⟩], fun i hi => ?_⟩, fun n i q1 q2 => ?_, fun n i q1 q2 => ?_⟩
  · by_cases him : i = m
    · subst him
      refine ⟨v, hv.1, hv.2, ?_, ?_⟩
      · rw [up_ne (by simp; omega), up_at, if_neg (by simp), up_at, if_pos ⟨rfl, rfl⟩]
      · rw [up_ne (by simp), up_at, if_pos ⟨rfl, rfl⟩]
    · obtain ⟨v', z1, z2, z3, z4⟩ := h4 i (by omega)
      refine ⟨v', z1, z2, ?_, ?_⟩
      · rw [up_ne (by simp; omega), up_ne (by simp [him]), up_ne (by simp [him])]
        exact z3
      · rw [up_ne (by simp), up_at, if_neg (fun z => him z.2)]
        exact z4
  · rw [up_at, if_neg q1, up_ne (fun e => q2 (by rw [e]; exact ⟨rfl, rfl⟩)), up_ne (fun e => q2 (by rw [e]; exact ⟨rfl, rfl⟩))]
  · rw [up_at, if_neg q1, up_ne q2]
theorem z_tend (h : tdR 0 r f a lo hi cap V M) : tdR 0 r f a lo hi cap (gz_up V (27, 0, r) 1 0) (gz_up M (1, 0, 0) f 0) := ⟨0, by omega, by rw [up_at, if_pos ⟨rfl, rfl⟩]; rfl, by rw [up_at, if_pos ⟨rfl, rfl⟩]; rfl, fun i hi => absurd hi (by omega)⟩
/-- the other rows stay -/
theorem tdR.ot {V2 M2 : gz_V} {r' f' a' lo' hi' cap' : Nat} (h : tdR 0 r' f' a' lo' hi' cap' V M) (hr : r' ≠ r) (hf : f' ≠ f) (ha : a' ≠ a) (hx : ∀ n i, ¬ (n = (27, 0, r) ∧ i = 1) → ¬ (n.1 = 30 + r ∧ n.2.1 = 0) → V2 n i = V n i) (hm : ∀ n i, ¬ (n = (1, 0, 0) ∧ i = f) → n ≠ (2, a, 0) → M2 n i = M n i) (hr5 : r < 5) : tdR 0 r' f' a' lo' hi' cap' V2 M2 := by
  obtain ⟨m, h1, h2, h3, h4⟩ := h
  have q : ∀ i j, V2 (30 + r', 0, i) j = V (30 + r', 0, i) j := fun i j => hx _ _ (by simp; omega) (by simp; omega)
  refine ⟨m, h1, by rw [hx _ _ (by simp [hr]) (by simp; omega)]; exact h2, by rw [hm _ _ (by simp [hf]) (by simp)]; exact h3, fun i hi => ?_⟩
  rw [q, hm (2, a', 0) i (by simp) (by simp [ha])]
  exact h4 i hi
theorem tdC.ot {V2 M2 : gz_V} (h : tdC 0 V M) (hr : r ≠ 0) (ha : a ≠ 50) (hx : ∀ n i, ¬ (n = (27, 0, r) ∧ i = 1) → ¬ (n.1 = 30 + r ∧ n.2.1 = 0) → V2 n i = V n i) (hm : ∀ n i, ¬ (n = (1, 0, 0) ∧ i = f) → n ≠ (2, a, 0) → M2 n i = M n i) : tdC 0 V2 M2 := by
  intro m q1 q2 i hi
  rw [hx _ _ (by simp; omega) (by simp; omega)] at q1
  rw [hx (30, 0, i) 1 (by simp) (by simp; omega), hx (30, 0, i) 0 (by simp) (by simp; omega), hm (2, 50, 0) i (by simp) (by simp; omega)]
  exact h m q1 q2 i hi
end TELL
theorem J_number {N : Nat} : lo_number JJ N := by
  intro Ds Df V c M a h
  have h0 := h.m0
  obtain ⟨P, H, b, ⟨-, -, -, -, -, t0, tc, t1, t2, t3, t4⟩, -⟩ := h.m0
  unfold x0_number m_number
  rw [gs_let, isIn_eq]
  generalize gz_up M (1, 0, 0) 0 0 = M1 at *
  have fin : ∀ V2 M2, tdR 0 1 51 52 0 8 9 V2 M2 → (∀ n i, ¬ (n = (27, 0, 1) ∧ i = 1) → ¬ (n.1 = 30 + 1 ∧ n.2.1 = 0) → V2 n i = V n i) → (∀ n i, ¬ (n = (1, 0, 0) ∧ i = 51) → n ≠ (2, 52, 0) → M2 n i = M1 n i) → JJ Ds Df V2 c M2 := fun V2 M2 q hx hm => h0.rows (fun n i q1 q2 => hx n i (fun z => q1 (by rw [z.1]; exact ⟨rfl, rfl⟩)) (fun z => q2 ⟨by omega, by omega, z.2⟩)) (fun n i hn => hm n i (by rintro ⟨rfl, rfl⟩; rcases hn with z | z; exact absurd z.2 (by decide); exact absurd z.1 (by decide)) (by rintro rfl; rcases hn with z | z; exact absurd z.1 (by decide); exact absurd z.2 (by decide))) ⟨t0.ot (by decide) (by decide) (by decide) hx hm (by decide), tc.ot (by decide) (by decide) hx hm, q, t2.ot (by decide) (by decide) (by decide) hx hm (by decide), t3.ot (by decide) (by decide) (by decide) hx hm (by decide), t4.ot (by decide) (by decide) (by decide) hx hm (by decide)⟩
  by_cases ha : a = -1
  · rw [if_pos ha, if_pos ha]
    exact ⟨gz_up V (27, 0, 1) 1 0, gz_up M1 (1, 0, 0) 51 0, 0, rfl, rfl, fin _ _ (z_tend t1) (fun n i q1 q2 => by rw [up_at, if_neg q1]) (fun n i q1 q2 => by rw [up_at, if_neg q1])⟩
  rw [if_neg ha, if_neg ha]
  rcases isIn_c (a := a) (b := 0) (c := 8) with w | ⟨w, w1, w2⟩
  · rw [if_pos w, if_pos w]
    exact ⟨V, M1, -1, rfl, rfl, h0⟩
  rw [w, if_neg n10, if_neg n10]
  have z0 : (0 : Int32).toInt = 0 := rfl
  have z8 : (8 : Int32).toInt = 8 := rfl
  obtain ⟨v, hv, rfl⟩ := o_ex (a := a) (n := 8 + 1) (by omega) (by omega)
  have hlo : 0 ≤ v := by rw [z0, i_of (by omega)] at w1; omega
  obtain ⟨V2, M2, s, y1, y2, y3, y4, y5⟩ := z_tell t1 (by decide) rfl (by decide) (v := v) ⟨hlo, by omega⟩ (by omega) 0
  rw [y1, gs_b2]
  exact ⟨V2, M2, s, rfl, y2, fin V2 M2 y3 y4 y5⟩
theorem J_weight {N : Nat} : lo_weight JJ N := by
  intro Ds Df V c M a h
  have h0 := h.m0
  obtain ⟨P, H, b, ⟨-, -, -, -, -, t0, tc, t1, t2, t3, t4⟩, -⟩ := h.m0
  unfold x0_weight m_weight
  rw [gs_let, isIn_eq]
  generalize gz_up M (1, 0, 0) 0 0 = M1 at *
  have fin : ∀ V2 M2, tdR 0 2 57 58 1 200 5 V2 M2 → (∀ n i, ¬ (n = (27, 0, 2) ∧ i = 1) → ¬ (n.1 = 30 + 2 ∧ n.2.1 = 0) → V2 n i = V n i) → (∀ n i, ¬ (n = (1, 0, 0) ∧ i = 57) → n ≠ (2, 58, 0) → M2 n i = M1 n i) → JJ Ds Df V2 c M2 := fun V2 M2 q hx hm => h0.rows (fun n i q1 q2 => hx n i (fun z => q1 (by rw [z.1]; exact ⟨rfl, rfl⟩)) (fun z => q2 ⟨by omega, by omega, z.2⟩)) (fun n i hn => hm n i (by rintro ⟨rfl, rfl⟩; rcases hn with z | z; exact absurd z.2 (by decide); exact absurd z.1 (by decide)) (by rintro rfl; rcases hn with z | z; exact absurd z.1 (by decide); exact absurd z.2 (by decide))) ⟨t0.ot (by decide) (by decide) (by decide) hx hm (by decide), tc.ot (by decide) (by decide) hx hm, t1.ot (by decide) (by decide) (by decide) hx hm (by decide), q, t3.ot (by decide) (by decide) (by decide) hx hm (by decide), t4.ot (by decide) (by decide) (by decide) hx hm (by decide)⟩
  by_cases ha : a = -1
  · rw [if_pos ha, if_pos ha]
    exact ⟨gz_up V (27, 0, 2) 1 0, gz_up M1 (1, 0, 0) 57 0, 0, rfl, rfl, fin _ _ (z_tend t2) (fun n i q1 q2 => by rw [up_at, if_neg q1]) (fun n i q1 q2 => by rw [up_at, if_neg q1])⟩
  rw [if_neg ha, if_neg ha]
  rcases isIn_c (a := a) (b := 1) (c := 200) with w | ⟨w, w1, w2⟩
  · rw [if_pos w, if_pos w]
    exact ⟨V, M1, -1, rfl, rfl, h0⟩
  rw [w, if_neg n10, if_neg n10]
  have z0 : (1 : Int32).toInt = 1 := rfl
  have z8 : (200 : Int32).toInt = 200 := rfl
  obtain ⟨v, hv, rfl⟩ := o_ex (a := a) (n := 200 + 1) (by omega) (by omega)
  have hlo : 1 ≤ v := by rw [z0, i_of (by omega)] at w1; omega
  obtain ⟨V2, M2, s, y1, y2, y3, y4, y5⟩ := z_tell t2 (by decide) rfl (by decide) (v := v) ⟨hlo, by omega⟩ (by omega) 0
  rw [y1, gs_b2]
  exact ⟨V2, M2, s, rfl, y2, fin V2 M2 y3 y4 y5⟩
theorem J_herd {N : Nat} : lo_herd JJ N := by
  intro Ds Df V c M a h
  have h0 := h.m0
  obtain ⟨P, H, b, ⟨-, -, -, -, -, t0, tc, t1, t2, t3, t4⟩, -⟩ := h.m0
  unfold x0_herd m_herd
  rw [gs_let, isIn_eq]
  generalize gz_up M (1, 0, 0) 0 0 = M1 at *
  have fin : ∀ V2 M2, tdR 0 3 59 60 1 30 7 V2 M2 → (∀ n i, ¬ (n = (27, 0, 3) ∧ i = 1) → ¬ (n.1 = 30 + 3 ∧ n.2.1 = 0) → V2 n i = V n i) → (∀ n i, ¬ (n = (1, 0, 0) ∧ i = 59) → n ≠ (2, 60, 0) → M2 n i = M1 n i) → JJ Ds Df V2 c M2 := fun V2 M2 q hx hm => h0.rows (fun n i q1 q2 => hx n i (fun z => q1 (by rw [z.1]; exact ⟨rfl, rfl⟩)) (fun z => q2 ⟨by omega, by omega, z.2⟩)) (fun n i hn => hm n i (by rintro ⟨rfl, rfl⟩; rcases hn with z | z; exact absurd z.2 (by decide); exact absurd z.1 (by decide)) (by rintro rfl; rcases hn with z | z; exact absurd z.1 (by decide); exact absurd z.2 (by decide))) ⟨t0.ot (by decide) (by decide) (by decide) hx hm (by decide), tc.ot (by decide) (by decide) hx hm, t1.ot (by decide) (by decide) (by decide) hx hm (by decide), t2.ot (by decide) (by decide) (by decide) hx hm (by decide), q, t4.ot (by decide) (by decide) (by decide) hx hm (by decide)⟩
  by_cases ha : a = -1
  · rw [if_pos ha, if_pos ha]
    exact ⟨gz_up V (27, 0, 3) 1 0, gz_up M1 (1, 0, 0) 59 0, 0, rfl, rfl, fin _ _ (z_tend t3) (fun n i q1 q2 => by rw [up_at, if_neg q1]) (fun n i q1 q2 => by rw [up_at, if_neg q1])⟩
  rw [if_neg ha, if_neg ha]
  rcases isIn_c (a := a) (b := 1) (c := 30) with w | ⟨w, w1, w2⟩
  · rw [if_pos w, if_pos w]
    exact ⟨V, M1, -1, rfl, rfl, h0⟩
  rw [w, if_neg n10, if_neg n10]
  have z0 : (1 : Int32).toInt = 1 := rfl
  have z8 : (30 : Int32).toInt = 30 := rfl
  obtain ⟨v, hv, rfl⟩ := o_ex (a := a) (n := 30 + 1) (by omega) (by omega)
  have hlo : 1 ≤ v := by rw [z0, i_of (by omega)] at w1; omega
  obtain ⟨V2, M2, s, y1, y2, y3, y4, y5⟩ := z_tell t3 (by decide) rfl (by decide) (v := v) ⟨hlo, by omega⟩ (by omega) 0
  rw [y1, gs_b2]
  exact ⟨V2, M2, s, rfl, y2, fin V2 M2 y3 y4 y5⟩
theorem J_row {N : Nat} : lo_row JJ N := by
  intro Ds Df V c M a h
  have h0 := h.m0
  obtain ⟨P, H, b, ⟨-, -, -, -, -, t0, tc, t1, t2, t3, t4⟩, -⟩ := h.m0
  unfold x0_row m_row
  rw [gs_let, isIn_eq]
  generalize gz_up M (1, 0, 0) 0 0 = M1 at *
  have fin : ∀ V2 M2, tdR 0 4 62 63 1 20 6 V2 M2 → (∀ n i, ¬ (n = (27, 0, 4) ∧ i = 1) → ¬ (n.1 = 30 + 4 ∧ n.2.1 = 0) → V2 n i = V n i) → (∀ n i, ¬ (n = (1, 0, 0) ∧ i = 62) → n ≠ (2, 63, 0) → M2 n i = M1 n i) → JJ Ds Df V2 c M2 := fun V2 M2 q hx hm => h0.rows (fun n i q1 q2 => hx n i (fun z => q1 (by rw [z.1]; exact ⟨rfl, rfl⟩)) (fun z => q2 ⟨by omega, by omega, z.2⟩)) (fun n i hn => hm n i (by rintro ⟨rfl, rfl⟩; rcases hn with z | z; exact absurd z.2 (by decide); exact absurd z.1 (by decide)) (by rintro rfl; rcases hn with z | z; exact absurd z.1 (by decide); exact absurd z.2 (by decide))) ⟨t0.ot (by decide) (by decide) (by decide) hx hm (by decide), tc.ot (by decide) (by decide) hx hm, t1.ot (by decide) (by decide) (by decide) hx hm (by decide), t2.ot (by decide) (by decide) (by decide) hx hm (by decide), t3.ot (by decide) (by decide) (by decide) hx hm (by decide), q⟩
  by_cases ha : a = -1
  · rw [if_pos ha, if_pos ha]
    exact ⟨gz_up V (27, 0, 4) 1 0, gz_up M1 (1, 0, 0) 62 0, 0, rfl, rfl, fin _ _ (z_tend t4) (fun n i q1 q2 => by rw [up_at, if_neg q1]) (fun n i q1 q2 => by rw [up_at, if_neg q1])⟩
  rw [if_neg ha, if_neg ha]
  rcases isIn_c (a := a) (b := 1) (c := 20) with w | ⟨w, w1, w2⟩
  · rw [if_pos w, if_pos w]
    exact ⟨V, M1, -1, rfl, rfl, h0⟩
  rw [w, if_neg n10, if_neg n10]
  have z0 : (1 : Int32).toInt = 1 := rfl
  have z8 : (20 : Int32).toInt = 20 := rfl
  obtain ⟨v, hv, rfl⟩ := o_ex (a := a) (n := 20 + 1) (by omega) (by omega)
  have hlo : 1 ≤ v := by rw [z0, i_of (by omega)] at w1; omega
  obtain ⟨V2, M2, s, y1, y2, y3, y4, y5⟩ := z_tell t4 (by decide) rfl (by decide) (v := v) ⟨hlo, by omega⟩ (by omega) 0
  rw [y1, gs_b2]
  exact ⟨V2, M2, s, rfl, y2, fin V2 M2 y3 y4 y5⟩
