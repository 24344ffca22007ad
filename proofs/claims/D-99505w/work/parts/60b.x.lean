/-! MARKET's CONSTRUCTOR. Printed by wip/D-99505w/gen/mkini1.py -/
set_option maxRecDepth 100000
/-- the end of an <init>: the world grew, and is zero elsewhere -/
def gz_FNZ (sh : gz_S) (ad : gz_A0) (sh2 : gz_S) (Rf2 : gz_R) (V2 : gz_V) (rv : Option Value) : gz_Fi := fun sh3 V3 Rf3 ad3 rv3 => gz_FN sh ad sh2 Rf2 V2 rv sh3 V3 Rf3 ad3 rv3 ∧ gz_z sh3 V3 Rf3 ∧ ∀ a, sh a ≠ none → sh3 a ≠ none
/-- the order in which a market's cells are made -/
def mk_st (a : gz_N) : Nat := if a.1 = 21 then 10 else if a.1 = 22 then 20 else if a.1 = 23 then 30 else if a.1 = 24 then 31 else if a.1 = 25 then 40 else if a.1 = 26 then 40 else if a.1 = 27 then 50 + 10 * a.2.2 else if a.1 = 28 then 51 + 10 * a.2.2 else if 30 ≤ a.1 ∧ a.1 ≤ 34 then 51 + 10 * (a.1 - 30) else if a.1 = 90 then 100 + 10 * a.2.2 else if a.1 = 91 then 130 else if a.1 = 40 then 140 + 10 * a.2.2 else if a.1 = 41 then 141 + 10 * a.2.2 else if a.1 = 42 then 260 + 10 * a.2.2 else 0
def mk_I (k j : Nat) (sh0 : gz_S) (ad0 : gz_A0) (sh : gz_S) (V : gz_V) (Rf : gz_R) (ad : gz_A0) : Prop := gz_z sh V Rf ∧ sh (20, k, 0) = some (1, 25) ∧ (∀ a : gz_N, a.2.1 = k → j < mk_st a → sh a = none) ∧ gz_ag sh0 ad0 ad ∧ ∀ a, sh0 a ≠ none → sh a ≠ none
section MKI
variable {k j j2 : Nat} {sh0 sh : gz_S} {ad0 ad ad2 : gz_A0} {V : gz_V} {Rf : gz_R} {nm : gz_N} {t : Nat × Nat}
theorem mk_I.us (h : mk_I k j sh0 ad0 sh V Rf ad) (hs : mk_st nm ≤ j2) (hj : j ≤ j2) (hn : nm.1 ≠ 20) (ha : gz_ag sh ad ad2) : mk_I k j2 sh0 ad0 (gz_us sh nm t) V Rf ad2 :=
  ⟨h.1.us, by rw [gz_us_ne (fun e => hn (by rw [← e]))]; exact h.2.1, fun a h1 h2 => by rw [gz_us_ne (fun e => by rw [e] at h2; omega)]; exact h.2.2.1 a h1 (by omega), h.2.2.2.1.trans h.2.2.2.2 ha, fun a q => gz_us_nn a (h.2.2.2.2 a q)⟩
theorem mk_I.gs {N a b M : Nat} (h : mk_I k j sh0 ad0 sh V Rf ad) (hs : mk_st nm ≤ j2) (hj : j ≤ j2) (hn : nm.1 ≠ 20) (hr : ∀ i, mk_st (a, b, i) ≤ j2) (ha20 : a ≠ 20) (ha : gz_ag sh ad ad2) : mk_I k j2 sh0 ad0 (gz_gs sh nm N a b M) V (gz_gr Rf nm N a b) ad2 :=
  ⟨h.1.gs, by rw [gz_gs_ne (fun e => hn (by rw [← e])) (Ne.symm ha20)]; exact h.2.1, fun x h1 h2 => by
    have q1 : x ≠ nm := fun e => by rw [e] at h2; omega
    have q2 : ¬ (x.1 = a ∧ x.2.1 = b ∧ x.2.2 < N) := fun e => by
      have q := hr x.2.2
      rw [← e.1, ← e.2.1] at q
      have q : mk_st x ≤ j2 := q
      omega
    unfold gz_gs
    rw [if_neg q1, if_neg q2]
    exact h.2.2.1 x h1 (by omega), h.2.2.2.1.trans h.2.2.2.2 ha, fun a q => gz_gs_nn a (h.2.2.2.2 a q)⟩
theorem mk_I.ur {f : Nat} {x : Option gz_N} (h : mk_I k j sh0 ad0 sh V Rf ad) (hn : sh nm ≠ none) : mk_I k j sh0 ad0 sh V (gz_ur Rf nm f x) ad := ⟨h.1.ur hn, h.2⟩
theorem mk_I.mono (h : mk_I k j sh0 ad0 sh V Rf ad) (hj : j ≤ j2) : mk_I k j2 sh0 ad0 sh V Rf ad := ⟨h.1, h.2.1, fun a h1 h2 => h.2.2.1 a h1 (by omega), h.2.2.2⟩
theorem mk_I.this (h : mk_I k j sh0 ad0 sh V Rf ad) (ha : gz_ag sh ad ad2) : ad2 (20, k, 0) = ad (20, k, 0) := ha _ (Or.inl (gz_some_nn h.2.1))
end MKI
/-- j people made -/
def mk_p (k j : Nat) (sh : gz_S) : gz_S := fun a => if a.2.1 = k ∧ a.1 = 40 ∧ a.2.2 < j then some (4, 4) else if a.2.1 = k ∧ a.1 = 41 ∧ a.2.2 < j then some (100, 5) else sh a
def mk_pr (k j : Nat) (Rf : gz_R) : gz_R := fun a => if a = (21, k, 0) then (fun f => if f < j then some (40, k, f) else Rf a f) else if a.2.1 = k ∧ a.1 = 40 ∧ a.2.2 < j then (fun f => if f = 0 then some (41, k, a.2.2) else Rf a f) else Rf a
/-- j horses made -/
def mk_h (k j : Nat) (sh : gz_S) : gz_S := fun a => if a.2.1 = k ∧ a.1 = 42 ∧ a.2.2 < j then some (5, 4) else sh a
def mk_hr (k j : Nat) (Rf : gz_R) : gz_R := fun a => if a = (22, k, 0) then (fun f => if f < j then some (42, k, f) else Rf a f) else Rf a
theorem mk_p_s {k j : Nat} {sh : gz_S} : gz_us (gz_us (mk_p k j sh) (40, k, j) (4, 4)) (41, k, j) (100, 5) = mk_p k (j + 1) sh := by
  funext ⟨a, b, c⟩
  simp only [gz_us, mk_p, Prod.mk.injEq]
  grind
theorem mk_pr_s {k j : Nat} {Rf : gz_R} : gz_ur (gz_ur (mk_pr k j Rf) (40, k, j) 0 (some (41, k, j))) (21, k, 0) j (some (40, k, j)) = mk_pr k (j + 1) Rf := by
  funext ⟨a, b, c⟩ f
  simp only [gz_ur, mk_pr, Prod.mk.injEq]
  grind
theorem mk_h_s {k j : Nat} {sh : gz_S} : gz_us (mk_h k j sh) (42, k, j) (5, 4) = mk_h k (j + 1) sh := by
  funext ⟨a, b, c⟩
  simp only [gz_us, mk_h, Prod.mk.injEq]
  grind
theorem mk_hr_s {k j : Nat} {Rf : gz_R} : gz_ur (mk_hr k j Rf) (22, k, 0) j (some (42, k, j)) = mk_hr k (j + 1) Rf := by
  funext ⟨a, b, c⟩ f
  simp only [gz_ur, mk_hr, Prod.mk.injEq]
  grind
theorem mk_p_0 {k : Nat} {sh : gz_S} : mk_p k 0 sh = sh := by
  funext a
  simp [mk_p]
theorem mk_pr_0 {k : Nat} {Rf : gz_R} : mk_pr k 0 Rf = Rf := by
  funext a f
  simp only [mk_pr]
  grind
theorem mk_h_0 {k : Nat} {sh : gz_S} : mk_h k 0 sh = sh := by
  funext a
  simp [mk_h]
theorem mk_hr_0 {k : Nat} {Rf : gz_R} : mk_hr k 0 Rf = Rf := by
  funext a f
  simp only [mk_hr]
  grind
theorem gz_up_z {V : gz_V} {n : gz_N} {f : Nat} (h : V n = fun _ => 0) : gz_up V n f 0 = V := by
  funext a i
  unfold gz_up upd
  by_cases e : a = n
  · rw [if_pos e, e, h]
    dsimp only
    split <;> rfl
  · rw [if_neg e]
theorem mk_ge : ∀ j, j < 12 → ¬ (12 : Int32) ≤ Int32.ofNat j := by decide
theorem mk_geh : ∀ j, j < 10 → ¬ (10 : Int32) ≤ Int32.ofNat j := by decide
theorem mk_sc : ∀ j, j < 12 → Int32.ofNat j + 1 = Int32.ofNat (j + 1) := by decide
theorem mk_cl : ∀ j, j < 12 → (Int32.ofNat j).toNatClampNeg = j := by decide
theorem mk_in : ∀ j, j < 12 → vp_in (Int32.ofNat j) 12 := (by decide : ∀ j, j < 12 → ¬ (Int32.ofNat j < 0 ∨ 12 ≤ (Int32.ofNat j).toNatClampNeg))
theorem mk_inh : ∀ j, j < 10 → vp_in (Int32.ofNat j) 10 := (by decide : ∀ j, j < 10 → ¬ (Int32.ofNat j < 0 ∨ 10 ≤ (Int32.ofNat j).toNatClampNeg))
def mk_S0 (k : Nat) (sh : gz_S) : gz_S := (gz_us (gz_us (gz_us (gz_us (gz_gs (gz_us (gz_gs (gz_us (gz_gs (gz_us (gz_gs (gz_us (gz_gs (gz_us (gz_gs (gz_us (gz_us (gz_us (gz_us (gz_us sh (21, k, 0) (110, 12)) (22, k, 0) (111, 10)) (23, k, 0) (2, 8)) (24, k, 0) (100, 5)) (24, k, 1) (100, 5)) (25, k, 0) 150 26 k 4) (27, k, 0) (3, 2)) (28, k, 0) 16 (30 + 0) k 2) (27, k, 1) (3, 2)) (28, k, 1) 9 (30 + 1) k 2) (27, k, 2) (3, 2)) (28, k, 2) 5 (30 + 2) k 2) (27, k, 3) (3, 2)) (28, k, 3) 7 (30 + 3) k 2) (27, k, 4) (3, 2)) (28, k, 4) 6 (30 + 4) k 2) (90, k, 0) (18, 3)) (90, k, 1) (18, 3)) (90, k, 2) (18, 3)) (91, k, 0) (100, 12))
def mk_R0 (k : Nat) (Rf : gz_R) : gz_R := (gz_ur (gz_ur (gz_ur (gz_ur (gz_ur (gz_ur (gz_ur (gz_ur (gz_ur (gz_gr (gz_ur (gz_ur (gz_gr (gz_ur (gz_ur (gz_gr (gz_ur (gz_ur (gz_gr (gz_ur (gz_ur (gz_gr (gz_ur (gz_gr (gz_ur (gz_ur (gz_ur (gz_ur (gz_ur Rf (20, k, 0) 0 (some (21, k, 0))) (20, k, 0) 1 (some (22, k, 0))) (23, k, 0) 0 (some (24, k, 0))) (23, k, 0) 1 (some (24, k, 1))) (20, k, 0) 2 (some (23, k, 0))) (25, k, 0) 150 26 k) (20, k, 0) 3 (some (25, k, 0))) (28, k, 0) 16 (30 + 0) k) (27, k, 0) 0 (some (28, k, 0))) (20, k, 0) 4 (some (27, k, 0))) (28, k, 1) 9 (30 + 1) k) (27, k, 1) 0 (some (28, k, 1))) (20, k, 0) 5 (some (27, k, 1))) (28, k, 2) 5 (30 + 2) k) (27, k, 2) 0 (some (28, k, 2))) (20, k, 0) 6 (some (27, k, 2))) (28, k, 3) 7 (30 + 3) k) (27, k, 3) 0 (some (28, k, 3))) (20, k, 0) 7 (some (27, k, 3))) (28, k, 4) 6 (30 + 4) k) (27, k, 4) 0 (some (28, k, 4))) (20, k, 0) 8 (some (27, k, 4))) (90, k, 0) 1 (some (0, 0, 0))) (20, k, 0) 9 (some (90, k, 0))) (90, k, 1) 1 (some (0, 0, 0))) (20, k, 0) 10 (some (90, k, 1))) (90, k, 2) 1 (some (0, 0, 0))) (20, k, 0) 11 (some (90, k, 2))) (20, k, 0) 12 (some (91, k, 0)))
def mk_S (k : Nat) (sh : gz_S) : gz_S := mk_h k 10 (mk_p k 12 (mk_S0 k sh))
def mk_R (k : Nat) (Rf : gz_R) : gz_R := mk_hr k 10 (mk_pr k 12 (mk_R0 k Rf))
def rm_x1_init : Room := { frames := 4, cells := 247, slots := 1098, locals := 72 }
section X1I
variable {X : gz_X} {V : gz_V} {k : Nat} {sh0 S0 : gz_S} {R0 : gz_R} {ad0 : gz_A0}
theorem mk_horses (hX : gz_ok X cX1_init RX1 "<init>" 2 rm_x1_init none) (hE : gz_E X) {Sf : gz_S} {Rff : gz_R} (h5 : gx_F X = gz_FNZ sh0 ad0 Sf Rff V none) (h6 : gx_mc X = 247) (h7 : gx_ms X = 1098) (hS : mk_h k 10 S0 = Sf) (hR : mk_hr k 10 R0 = Rff) (hn22 : S0 (22, k, 0) = some (111, 10)) (hr1 : R0 (20, k, 0) 1 = some (22, k, 0)) : ∀ (d j : Nat) (ad : gz_A0), j + d = 10 → mk_I k (259 + 10 * j) sh0 ad0 (mk_h k j S0) V (mk_hr k j R0) ad → gW X 2 (mk_h k j S0) (mk_hr k j R0) ad V (237 + j) (1058 + 4 * j) 179 [(1, .int (Int32.ofNat j)), (0, .ref (ad (20, k, 0)))] [] := by
  intro d
  induction d with
  | zero =>
    intro j ad hj hI
    have hj : j = 10 := by omega
    subst hj
    refine gz_iload_n (q := 0) hX dX1_init_179 rfl rfl ?_
    refine gz_bipush (v := 10) hX dX1_init_180 (by decide) ?_
    refine gz_icmp_ge hX dX1_init_182 (tgt := 204) rfl (fun _ => ?_) (fun h => absurd (by decide) h)
    refine gn_ret hX hE h5 h6 h7 ⟨⟨hS, rfl, hR, hI.2.2.2.1, rfl⟩, hI.1, hI.2.2.2.2⟩ dX1_init_204
  | succ d ih =>
    intro j ad hj hI
    have hlt : j < 10 := by omega
    refine gz_iload_n (q := 0) hX dX1_init_179 rfl rfl ?_
    refine gz_bipush (v := 10) hX dX1_init_180 (by decide) ?_
    refine gz_icmp_ge hX dX1_init_182 (tgt := 204) rfl (fun h => absurd h (mk_geh j hlt)) (fun _ => ?_)
    refine gz_aload_n (q := 1) hX dX1_init_185 rfl rfl ?_
    refine xg_X1_19 (n2 := (22, k, 0)) hX hI.2.1 (by unfold mk_hr; rw [if_neg (by simp)]; exact hr1) dX1_init_186 ?_
    refine gz_iload_n (q := 0) hX dX1_init_189 rfl rfl ?_
    have g22 : mk_h k j S0 (22, k, 0) = some (111, 10) := by unfold mk_h; rw [if_neg (by simp)]; exact hn22
    refine gn_new (ad := ad) (lvF := fun ad => [(1, .int (Int32.ofNat j)), (0, .ref (ad (20, k, 0)))]) (stF := fun ad => [.int (Int32.ofNat j), .ref (ad (22, k, 0))]) (nm := (42, k, j)) hX (ci := 5) in_X5 tyX5_ok (by decide) rfl q195 q311 q152 (by decide) (by show 237 + j + 1 ≤ 247; omega) (by show 1058 + 4 * j + 4 ≤ 1098; omega) hI.1 (hI.2.2.1 _ rfl (by show 259 + 10 * j < 260 + 10 * j; omega)) (gz_ne0 41 rfl) (fun ad2 ag => by rw [hI.this ag, ag _ (Or.inl (gz_some_nn g22))]; exact ⟨rfl, rfl⟩) dX1_init_190 (fun ad2 ag => ?_)
    have hI2 := hI.us (t := (5, 4)) (nm := (42, k, j)) (j2 := 260 + 10 * j) (Nat.le_refl _) (by omega) (show (42 : Nat) ≠ 20 by decide) ag
    have e22 : gz_us (mk_h k j S0) (42, k, j) (5, 4) (22, k, 0) = some (111, 10) := by rw [gz_us_ne (by simp)]; exact g22
    refine gz_dupa hX dX1_init_193 ?_
    refine gn_callIN (As := []) (n := (42, k, j)) hX c_x5_init (lw_meth q314) q152 q312 q313 rfl rfl rfl (by decide +kernel) (by decide) ⟨by show 237 + j + 1 + 0 ≤ 247; omega, by show 1058 + 4 * j + 4 + 0 ≤ 1098; omega⟩ rfl rfl (Nat.le_of_ble_eq_true rfl) dX1_init_194 ?_
    rintro sh2 V2 Rf2 ad3 rv ⟨rfl, rfl, rfl, rfl, rfl⟩
    refine gz_aast (t := 111) (t0 := 4) (L := 10) (n := (22, k, 0)) (n2 := (42, k, j)) (ci := 5) hX (by decide) (by decide) (fun _ => rfl) e22 (gz_ne0 21 rfl) (by decide) rfl gz_us_eq (Or.inl rfl) (mk_inh j hlt) dX1_init_197 rfl ?_
    rw [mk_cl j (by omega)]
    have hI3 := (hI2.ur (nm := (22, k, 0)) (f := j) (x := some (42, k, j)) (gz_some_nn e22)).mono (j2 := 259 + 10 * (j + 1)) (by omega)
    rw [mk_h_s, mk_hr_s] at hI3
    rw [mk_h_s, mk_hr_s]
    refine gz_iinc (q := 0) hX dX1_init_198 rfl (d := 1) (by decide) (by decide) rfl ?_
    rw [mk_sc j (by omega)]
    refine gz_goto hX dX1_init_201 (tgt := 179) rfl ?_
    exact gz_widen (by omega) (by omega) (ih (j + 1) ad3 (by omega) hI3)

theorem mk_people (hX : gz_ok X cX1_init RX1 "<init>" 2 rm_x1_init none) (hE : gz_E X) {Sf : gz_S} {Rff : gz_R} (h5 : gx_F X = gz_FNZ sh0 ad0 Sf Rff V none) (h6 : gx_mc X = 247) (h7 : gx_ms X = 1098) (hS : mk_h k 10 (mk_p k 12 S0) = Sf) (hR : mk_hr k 10 (mk_pr k 12 R0) = Rff) (hn21 : S0 (21, k, 0) = some (110, 12)) (hn22 : S0 (22, k, 0) = some (111, 10)) (hr0 : R0 (20, k, 0) 0 = some (21, k, 0)) (hr1 : R0 (20, k, 0) 1 = some (22, k, 0)) : ∀ (d j : Nat) (ad : gz_A0), j + d = 12 → mk_I k (139 + 10 * j) sh0 ad0 (mk_p k j S0) V (mk_pr k j R0) ad → gW X 2 (mk_p k j S0) (mk_pr k j R0) ad V (213 + 2 * j) (950 + 9 * j) 152 [(1, .int (Int32.ofNat j)), (0, .ref (ad (20, k, 0)))] [] := by
  intro d
  induction d with
  | zero =>
    intro j ad hj hI
    have hj : j = 12 := by omega
    subst hj
    refine gz_iload_n (q := 0) hX dX1_init_152 rfl rfl ?_
    refine gz_bipush (v := 12) hX dX1_init_153 (by decide) ?_
    refine gz_icmp_ge hX dX1_init_155 (tgt := 177) rfl (fun _ => ?_) (fun h => absurd (by decide) h)
    refine gz_iconst (v := 0) hX dX1_init_177 (by decide) ?_
    refine gz_istore_n (i := 1) hX dX1_init_178 rfl (by decide) rfl ?_
    have h := mk_horses (S0 := mk_p k 12 S0) (R0 := mk_pr k 12 R0) hX hE h5 h6 h7 hS hR (by unfold mk_p; rw [if_neg (by simp), if_neg (by simp)]; exact hn22) (by unfold mk_pr; rw [if_neg (by simp), if_neg (by simp)]; exact hr1) 10 0 ad rfl (by rw [mk_h_0, mk_hr_0]; exact hI.mono (by omega))
    rw [mk_h_0, mk_hr_0] at h
    exact h
  | succ d ih =>
    intro j ad hj hI
    have hlt : j < 12 := by omega
    refine gz_iload_n (q := 0) hX dX1_init_152 rfl rfl ?_
    refine gz_bipush (v := 12) hX dX1_init_153 (by decide) ?_
    refine gz_icmp_ge hX dX1_init_155 (tgt := 177) rfl (fun h => absurd h (mk_ge j hlt)) (fun _ => ?_)
    refine gz_aload_n (q := 1) hX dX1_init_158 rfl rfl ?_
    refine xg_X1_11 (n2 := (21, k, 0)) hX hI.2.1 (by unfold mk_pr; rw [if_neg (by simp), if_neg (by simp)]; exact hr0) dX1_init_159 ?_
    refine gz_iload_n (q := 0) hX dX1_init_162 rfl rfl ?_
    have g21 : mk_p k j S0 (21, k, 0) = some (110, 12) := by unfold mk_p; rw [if_neg (by simp), if_neg (by simp)]; exact hn21
    refine gn_new (ad := ad) (lvF := fun ad => [(1, .int (Int32.ofNat j)), (0, .ref (ad (20, k, 0)))]) (stF := fun ad => [.int (Int32.ofNat j), .ref (ad (21, k, 0))]) (nm := (40, k, j)) hX (ci := 4) in_X4 tyX4_ok (by decide) rfl q193 q282 q151 (by decide) (by show 213 + 2 * j + 1 ≤ 247; omega) (by show 950 + 9 * j + 4 ≤ 1098; omega) hI.1 (hI.2.2.1 _ rfl (by show 139 + 10 * j < 140 + 10 * j; omega)) (gz_ne0 39 rfl) (fun ad2 ag => by rw [hI.this ag, ag _ (Or.inl (gz_some_nn g21))]; exact ⟨rfl, rfl⟩) dX1_init_163 (fun ad2 ag => ?_)
    have hI2 := hI.us (t := (4, 4)) (nm := (40, k, j)) (j2 := 140 + 10 * j) (Nat.le_refl _) (by omega) (show (40 : Nat) ≠ 20 by decide) ag
    have e21 : gz_us (mk_p k j S0) (40, k, j) (4, 4) (21, k, 0) = some (110, 12) := by rw [gz_us_ne (by simp)]; exact g21
    refine gz_dupa hX dX1_init_166 ?_
    refine gn_callIN (As := []) (n := (40, k, j)) hX (c_x4_init hI2.1 gz_us_eq (hI2.2.2.1 _ rfl (by show 140 + 10 * j < 141 + 10 * j; omega))) (lw_meth q285) q151 q283 q284 rfl rfl rfl (by decide +kernel) (by decide) ⟨by show 213 + 2 * j + 1 + 1 ≤ 247; omega, by show 950 + 9 * j + 4 + 5 ≤ 1098; omega⟩ rfl rfl (Nat.le_of_ble_eq_true rfl) dX1_init_167 ?_
    rintro sh2 V2 Rf2 ad3 rv ⟨rfl, rfl, rfl, ag3, rfl⟩
    have hI3 := (hI2.us (t := (100, 5)) (nm := (41, k, j)) (j2 := 141 + 10 * j) (Nat.le_refl _) (by omega) (show (41 : Nat) ≠ 20 by decide) ag3).ur (nm := (40, k, j)) (f := 0) (x := some (41, k, j)) (by rw [gz_us_ne (by simp)]; exact gz_some_nn gz_us_eq)
    have f21 : gz_us (gz_us (mk_p k j S0) (40, k, j) (4, 4)) (41, k, j) (100, 5) (21, k, 0) = some (110, 12) := by rw [gz_us_ne (by simp)]; exact e21
    rw [← hI2.this ag3, ← ag3 _ (Or.inl (gz_some_nn e21)), ← ag3 (40, k, j) (Or.inl (gz_some_nn gz_us_eq))]
    refine gz_aast (t := 110) (t0 := 3) (L := 12) (n := (21, k, 0)) (n2 := (40, k, j)) (ci := 4) hX (by decide) (by decide) (fun _ => rfl) f21 (gz_ne0 20 rfl) (by decide) rfl (by rw [gz_us_ne (by simp)]; exact gz_us_eq) (Or.inl rfl) (mk_in j hlt) dX1_init_170 rfl ?_
    rw [mk_cl j (by omega)]
    have hI4 := (hI3.ur (nm := (21, k, 0)) (f := j) (x := some (40, k, j)) (gz_some_nn f21)).mono (j2 := 139 + 10 * (j + 1)) (by omega)
    rw [mk_p_s, mk_pr_s] at hI4
    rw [mk_p_s, mk_pr_s]
    refine gz_iinc (q := 0) hX dX1_init_171 rfl (d := 1) (by decide) (by decide) rfl ?_
    rw [mk_sc j (by omega)]
    refine gz_goto hX dX1_init_174 (tgt := 152) rfl ?_
    exact gz_widen (by omega) (by omega) (ih (j + 1) ad3 (by omega) hI4)
end X1I
theorem mk_S0_21 {k : Nat} {sh : gz_S} : mk_S0 k sh (21, k, 0) = some (110, 12) := by simp [mk_S0, gz_us, gz_gs]
theorem mk_S0_22 {k : Nat} {sh : gz_S} : mk_S0 k sh (22, k, 0) = some (111, 10) := by simp [mk_S0, gz_us, gz_gs]
theorem mk_R0_0 {k : Nat} {Rf : gz_R} : mk_R0 k Rf (20, k, 0) 0 = some (21, k, 0) := by simp [mk_R0, gz_ur, gz_gr]
theorem mk_R0_1 {k : Nat} {Rf : gz_R} : mk_R0 k Rf (20, k, 0) 1 = some (22, k, 0) := by simp [mk_R0, gz_ur, gz_gr]
theorem c_x1_init {l : Launch} {D : va_G} {aC : Nat → ClassId} {ad : gz_A0} {sh : gz_S} {V : gz_V} {Rf : gz_R} {k : Nat} (hz : gz_z sh V Rf) (hs : sh (20, k, 0) = some (1, 25)) (hfr : ∀ a : gz_N, a.2.1 = k → 0 < mk_st a → sh a = none) : gz_Met l yX1_init cX1_init 2 none rm_x1_init D aC ad sh V Rf [.ref (ad (20, k, 0))] (gz_FNZ sh ad (mk_S k sh) (mk_R k Rf) V none) 247 1098 := by
  refine gz_ofW (own := RX1) (mn := "<init>") (lv := [(0, .ref (ad (20, k, 0)))]) (by decide) rfl rfl (Nat.le_of_ble_eq_true rfl) rfl ?_
  intro X hX _ _ _ h5 h6 h7 hE
  have i0 : mk_I k 0 sh ad sh V Rf ad := ⟨hz, hs, hfr, gz_ag.rf, fun _ h => h⟩
  refine gz_aload_n (q := 0) hX dX1_init_0 rfl rfl ?_
  refine gn_obj0 hX q192 (by decide) dX1_init_1 ?_
  refine gz_aload_n (q := 0) hX dX1_init_4 rfl rfl ?_
  refine gz_bipush (v := 12) hX dX1_init_5 (by decide) ?_
  refine gn_anew (ad := ad) (lvF := fun ad => [(0, .ref (ad (20, k, 0)))]) (stF := fun ad => [.ref (ad (20, k, 0))]) (nm := (21, k, 0)) (L := 12) (t := 110) (t0 := 3) hX q193 (by unfold gzOv; decide) (fun _ => rfl) (by decide) (by decide) (by decide) (by decide) (by decide) (by decide) (by decide) i0.1 (i0.2.2.1 _ rfl (by simp [mk_st])) (gz_ne0 20 rfl) (fun ad2 ag => by rw [i0.this ag]; exact ⟨rfl, rfl⟩) dX1_init_7 (fun ad1 ag1 => ?_)
  have i1 := i0.us (t := (110, 12)) (nm := (21, k, 0)) (j2 := 10) (by simp [mk_st]) (by decide) (show (21 : Nat) ≠ 20 by decide) ag1
  refine gn_putR (ci := 1) hX in_X1 (gz_apart hX in_X1 tyX1 tyX1_ok nmX1 rfl) (by decide) rfl i1.2.1 (gz_ne0 19 rfl) 0 (by decide) q337 rfl rfl rfl (tyX1_ok 0 (by decide)) rfl rfl (gz_some_nn gz_us_eq) dX1_init_10 ?_
  have i2 := i1.ur (nm := (20, k, 0)) (f := 0) (x := some (21, k, 0)) (gz_some_nn i1.2.1)
  refine gz_aload_n (q := 0) hX dX1_init_13 rfl rfl ?_
  refine gz_bipush (v := 10) hX dX1_init_14 (by decide) ?_
  refine gn_anew (ad := ad1) (lvF := fun ad => [(0, .ref (ad (20, k, 0)))]) (stF := fun ad => [.ref (ad (20, k, 0))]) (nm := (22, k, 0)) (L := 10) (t := 111) (t0 := 4) hX q195 (by unfold gzOv; decide) (fun _ => rfl) (by decide) (by decide) (by decide) (by decide) (by decide) (by decide) (by decide) i2.1 (i2.2.2.1 _ rfl (by simp [mk_st])) (gz_ne0 21 rfl) (fun ad2 ag => by rw [i2.this ag]; exact ⟨rfl, rfl⟩) dX1_init_16 (fun ad2 ag2 => ?_)
  have i3 := i2.us (t := (111, 10)) (nm := (22, k, 0)) (j2 := 20) (by simp [mk_st]) (by decide) (show (22 : Nat) ≠ 20 by decide) ag2
  refine gn_putR (ci := 1) hX in_X1 (gz_apart hX in_X1 tyX1 tyX1_ok nmX1 rfl) (by decide) rfl i3.2.1 (gz_ne0 19 rfl) 1 (by decide) q339 rfl rfl rfl (tyX1_ok 1 (by decide)) rfl rfl (gz_some_nn gz_us_eq) dX1_init_19 ?_
  have i4 := i3.ur (nm := (20, k, 0)) (f := 1) (x := some (22, k, 0)) (gz_some_nn i3.2.1)
  refine gz_aload_n (q := 0) hX dX1_init_22 rfl rfl ?_
  refine gn_new (ad := ad2) (lvF := fun ad => [(0, .ref (ad (20, k, 0)))]) (stF := fun ad => [.ref (ad (20, k, 0))]) (nm := (23, k, 0)) hX (ci := 2) in_X2 tyX2_ok (by decide) rfl q197 q198 q146 (by decide) (by decide) (by decide) i4.1 (i4.2.2.1 _ rfl (by simp [mk_st])) (gz_ne0 22 rfl) (fun ad2 ag => by rw [i4.this ag]; exact ⟨rfl, rfl⟩) dX1_init_23 (fun ad3 ag3 => ?_)
  have i5 := i4.us (t := (2, 8)) (nm := (23, k, 0)) (j2 := 30) (by simp [mk_st]) (by decide) (show (23 : Nat) ≠ 20 by decide) ag3
  refine gz_dupa hX dX1_init_26 ?_
  refine gn_callIN (As := []) (n := (23, k, 0)) hX (c_x2_init i5.1 gz_us_eq (i5.2.2.1 _ rfl (by simp [mk_st])) (i5.2.2.1 _ rfl (by simp [mk_st]))) (lw_meth q201) q146 q199 q200 rfl rfl rfl (by decide +kernel) (by decide) (by decide) rfl rfl (Nat.le_of_ble_eq_true rfl) dX1_init_27 ?_
  rintro sh2 V2 Rf2 ad4 rv ⟨rfl, rfl, rfl, ag4, rfl⟩
  rw [← i5.this ag4, ← ag4 (23, k, 0) (Or.inl (gz_some_nn gz_us_eq))]
  have i7a := (i5.us (t := (100, 5)) (nm := (24, k, 0)) (j2 := 31) (by simp [mk_st]) (by decide) (show (24 : Nat) ≠ 20 by decide) ag4).us (t := (100, 5)) (nm := (24, k, 1)) (j2 := 31) (by simp [mk_st]) (by decide) (show (24 : Nat) ≠ 20 by decide) gz_ag.rf
  have i7 := (i7a.ur (nm := (23, k, 0)) (f := 0) (x := some (24, k, 0)) (by rw [gz_us_ne (by simp), gz_us_ne (by simp)]; exact gz_some_nn gz_us_eq)).ur (nm := (23, k, 0)) (f := 1) (x := some (24, k, 1)) (by rw [gz_us_ne (by simp), gz_us_ne (by simp)]; exact gz_some_nn gz_us_eq)
  refine gn_putR (ci := 1) hX in_X1 (gz_apart hX in_X1 tyX1 tyX1_ok nmX1 rfl) (by decide) rfl i7.2.1 (gz_ne0 19 rfl) 2 (by decide) q341 rfl rfl rfl (tyX1_ok 2 (by decide)) rfl rfl (by rw [gz_us_ne (by simp), gz_us_ne (by simp)]; exact gz_some_nn gz_us_eq) dX1_init_30 ?_
  have i8 := i7.ur (nm := (20, k, 0)) (f := 2) (x := some (23, k, 0)) (gz_some_nn i7.2.1)
  refine gz_aload_n (q := 0) hX dX1_init_33 rfl rfl ?_
  refine gz_sipush (v := 150) hX dX1_init_34 (by decide) ?_
  refine gz_iconst (v := 4) hX dX1_init_37 (by decide) ?_
  refine gn_grid (ad := ad4) (lvF := fun ad => [(0, .ref (ad (20, k, 0)))]) (stF := fun ad => [.ref (ad (20, k, 0))]) (nm := (25, k, 0)) (N := 150) (M := 4) (a := 26) (b := k) hX q238 q237 (by decide) (by decide) (by decide) (by decide) (by decide) (by decide) (by decide) (by decide) i8.1 (i8.2.2.1 _ rfl (by simp [mk_st])) (gz_ne0 24 rfl) (by decide) (show (25 : Nat) ≠ 26 by decide) (fun j _ => (i8.2.2.1 _ rfl (by simp [mk_st]))) (fun ad2 ag => by rw [i8.this ag]; exact ⟨rfl, rfl⟩) dX1_init_38 (fun ad5 ag5 => ?_)
  have i9 := i8.gs (N := 150) (M := 4) (a := 26) (b := k) (nm := (25, k, 0)) (j2 := 40) (by simp [mk_st]) (by decide) (show (25 : Nat) ≠ 20 by decide) (fun i => by simp [mk_st]) (by decide) ag5
  refine gn_putR (ci := 1) hX in_X1 (gz_apart hX in_X1 tyX1 tyX1_ok nmX1 rfl) (by decide) rfl i9.2.1 (gz_ne0 19 rfl) 3 (by decide) q343 rfl rfl rfl (tyX1_ok 3 (by decide)) rfl rfl (gz_some_nn gz_gs_eq) dX1_init_42 ?_
  have i10 := i9.ur (nm := (20, k, 0)) (f := 3) (x := some (25, k, 0)) (gz_some_nn i9.2.1)
  refine gz_aload_n (q := 0) hX dX1_init_45 rfl rfl ?_
  refine gn_new (ad := ad5) (lvF := fun ad => [(0, .ref (ad (20, k, 0)))]) (stF := fun ad => [.ref (ad (20, k, 0))]) (nm := (27, k, 0)) hX (ci := 3) in_X3 tyX3_ok (by decide) rfl q240 q241 q147 (by decide) (by decide) (by decide) i10.1 (i10.2.2.1 _ rfl (by simp [mk_st])) (gz_ne0 26 rfl) (fun ad2 ag => by rw [i10.this ag]; exact ⟨rfl, rfl⟩) dX1_init_46 (fun ad6 ag6 => ?_)
  have i11 := i10.us (t := (3, 2)) (nm := (27, k, 0)) (j2 := 50) (by simp [mk_st]) (by decide) (show (27 : Nat) ≠ 20 by decide) ag6
  refine gz_dupa hX dX1_init_49 ?_
  refine gz_bipush (v := 16) hX dX1_init_50 (by decide) ?_
  refine gn_callI (As := [.int 16]) (n := (27, k, 0)) hX (c_x3_init (r := 0) (N := 16) (n := 16) (by decide) (by decide) (by decide) i11.1 gz_us_eq (i11.2.2.1 _ rfl (by simp [mk_st])) (fun j _ => (i11.2.2.1 _ rfl (by simp [mk_st])))) (lw_meth q244) q147 q242 q243 rfl rfl rfl (by decide +kernel) (by decide) (by decide) rfl rfl (Nat.le_of_ble_eq_true rfl) dX1_init_52 ?_
  rintro sh2 V2 Rf2 ad7 rv ⟨rfl, rfl, rfl, ag7, rfl⟩
  rw [← i11.this ag7, ← ag7 (27, k, 0) (Or.inl (gz_some_nn gz_us_eq))]
  have i13 := (i11.gs (N := 16) (M := 2) (a := 30 + 0) (b := k) (nm := (28, k, 0)) (j2 := 51) (by simp [mk_st]) (by decide) (show (28 : Nat) ≠ 20 by decide) (fun i => by simp [mk_st]) (by decide) ag7).ur (nm := (27, k, 0)) (f := 0) (x := some (28, k, 0)) (by rw [gz_gs_ne (by simp) (by simp)]; exact gz_some_nn gz_us_eq)
  refine gn_putR (ci := 1) hX in_X1 (gz_apart hX in_X1 tyX1 tyX1_ok nmX1 rfl) (by decide) rfl i13.2.1 (gz_ne0 19 rfl) 4 (by decide) q345 rfl rfl rfl (tyX1_ok 4 (by decide)) rfl rfl (by rw [gz_gs_ne (by simp) (by simp)]; exact gz_some_nn gz_us_eq) dX1_init_55 ?_
  have i14 := i13.ur (nm := (20, k, 0)) (f := 4) (x := some (27, k, 0)) (gz_some_nn i13.2.1)
  refine gz_aload_n (q := 0) hX dX1_init_58 rfl rfl ?_
  refine gn_new (ad := ad7) (lvF := fun ad => [(0, .ref (ad (20, k, 0)))]) (stF := fun ad => [.ref (ad (20, k, 0))]) (nm := (27, k, 1)) hX (ci := 3) in_X3 tyX3_ok (by decide) rfl q240 q241 q147 (by decide) (by decide) (by decide) i14.1 (i14.2.2.1 _ rfl (by simp [mk_st])) (gz_ne0 26 rfl) (fun ad2 ag => by rw [i14.this ag]; exact ⟨rfl, rfl⟩) dX1_init_59 (fun ad8 ag8 => ?_)
  have i15 := i14.us (t := (3, 2)) (nm := (27, k, 1)) (j2 := 60) (by simp [mk_st]) (by decide) (show (27 : Nat) ≠ 20 by decide) ag8
  refine gz_dupa hX dX1_init_62 ?_
  refine gz_bipush (v := 9) hX dX1_init_63 (by decide) ?_
  refine gn_callI (As := [.int 9]) (n := (27, k, 1)) hX (c_x3_init (r := 1) (N := 9) (n := 9) (by decide) (by decide) (by decide) i15.1 gz_us_eq (i15.2.2.1 _ rfl (by simp [mk_st])) (fun j _ => (i15.2.2.1 _ rfl (by simp [mk_st])))) (lw_meth q244) q147 q242 q243 rfl rfl rfl (by decide +kernel) (by decide) (by decide) rfl rfl (Nat.le_of_ble_eq_true rfl) dX1_init_65 ?_
  rintro sh2 V2 Rf2 ad9 rv ⟨rfl, rfl, rfl, ag9, rfl⟩
  rw [← i15.this ag9, ← ag9 (27, k, 1) (Or.inl (gz_some_nn gz_us_eq))]
  have i17 := (i15.gs (N := 9) (M := 2) (a := 30 + 1) (b := k) (nm := (28, k, 1)) (j2 := 61) (by simp [mk_st]) (by decide) (show (28 : Nat) ≠ 20 by decide) (fun i => by simp [mk_st]) (by decide) ag9).ur (nm := (27, k, 1)) (f := 0) (x := some (28, k, 1)) (by rw [gz_gs_ne (by simp) (by simp)]; exact gz_some_nn gz_us_eq)
  refine gn_putR (ci := 1) hX in_X1 (gz_apart hX in_X1 tyX1 tyX1_ok nmX1 rfl) (by decide) rfl i17.2.1 (gz_ne0 19 rfl) 5 (by decide) q347 rfl rfl rfl (tyX1_ok 5 (by decide)) rfl rfl (by rw [gz_gs_ne (by simp) (by simp)]; exact gz_some_nn gz_us_eq) dX1_init_68 ?_
  have i18 := i17.ur (nm := (20, k, 0)) (f := 5) (x := some (27, k, 1)) (gz_some_nn i17.2.1)
  refine gz_aload_n (q := 0) hX dX1_init_71 rfl rfl ?_
  refine gn_new (ad := ad9) (lvF := fun ad => [(0, .ref (ad (20, k, 0)))]) (stF := fun ad => [.ref (ad (20, k, 0))]) (nm := (27, k, 2)) hX (ci := 3) in_X3 tyX3_ok (by decide) rfl q240 q241 q147 (by decide) (by decide) (by decide) i18.1 (i18.2.2.1 _ rfl (by simp [mk_st])) (gz_ne0 26 rfl) (fun ad2 ag => by rw [i18.this ag]; exact ⟨rfl, rfl⟩) dX1_init_72 (fun ad10 ag10 => ?_)
  have i19 := i18.us (t := (3, 2)) (nm := (27, k, 2)) (j2 := 70) (by simp [mk_st]) (by decide) (show (27 : Nat) ≠ 20 by decide) ag10
  refine gz_dupa hX dX1_init_75 ?_
  refine gz_iconst (v := 5) hX dX1_init_76 (by decide) ?_
  refine gn_callI (As := [.int 5]) (n := (27, k, 2)) hX (c_x3_init (r := 2) (N := 5) (n := 5) (by decide) (by decide) (by decide) i19.1 gz_us_eq (i19.2.2.1 _ rfl (by simp [mk_st])) (fun j _ => (i19.2.2.1 _ rfl (by simp [mk_st])))) (lw_meth q244) q147 q242 q243 rfl rfl rfl (by decide +kernel) (by decide) (by decide) rfl rfl (Nat.le_of_ble_eq_true rfl) dX1_init_77 ?_
  rintro sh2 V2 Rf2 ad11 rv ⟨rfl, rfl, rfl, ag11, rfl⟩
  rw [← i19.this ag11, ← ag11 (27, k, 2) (Or.inl (gz_some_nn gz_us_eq))]
  have i21 := (i19.gs (N := 5) (M := 2) (a := 30 + 2) (b := k) (nm := (28, k, 2)) (j2 := 71) (by simp [mk_st]) (by decide) (show (28 : Nat) ≠ 20 by decide) (fun i => by simp [mk_st]) (by decide) ag11).ur (nm := (27, k, 2)) (f := 0) (x := some (28, k, 2)) (by rw [gz_gs_ne (by simp) (by simp)]; exact gz_some_nn gz_us_eq)
  refine gn_putR (ci := 1) hX in_X1 (gz_apart hX in_X1 tyX1 tyX1_ok nmX1 rfl) (by decide) rfl i21.2.1 (gz_ne0 19 rfl) 6 (by decide) q349 rfl rfl rfl (tyX1_ok 6 (by decide)) rfl rfl (by rw [gz_gs_ne (by simp) (by simp)]; exact gz_some_nn gz_us_eq) dX1_init_80 ?_
  have i22 := i21.ur (nm := (20, k, 0)) (f := 6) (x := some (27, k, 2)) (gz_some_nn i21.2.1)
  refine gz_aload_n (q := 0) hX dX1_init_83 rfl rfl ?_
  refine gn_new (ad := ad11) (lvF := fun ad => [(0, .ref (ad (20, k, 0)))]) (stF := fun ad => [.ref (ad (20, k, 0))]) (nm := (27, k, 3)) hX (ci := 3) in_X3 tyX3_ok (by decide) rfl q240 q241 q147 (by decide) (by decide) (by decide) i22.1 (i22.2.2.1 _ rfl (by simp [mk_st])) (gz_ne0 26 rfl) (fun ad2 ag => by rw [i22.this ag]; exact ⟨rfl, rfl⟩) dX1_init_84 (fun ad12 ag12 => ?_)
  have i23 := i22.us (t := (3, 2)) (nm := (27, k, 3)) (j2 := 80) (by simp [mk_st]) (by decide) (show (27 : Nat) ≠ 20 by decide) ag12
  refine gz_dupa hX dX1_init_87 ?_
  refine gz_bipush (v := 7) hX dX1_init_88 (by decide) ?_
  refine gn_callI (As := [.int 7]) (n := (27, k, 3)) hX (c_x3_init (r := 3) (N := 7) (n := 7) (by decide) (by decide) (by decide) i23.1 gz_us_eq (i23.2.2.1 _ rfl (by simp [mk_st])) (fun j _ => (i23.2.2.1 _ rfl (by simp [mk_st])))) (lw_meth q244) q147 q242 q243 rfl rfl rfl (by decide +kernel) (by decide) (by decide) rfl rfl (Nat.le_of_ble_eq_true rfl) dX1_init_90 ?_
  rintro sh2 V2 Rf2 ad13 rv ⟨rfl, rfl, rfl, ag13, rfl⟩
  rw [← i23.this ag13, ← ag13 (27, k, 3) (Or.inl (gz_some_nn gz_us_eq))]
  have i25 := (i23.gs (N := 7) (M := 2) (a := 30 + 3) (b := k) (nm := (28, k, 3)) (j2 := 81) (by simp [mk_st]) (by decide) (show (28 : Nat) ≠ 20 by decide) (fun i => by simp [mk_st]) (by decide) ag13).ur (nm := (27, k, 3)) (f := 0) (x := some (28, k, 3)) (by rw [gz_gs_ne (by simp) (by simp)]; exact gz_some_nn gz_us_eq)
  refine gn_putR (ci := 1) hX in_X1 (gz_apart hX in_X1 tyX1 tyX1_ok nmX1 rfl) (by decide) rfl i25.2.1 (gz_ne0 19 rfl) 7 (by decide) q351 rfl rfl rfl (tyX1_ok 7 (by decide)) rfl rfl (by rw [gz_gs_ne (by simp) (by simp)]; exact gz_some_nn gz_us_eq) dX1_init_93 ?_
  have i26 := i25.ur (nm := (20, k, 0)) (f := 7) (x := some (27, k, 3)) (gz_some_nn i25.2.1)
  refine gz_aload_n (q := 0) hX dX1_init_96 rfl rfl ?_
  refine gn_new (ad := ad13) (lvF := fun ad => [(0, .ref (ad (20, k, 0)))]) (stF := fun ad => [.ref (ad (20, k, 0))]) (nm := (27, k, 4)) hX (ci := 3) in_X3 tyX3_ok (by decide) rfl q240 q241 q147 (by decide) (by decide) (by decide) i26.1 (i26.2.2.1 _ rfl (by simp [mk_st])) (gz_ne0 26 rfl) (fun ad2 ag => by rw [i26.this ag]; exact ⟨rfl, rfl⟩) dX1_init_97 (fun ad14 ag14 => ?_)
  have i27 := i26.us (t := (3, 2)) (nm := (27, k, 4)) (j2 := 90) (by simp [mk_st]) (by decide) (show (27 : Nat) ≠ 20 by decide) ag14
  refine gz_dupa hX dX1_init_100 ?_
  refine gz_bipush (v := 6) hX dX1_init_101 (by decide) ?_
  refine gn_callI (As := [.int 6]) (n := (27, k, 4)) hX (c_x3_init (r := 4) (N := 6) (n := 6) (by decide) (by decide) (by decide) i27.1 gz_us_eq (i27.2.2.1 _ rfl (by simp [mk_st])) (fun j _ => (i27.2.2.1 _ rfl (by simp [mk_st])))) (lw_meth q244) q147 q242 q243 rfl rfl rfl (by decide +kernel) (by decide) (by decide) rfl rfl (Nat.le_of_ble_eq_true rfl) dX1_init_103 ?_
  rintro sh2 V2 Rf2 ad15 rv ⟨rfl, rfl, rfl, ag15, rfl⟩
  rw [← i27.this ag15, ← ag15 (27, k, 4) (Or.inl (gz_some_nn gz_us_eq))]
  have i29 := (i27.gs (N := 6) (M := 2) (a := 30 + 4) (b := k) (nm := (28, k, 4)) (j2 := 91) (by simp [mk_st]) (by decide) (show (28 : Nat) ≠ 20 by decide) (fun i => by simp [mk_st]) (by decide) ag15).ur (nm := (27, k, 4)) (f := 0) (x := some (28, k, 4)) (by rw [gz_gs_ne (by simp) (by simp)]; exact gz_some_nn gz_us_eq)
  refine gn_putR (ci := 1) hX in_X1 (gz_apart hX in_X1 tyX1 tyX1_ok nmX1 rfl) (by decide) rfl i29.2.1 (gz_ne0 19 rfl) 8 (by decide) q353 rfl rfl rfl (tyX1_ok 8 (by decide)) rfl rfl (by rw [gz_gs_ne (by simp) (by simp)]; exact gz_some_nn gz_us_eq) dX1_init_106 ?_
  have i30 := i29.ur (nm := (20, k, 0)) (f := 8) (x := some (27, k, 4)) (gz_some_nn i29.2.1)
  refine gz_aload_n (q := 0) hX dX1_init_109 rfl rfl ?_
  have v0 := (i30.1 (90, k, 0) (i30.2.2.1 _ rfl (by simp [mk_st]))).1
  refine gn_new (ad := ad15) (lvF := fun ad => [(0, .ref (ad (20, k, 0)))]) (stF := fun ad => [.ref (ad (20, k, 0))]) (nm := (90, k, 0)) hX (ci := 18) in_J2 tyJ2_ok (by decide) rfl q256 q257 q150 (by decide) (by decide) (by decide) i30.1 (i30.2.2.1 _ rfl (by simp [mk_st])) (gz_ne0 89 rfl) (fun ad2 ag => by rw [i30.this ag]; exact ⟨rfl, rfl⟩) dX1_init_110 (fun ad16 ag16 => ?_)
  have i31 := i30.us (t := (18, 3)) (nm := (90, k, 0)) (j2 := 100) (by simp [mk_st]) (by decide) (show (90 : Nat) ≠ 20 by decide) ag16
  refine gz_dupa hX dX1_init_113 ?_
  refine gn_callI (As := []) (n := (90, k, 0)) hX (c_j2_init gz_us_eq (gz_ne0 89 rfl)) (lw_meth q260) q150 q258 q259 rfl rfl rfl (by decide +kernel) (by decide) (by decide) rfl rfl (Nat.le_of_ble_eq_true rfl) dX1_init_114 ?_
  rintro sh2 V2 Rf2 ad17 rv ⟨rfl, rfl, rfl, rfl, rfl⟩
  rw [gz_up_z v0]
  have i33 := i31.ur (nm := (90, k, 0)) (f := 1) (x := some (0, 0, 0)) (gz_some_nn gz_us_eq)
  refine xp_X1_59 hX i33.2.1 (gz_ne0 19 rfl) (Or.inl (gz_some_nn gz_us_eq)) dX1_init_117 rfl ?_
  have i34 := i33.ur (nm := (20, k, 0)) (f := 9) (x := some (90, k, 0)) (gz_some_nn i33.2.1)
  refine gz_aload_n (q := 0) hX dX1_init_120 rfl rfl ?_
  have v1 := (i34.1 (90, k, 1) (i34.2.2.1 _ rfl (by simp [mk_st]))).1
  refine gn_new (ad := ad17) (lvF := fun ad => [(0, .ref (ad (20, k, 0)))]) (stF := fun ad => [.ref (ad (20, k, 0))]) (nm := (90, k, 1)) hX (ci := 18) in_J2 tyJ2_ok (by decide) rfl q256 q257 q150 (by decide) (by decide) (by decide) i34.1 (i34.2.2.1 _ rfl (by simp [mk_st])) (gz_ne0 89 rfl) (fun ad2 ag => by rw [i34.this ag]; exact ⟨rfl, rfl⟩) dX1_init_121 (fun ad18 ag18 => ?_)
  have i35 := i34.us (t := (18, 3)) (nm := (90, k, 1)) (j2 := 110) (by simp [mk_st]) (by decide) (show (90 : Nat) ≠ 20 by decide) ag18
  refine gz_dupa hX dX1_init_124 ?_
  refine gn_callI (As := []) (n := (90, k, 1)) hX (c_j2_init gz_us_eq (gz_ne0 89 rfl)) (lw_meth q260) q150 q258 q259 rfl rfl rfl (by decide +kernel) (by decide) (by decide) rfl rfl (Nat.le_of_ble_eq_true rfl) dX1_init_125 ?_
  rintro sh2 V2 Rf2 ad19 rv ⟨rfl, rfl, rfl, rfl, rfl⟩
  rw [gz_up_z v1]
  have i37 := i35.ur (nm := (90, k, 1)) (f := 1) (x := some (0, 0, 0)) (gz_some_nn gz_us_eq)
  refine xp_X1_63 hX i37.2.1 (gz_ne0 19 rfl) (Or.inl (gz_some_nn gz_us_eq)) dX1_init_128 rfl ?_
  have i38 := i37.ur (nm := (20, k, 0)) (f := 10) (x := some (90, k, 1)) (gz_some_nn i37.2.1)
  refine gz_aload_n (q := 0) hX dX1_init_131 rfl rfl ?_
  have v2 := (i38.1 (90, k, 2) (i38.2.2.1 _ rfl (by simp [mk_st]))).1
  refine gn_new (ad := ad19) (lvF := fun ad => [(0, .ref (ad (20, k, 0)))]) (stF := fun ad => [.ref (ad (20, k, 0))]) (nm := (90, k, 2)) hX (ci := 18) in_J2 tyJ2_ok (by decide) rfl q256 q257 q150 (by decide) (by decide) (by decide) i38.1 (i38.2.2.1 _ rfl (by simp [mk_st])) (gz_ne0 89 rfl) (fun ad2 ag => by rw [i38.this ag]; exact ⟨rfl, rfl⟩) dX1_init_132 (fun ad20 ag20 => ?_)
  have i39 := i38.us (t := (18, 3)) (nm := (90, k, 2)) (j2 := 120) (by simp [mk_st]) (by decide) (show (90 : Nat) ≠ 20 by decide) ag20
  refine gz_dupa hX dX1_init_135 ?_
  refine gn_callI (As := []) (n := (90, k, 2)) hX (c_j2_init gz_us_eq (gz_ne0 89 rfl)) (lw_meth q260) q150 q258 q259 rfl rfl rfl (by decide +kernel) (by decide) (by decide) rfl rfl (Nat.le_of_ble_eq_true rfl) dX1_init_136 ?_
  rintro sh2 V2 Rf2 ad21 rv ⟨rfl, rfl, rfl, rfl, rfl⟩
  rw [gz_up_z v2]
  have i41 := i39.ur (nm := (90, k, 2)) (f := 1) (x := some (0, 0, 0)) (gz_some_nn gz_us_eq)
  refine xp_X1_66 hX i41.2.1 (gz_ne0 19 rfl) (Or.inl (gz_some_nn gz_us_eq)) dX1_init_139 rfl ?_
  have i42 := i41.ur (nm := (20, k, 0)) (f := 11) (x := some (90, k, 2)) (gz_some_nn i41.2.1)
  refine gz_aload_n (q := 0) hX dX1_init_142 rfl rfl ?_
  refine gz_bipush (v := 12) hX dX1_init_143 (by decide) ?_
  refine gn_newI (ad := ad21) (lvF := fun ad => [(0, .ref (ad (20, k, 0)))]) (stF := fun ad => [.ref (ad (20, k, 0))]) (L := 12) (nm := (91, k, 0)) hX (by decide) (by decide) (by decide) (by decide) (by decide) i42.1 (i42.2.2.1 _ rfl (by simp [mk_st])) (gz_ne0 90 rfl) (fun ad2 ag => by rw [i42.this ag]; exact ⟨rfl, rfl⟩) dX1_init_145 (fun ad22 ag22 => ?_)
  have i43 := i42.us (t := (100, 12)) (nm := (91, k, 0)) (j2 := 130) (by simp [mk_st]) (by decide) (show (91 : Nat) ≠ 20 by decide) ag22
  refine xp_X1_69 hX i43.2.1 (gz_ne0 19 rfl) (Or.inl (gz_some_nn gz_us_eq)) dX1_init_147 rfl ?_
  have i44 := i43.ur (nm := (20, k, 0)) (f := 12) (x := some (91, k, 0)) (gz_some_nn i43.2.1)
  refine gz_iconst (v := 0) hX dX1_init_150 (by decide) ?_
  refine gz_istore_n (i := 1) hX dX1_init_151 rfl (by decide) rfl ?_
  have h := mk_people (S0 := mk_S0 k sh) (R0 := mk_R0 k Rf) (sh0 := sh) (ad0 := ad) (k := k) hX hE h5 h6 h7 rfl rfl mk_S0_21 mk_S0_22 mk_R0_0 mk_R0_1 12 0 ad22 rfl (by rw [mk_p_0, mk_pr_0]; exact i44.mono (by decide))
  rw [mk_p_0, mk_pr_0] at h
  exact h
