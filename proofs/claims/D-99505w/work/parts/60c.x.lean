/-! CLASPEDFAIR's CONSTRUCTOR. Printed by wip/D-99505w/gen/mkini0.py -/
set_option maxRecDepth 100000
theorem mk_st0 {a b c : Nat} (h : mk_st (a, b, c) = 0) : a ≠ 21 ∧ a ≠ 22 ∧ a ≠ 23 ∧ a ≠ 24 ∧ a ≠ 25 ∧ a ≠ 26 ∧ a ≠ 27 ∧ a ≠ 28 ∧ a ≠ 30 ∧ a ≠ 31 ∧ a ≠ 32 ∧ a ≠ 33 ∧ a ≠ 34 ∧ a ≠ 90 ∧ a ≠ 91 ∧ a ≠ 40 ∧ a ≠ 41 ∧ a ≠ 42 := by
  refine ⟨?_, ?_, ?_, ?_, ?_, ?_, ?_, ?_, ?_, ?_, ?_, ?_, ?_, ?_, ?_, ?_, ?_, ?_⟩ <;> (rintro rfl; simp [mk_st] at h)
theorem mk_S_out {k : Nat} {sh : gz_S} {a : gz_N} (h : a.2.1 ≠ k ∨ mk_st a = 0) : mk_S k sh a = sh a := by
  obtain ⟨a, b, c⟩ := a
  rcases h with h | h
  · have h : b ≠ k := h
    simp [mk_S, mk_h, mk_p, mk_S0, gz_us, gz_gs, h]
  · have h := mk_st0 h
    simp [mk_S, mk_h, mk_p, mk_S0, gz_us, gz_gs, h]
theorem mk_R_out {k : Nat} {Rf : gz_R} {a : gz_N} (h : a.2.1 ≠ k ∨ (mk_st a = 0 ∧ a.1 ≠ 20)) : mk_R k Rf a = Rf a := by
  obtain ⟨a, b, c⟩ := a
  rcases h with h | ⟨h, h2⟩
  · have h : b ≠ k := h
    simp [mk_R, mk_hr, mk_pr, mk_R0, gz_ur, gz_gr, h]
  · have h := mk_st0 h
    have h2 : a ≠ 20 := h2
    simp [mk_R, mk_hr, mk_pr, mk_R0, gz_ur, gz_gr, h, h2]
theorem mk_S_20 {k : Nat} {sh : gz_S} {b : Nat} : mk_S k sh (20, b, 0) = sh (20, b, 0) := mk_S_out (Or.inr rfl)
/-- the order of making -/
def cf_st (a : gz_N) : Nat := if a.1 = 11 then (if a.2.1 = 0 then 10 else if a.2.1 = 7 then 50 else if a.2.1 = 10 then 130 else if a.2.1 = 11 then 140 else if a.2.1 = 12 then 150 else if a.2.1 = 15 then 160 else 0) else if a.1 = 20 ∨ 0 < mk_st a then (if a.2.1 < 3 then 20 + 10 * a.2.1 else 30 + 10 * a.2.1) else 0
def cf_I (j : Nat) (sh0 : gz_S) (ad0 : gz_A0) (sh : gz_S) (V : gz_V) (Rf : gz_R) (ad : gz_A0) : Prop := gz_z sh V Rf ∧ sh (10, 0, 0) = some (0, 16) ∧ (∀ a : gz_N, j < cf_st a → sh a = none) ∧ gz_ag sh0 ad0 ad ∧ ∀ a, sh0 a ≠ none → sh a ≠ none
section CFI
variable {k j j2 : Nat} {sh0 sh : gz_S} {ad0 ad ad2 : gz_A0} {V : gz_V} {Rf : gz_R} {nm : gz_N} {t : Nat × Nat}
theorem cf_I.us (h : cf_I j sh0 ad0 sh V Rf ad) (hs : cf_st nm ≤ j2) (hj : j ≤ j2) (hn : nm.1 ≠ 10) (ha : gz_ag sh ad ad2) : cf_I j2 sh0 ad0 (gz_us sh nm t) V Rf ad2 :=
  ⟨h.1.us, by rw [gz_us_ne (fun e => hn (by rw [← e]))]; exact h.2.1, fun a h2 => by rw [gz_us_ne (fun e => by rw [e] at h2; omega)]; exact h.2.2.1 a (by omega), h.2.2.2.1.trans h.2.2.2.2 ha, fun a q => gz_us_nn a (h.2.2.2.2 a q)⟩
theorem cf_I.ur {f : Nat} {x : Option gz_N} (h : cf_I j sh0 ad0 sh V Rf ad) (hn : sh nm ≠ none) : cf_I j sh0 ad0 sh V (gz_ur Rf nm f x) ad := ⟨h.1.ur hn, h.2⟩
theorem cf_I.up {f : Nat} {x : Int32} (h : cf_I j sh0 ad0 sh V Rf ad) (hn : sh nm ≠ none) : cf_I j sh0 ad0 sh (gz_up V nm f x) Rf ad := ⟨h.1.up hn, h.2⟩
theorem cf_I.mono (h : cf_I j sh0 ad0 sh V Rf ad) (hj : j ≤ j2) : cf_I j2 sh0 ad0 sh V Rf ad := ⟨h.1, h.2.1, fun a h2 => h.2.2.1 a (by omega), h.2.2.2⟩
theorem cf_I.this (h : cf_I j sh0 ad0 sh V Rf ad) (ha : gz_ag sh ad ad2) : ad2 (10, 0, 0) = ad (10, 0, 0) := ha _ (Or.inl (gz_some_nn h.2.1))
/-- a market made -/
theorem cf_I.mk (h : cf_I j sh0 ad0 sh V Rf ad) (hs : (if k < 3 then 20 + 10 * k else 30 + 10 * k) ≤ j2) (hj : j ≤ j2) (hz : gz_z (mk_S k sh) V (mk_R k Rf)) (ha : gz_ag sh ad ad2) (hm : ∀ a, sh a ≠ none → mk_S k sh a ≠ none) : cf_I j2 sh0 ad0 (mk_S k sh) V (mk_R k Rf) ad2 :=
  ⟨hz, by rw [mk_S_out (Or.inr rfl)]; exact h.2.1, fun a h2 => by
    have hq : a.2.1 ≠ k ∨ mk_st a = 0 := by
      by_cases q : a.2.1 = k
      · right
        unfold cf_st at h2
        rw [q] at h2
        by_cases q1 : a.1 = 11
        · obtain ⟨a, b, c⟩ := a
          have q1 : a = 11 := q1
          subst q1
          rfl
        · rw [if_neg q1] at h2
          by_cases q2 : a.1 = 20 ∨ 0 < mk_st a
          · rw [if_pos q2] at h2
            omega
          · omega
      · exact Or.inl q
    rw [mk_S_out hq]
    exact h.2.2.1 a (by omega), h.2.2.2.1.trans h.2.2.2.2 ha, fun a q => hm a (h.2.2.2.2 a q)⟩
theorem cf_I.fresh (h : cf_I j sh0 ad0 sh V Rf ad) (hs : j < (if k < 3 then 20 + 10 * k else 30 + 10 * k)) : sh (20, k, 0) = none := h.2.2.1 _ (by unfold cf_st; rw [if_neg (by simp), if_pos (Or.inl rfl)]; exact hs)
theorem cf_I.freshM {sh1 : gz_S} {t : Nat × Nat} (h : cf_I j sh0 ad0 sh V Rf ad) (hs : j < (if k < 3 then 20 + 10 * k else 30 + 10 * k)) : ∀ a : gz_N, a.2.1 = k → 0 < mk_st a → gz_us sh (20, k, 0) t a = none := fun a h1 h2 => by
  have q1 : a ≠ (20, k, 0) := fun e => by rw [e] at h2; exact absurd h2 (by simp [mk_st])
  rw [gz_us_ne q1]
  refine h.2.2.1 a ?_
  unfold cf_st
  have q2 : a.1 ≠ 11 := fun e => by
    obtain ⟨a, b, c⟩ := a
    have e : a = 11 := e
    subst e
    exact absurd h2 (by simp [mk_st])
  rw [if_neg q2, if_pos (Or.inr h2), h1]
  exact hs
end CFI
/-- markets of the row behind: j made -/
def cf_bS : Nat → gz_S → gz_S
  | 0, sh => sh
  | j + 1, sh => mk_S (3 + j) (gz_us (cf_bS j sh) (20, 3 + j, 0) (1, 25))
def cf_bR : Nat → gz_R → gz_R
  | 0, Rf => Rf
  | j + 1, Rf => gz_ur (mk_R (3 + j) (cf_bR j Rf)) (11, 7, 0) j (some (20, 3 + j, 0))
theorem cf_b_out {S0 : gz_S} {a : gz_N} (h : a.1 ≠ 20) (h2 : mk_st a = 0) : ∀ j, cf_bS j S0 a = S0 a
  | 0 => rfl
  | j + 1 => by
    rw [cf_bS, mk_S_out (Or.inr h2), gz_us_ne (fun e => h (by rw [e]))]
    exact cf_b_out h h2 j
theorem cf_bR_out {R0 : gz_R} {a : gz_N} (h : a.1 ≠ 20) (h2 : mk_st a = 0) (h3 : a ≠ (11, 7, 0)) : ∀ j, cf_bR j R0 a = R0 a
  | 0 => rfl
  | j + 1 => by
    rw [cf_bR, gz_ur_ne h3, mk_R_out (Or.inr ⟨h2, h⟩)]
    exact cf_bR_out h h2 h3 j
theorem cf_ge : ∀ j, j < 6 → ¬ (6 : Int32) ≤ Int32.ofNat j := by decide
theorem cf_in : ∀ j, j < 6 → vp_in (Int32.ofNat j) 6 := (by decide : ∀ j, j < 6 → ¬ (Int32.ofNat j < 0 ∨ 6 ≤ (Int32.ofNat j).toNatClampNeg))
def rm_x0_init : Room := { frames := 5, cells := 2238, slots := 14647, locals := 93 }
def cf_S0 (sh : gz_S) : gz_S := (gz_us (mk_S 2 (gz_us (mk_S 1 (gz_us (mk_S 0 (gz_us (gz_us sh (11, 0, 0) (101, 400)) (20, 0, 0) (1, 25))) (20, 1, 0) (1, 25))) (20, 2, 0) (1, 25))) (11, 7, 0) (113, 6))
def cf_R0 (Rf : gz_R) : gz_R := (gz_ur (gz_ur (mk_R 2 (gz_ur (mk_R 1 (gz_ur (mk_R 0 (gz_ur Rf (10, 0, 0) 0 (some (11, 0, 0)))) (10, 0, 0) 4 (some (20, 0, 0)))) (10, 0, 0) 5 (some (20, 1, 0)))) (10, 0, 0) 6 (some (20, 2, 0))) (10, 0, 0) 7 (some (11, 7, 0)))
def cf_V (V : gz_V) : gz_V := (gz_up (gz_up V (10, 0, 0) 3 (-1)) (20, 2, 0) 21 1)
def cf_S (sh : gz_S) : gz_S := (gz_us (gz_us (gz_us (gz_us (cf_bS 6 (cf_S0 sh)) (11, 10, 0) (100, 13)) (11, 11, 0) (100, 4096)) (11, 12, 0) (100, 4)) (11, 15, 0) (100, 21))
def cf_R (Rf : gz_R) : gz_R := (gz_ur (gz_ur (gz_ur (gz_ur (cf_bR 6 (cf_R0 Rf)) (10, 0, 0) 10 (some (11, 10, 0))) (10, 0, 0) 11 (some (11, 11, 0))) (10, 0, 0) 12 (some (11, 12, 0))) (10, 0, 0) 15 (some (11, 15, 0)))
section X0I
variable {X : gz_X} {V : gz_V} {sh0 S0 : gz_S} {R0 : gz_R} {ad0 : gz_A0}
theorem cf_back (hX : gz_ok X cX0_init RX0 "<init>" 2 rm_x0_init none) (hE : gz_E X) {Sf : gz_S} {Rff : gz_R} (h5 : gx_F X = gz_FNZ sh0 ad0 Sf Rff V none) (h6 : gx_mc X = 2238) (h7 : gx_ms X = 14647) (hS : (gz_us (gz_us (gz_us (gz_us (cf_bS 6 S0) (11, 10, 0) (100, 13)) (11, 11, 0) (100, 4096)) (11, 12, 0) (100, 4)) (11, 15, 0) (100, 21)) = Sf) (hR : (gz_ur (gz_ur (gz_ur (gz_ur (cf_bR 6 R0) (10, 0, 0) 10 (some (11, 10, 0))) (10, 0, 0) 11 (some (11, 11, 0))) (10, 0, 0) 12 (some (11, 12, 0))) (10, 0, 0) 15 (some (11, 15, 0))) = Rff) (hn7 : S0 (11, 7, 0) = some (113, 6)) (hr7 : R0 (10, 0, 0) 7 = some (11, 7, 0)) : ∀ (d j : Nat) (ad : gz_A0), j + d = 6 → cf_I (59 + 10 * j) sh0 ad0 (cf_bS j S0) V (cf_bR j R0) ad → gW X 2 (cf_bS j S0) (cf_bR j R0) ad V (746 + 248 * j) (3775 + 1123 * j) 70 [(1, .int (Int32.ofNat j)), (0, .ref (ad (10, 0, 0)))] [] := by
  intro d
  induction d with
  | zero =>
    intro j ad hj hI
    have hj : j = 6 := by omega
    subst hj
    refine gz_iload_n (q := 0) hX dX0_init_70 rfl rfl ?_
    refine gz_bipush (v := 6) hX dX0_init_71 (by decide) ?_
    refine gz_icmp_ge hX dX0_init_73 (tgt := 95) rfl (fun _ => ?_) (fun h => absurd (by decide) h)
    refine gz_aload_n (q := 1) hX dX0_init_95 rfl rfl ?_
    refine gz_bipush (v := 13) hX dX0_init_96 (by decide) ?_
    refine gn_newI (ad := ad) (lvF := fun ad => [(1, .int 6), (0, .ref (ad (10, 0, 0)))]) (stF := fun ad => [.ref (ad (10, 0, 0))]) (L := 13) (nm := (11, 10, 0)) hX (by decide) (by decide) (by decide) (by decide) (by decide) hI.1 (hI.2.2.1 _ (by simp [cf_st])) (gz_ne0 10 rfl) (fun ad2 ag => by rw [hI.this ag]; exact ⟨rfl, rfl⟩) dX0_init_98 (fun ad1 ag1 => ?_)
    have i1 := hI.us (t := (100, 13)) (nm := (11, 10, 0)) (j2 := 130) (by decide) (by decide) (by decide) ag1
    refine gn_putR (ci := 0) hX in_X0 (gz_apart hX in_X0 tyX0 tyX0_ok nmX0 rfl) (by decide) rfl i1.2.1 (gz_ne0 9 rfl) 10 (by decide) q451 rfl rfl rfl (tyX0_ok 10 (by decide)) rfl rfl (gz_some_nn gz_us_eq) dX0_init_100 ?_
    have i2 := i1.ur (nm := (10, 0, 0)) (f := 10) (x := some (11, 10, 0)) (gz_some_nn i1.2.1)
    refine gz_aload_n (q := 1) hX dX0_init_103 rfl rfl ?_
    refine gz_sipush (v := 4096) hX dX0_init_104 (by decide) ?_
    refine gn_newI (ad := ad1) (lvF := fun ad => [(1, .int 6), (0, .ref (ad (10, 0, 0)))]) (stF := fun ad => [.ref (ad (10, 0, 0))]) (L := 4096) (nm := (11, 11, 0)) hX (by decide) (by decide) (by decide) (by decide) (by decide) i2.1 (i2.2.2.1 _ (by simp [cf_st])) (gz_ne0 10 rfl) (fun ad2 ag => by rw [i2.this ag]; exact ⟨rfl, rfl⟩) dX0_init_107 (fun ad2 ag2 => ?_)
    have i3 := i2.us (t := (100, 4096)) (nm := (11, 11, 0)) (j2 := 140) (by decide) (by decide) (by decide) ag2
    refine gn_putR (ci := 0) hX in_X0 (gz_apart hX in_X0 tyX0 tyX0_ok nmX0 rfl) (by decide) rfl i3.2.1 (gz_ne0 9 rfl) 11 (by decide) q452 rfl rfl rfl (tyX0_ok 11 (by decide)) rfl rfl (gz_some_nn gz_us_eq) dX0_init_109 ?_
    have i4 := i3.ur (nm := (10, 0, 0)) (f := 11) (x := some (11, 11, 0)) (gz_some_nn i3.2.1)
    refine gz_aload_n (q := 1) hX dX0_init_112 rfl rfl ?_
    refine gz_iconst (v := 4) hX dX0_init_113 (by decide) ?_
    refine gn_newI (ad := ad2) (lvF := fun ad => [(1, .int 6), (0, .ref (ad (10, 0, 0)))]) (stF := fun ad => [.ref (ad (10, 0, 0))]) (L := 4) (nm := (11, 12, 0)) hX (by decide) (by decide) (by decide) (by decide) (by decide) i4.1 (i4.2.2.1 _ (by simp [cf_st])) (gz_ne0 10 rfl) (fun ad2 ag => by rw [i4.this ag]; exact ⟨rfl, rfl⟩) dX0_init_114 (fun ad3 ag3 => ?_)
    have i5 := i4.us (t := (100, 4)) (nm := (11, 12, 0)) (j2 := 150) (by decide) (by decide) (by decide) ag3
    refine gn_putR (ci := 0) hX in_X0 (gz_apart hX in_X0 tyX0 tyX0_ok nmX0 rfl) (by decide) rfl i5.2.1 (gz_ne0 9 rfl) 12 (by decide) q453 rfl rfl rfl (tyX0_ok 12 (by decide)) rfl rfl (gz_some_nn gz_us_eq) dX0_init_116 ?_
    have i6 := i5.ur (nm := (10, 0, 0)) (f := 12) (x := some (11, 12, 0)) (gz_some_nn i5.2.1)
    refine gz_aload_n (q := 1) hX dX0_init_119 rfl rfl ?_
    refine gz_bipush (v := 21) hX dX0_init_120 (by decide) ?_
    refine gn_newI (ad := ad3) (lvF := fun ad => [(1, .int 6), (0, .ref (ad (10, 0, 0)))]) (stF := fun ad => [.ref (ad (10, 0, 0))]) (L := 21) (nm := (11, 15, 0)) hX (by decide) (by decide) (by decide) (by decide) (by decide) i6.1 (i6.2.2.1 _ (by simp [cf_st])) (gz_ne0 10 rfl) (fun ad2 ag => by rw [i6.this ag]; exact ⟨rfl, rfl⟩) dX0_init_122 (fun ad4 ag4 => ?_)
    have i7 := i6.us (t := (100, 21)) (nm := (11, 15, 0)) (j2 := 160) (by decide) (by decide) (by decide) ag4
    refine gn_putR (ci := 0) hX in_X0 (gz_apart hX in_X0 tyX0 tyX0_ok nmX0 rfl) (by decide) rfl i7.2.1 (gz_ne0 9 rfl) 15 (by decide) q456 rfl rfl rfl (tyX0_ok 15 (by decide)) rfl rfl (gz_some_nn gz_us_eq) dX0_init_124 ?_
    have i8 := i7.ur (nm := (10, 0, 0)) (f := 15) (x := some (11, 15, 0)) (gz_some_nn i7.2.1)
    exact gn_ret hX hE h5 h6 h7 ⟨⟨hS, rfl, hR, i8.2.2.2.1, rfl⟩, i8.1, i8.2.2.2.2⟩ dX0_init_127
  | succ d ih =>
    intro j ad hj hI
    have hlt : j < 6 := by omega
    refine gz_iload_n (q := 0) hX dX0_init_70 rfl rfl ?_
    refine gz_bipush (v := 6) hX dX0_init_71 (by decide) ?_
    refine gz_icmp_ge hX dX0_init_73 (tgt := 95) rfl (fun h => absurd h (cf_ge j hlt)) (fun _ => ?_)
    refine gz_aload_n (q := 1) hX dX0_init_76 rfl rfl ?_
    refine xg_X0_30 (n2 := (11, 7, 0)) hX hI.2.1 (by rw [cf_bR_out (by decide) (by decide) (by decide)]; exact hr7) dX0_init_77 ?_
    refine gz_iload_n (q := 0) hX dX0_init_80 rfl rfl ?_
    have g7 : cf_bS j S0 (11, 7, 0) = some (113, 6) := by rw [cf_b_out (by decide) (by decide)]; exact hn7
    have hst : 59 + 10 * j < (if 3 + j < 3 then 20 + 10 * (3 + j) else 30 + 10 * (3 + j)) := by rw [if_neg (by omega)]; omega
    refine gn_new (ad := ad) (lvF := fun ad => [(1, .int (Int32.ofNat j)), (0, .ref (ad (10, 0, 0)))]) (stF := fun ad => [.int (Int32.ofNat j), .ref (ad (11, 7, 0))]) (nm := (20, 3 + j, 0)) hX (ci := 1) in_X1 tyX1_ok (by decide) rfl q187 q188 q145 (by decide) (by show 746 + 248 * j + 1 ≤ 2238; omega) (by show 3775 + 1123 * j + 25 ≤ 14647; omega) hI.1 (hI.fresh hst) (gz_ne0 19 rfl) (fun ad2 ag => by rw [hI.this ag, ag _ (Or.inl (gz_some_nn g7))]; exact ⟨rfl, rfl⟩) dX0_init_81 (fun ad2 ag => ?_)
    have hI2 := hI.us (t := (1, 25)) (nm := (20, 3 + j, 0)) (j2 := 60 + 10 * j) (by unfold cf_st; rw [if_neg (by simp), if_pos (Or.inl rfl), if_neg (by show ¬ 3 + j < 3; omega)]; show 30 + 10 * (3 + j) ≤ _; omega) (by omega) (show (20 : Nat) ≠ 10 by decide) ag
    have e7 : gz_us (cf_bS j S0) (20, 3 + j, 0) (1, 25) (11, 7, 0) = some (113, 6) := by rw [gz_us_ne (by simp)]; exact g7
    refine gz_dupa hX dX0_init_84 ?_
    refine gn_callI (As := []) (n := (20, 3 + j, 0)) hX (c_x1_init hI2.1 gz_us_eq (hI.freshM (sh1 := sh0) hst)) (lw_meth q191) q145 q189 q190 rfl rfl rfl (by decide +kernel) (by decide) ⟨by show 746 + 248 * j + 1 + 247 ≤ 2238; omega, by show 3775 + 1123 * j + 25 + 1098 ≤ 14647; omega⟩ rfl rfl (Nat.le_of_ble_eq_true rfl) dX0_init_85 ?_
    rintro sh2 V2 Rf2 ad3 rv ⟨⟨rfl, rfl, rfl, ag3, rfl⟩, z3, m3⟩
    rw [← hI2.this ag3, ← ag3 _ (Or.inl (gz_some_nn e7)), ← ag3 (20, 3 + j, 0) (Or.inl (gz_some_nn gz_us_eq))]
    have hI3 := hI2.mk (k := 3 + j) (j2 := 60 + 10 * j) (by rw [if_neg (by omega)]; omega) (by omega) z3 ag3 m3
    have f7 : mk_S (3 + j) (gz_us (cf_bS j S0) (20, 3 + j, 0) (1, 25)) (11, 7, 0) = some (113, 6) := by rw [mk_S_out (Or.inr rfl)]; exact e7
    refine gz_aast (t := 113) (t0 := 6) (L := 6) (n := (11, 7, 0)) (n2 := (20, 3 + j, 0)) (ci := 1) hX (by decide) (by decide) (fun _ => rfl) f7 (gz_ne0 10 rfl) (by decide) rfl (by rw [mk_S_20]; exact gz_us_eq) (Or.inl rfl) (cf_in j hlt) dX0_init_88 rfl ?_
    rw [mk_cl j (by omega)]
    have hI4 := (hI3.ur (nm := (11, 7, 0)) (f := j) (x := some (20, 3 + j, 0)) (gz_some_nn f7)).mono (j2 := 59 + 10 * (j + 1)) (by omega)
    refine gz_iinc (q := 0) hX dX0_init_89 rfl (d := 1) (by decide) (by decide) rfl ?_
    rw [mk_sc j (by omega)]
    refine gz_goto hX dX0_init_92 (tgt := 70) rfl ?_
    exact gz_widen (by omega) (by omega) (ih (j + 1) ad3 (by omega) hI4)
end X0I
theorem c_x0_init {l : Launch} {D : va_G} {aC : Nat → ClassId} {ad : gz_A0} {sh : gz_S} {V : gz_V} {Rf : gz_R} (hz : gz_z sh V Rf) (hs : sh (10, 0, 0) = some (0, 16)) (hfr : ∀ a : gz_N, 0 < cf_st a → sh a = none) : gz_Met l yX0_init cX0_init 2 none rm_x0_init D aC ad sh V Rf [.ref (ad (10, 0, 0))] (gz_FNZ sh ad (cf_S sh) (cf_R Rf) (cf_V V) none) 2238 14647 := by
  refine gz_ofW (own := RX0) (mn := "<init>") (lv := [(0, .ref (ad (10, 0, 0)))]) (by decide) rfl rfl (Nat.le_of_ble_eq_true rfl) rfl ?_
  intro X hX _ _ _ h5 h6 h7 hE
  have i0 : cf_I 0 sh ad sh V Rf ad := ⟨hz, hs, hfr, gz_ag.rf, fun _ h => h⟩
  refine gz_aload_n (q := 0) hX dX0_init_0 rfl rfl ?_
  refine gn_obj0 hX q184 (by decide) dX0_init_1 ?_
  refine gz_aload_n (q := 0) hX dX0_init_4 rfl rfl ?_
  refine gz_sipush (v := 400) hX dX0_init_5 (by decide) ?_
  refine gn_newB (ad := ad) (lvF := fun ad => [(0, .ref (ad (10, 0, 0)))]) (stF := fun ad => [.ref (ad (10, 0, 0))]) (L := 400) (nm := (11, 0, 0)) hX (by decide) (by decide) (by decide) (by decide) (by decide) i0.1 (i0.2.2.1 _ (by simp [cf_st])) (gz_ne0 10 rfl) (fun ad2 ag => by rw [i0.this ag]; exact ⟨rfl, rfl⟩) dX0_init_8 (fun ad1 ag1 => ?_)
  have i1 := i0.us (t := (101, 400)) (nm := (11, 0, 0)) (j2 := 10) (by decide) (by decide) (by decide) ag1
  refine gn_putR (ci := 0) hX in_X0 (gz_apart hX in_X0 tyX0 tyX0_ok nmX0 rfl) (by decide) rfl i1.2.1 (gz_ne0 9 rfl) 0 (by decide) q438 rfl rfl rfl (tyX0_ok 0 (by decide)) rfl rfl (gz_some_nn gz_us_eq) dX0_init_10 ?_
  have i2a := i1.ur (nm := (10, 0, 0)) (f := 0) (x := some (11, 0, 0)) (gz_some_nn i1.2.1)
  refine gz_aload_n (q := 0) hX dX0_init_13 rfl rfl ?_
  refine gz_iconst (v := (-1)) hX dX0_init_14 (by decide) ?_
  refine xp_X0_13 hX i2a.2.1 (gz_ne0 9 rfl) dX0_init_15 rfl ?_
  have i2 := i2a.up (nm := (10, 0, 0)) (f := 3) (x := (-1)) (gz_some_nn i2a.2.1)
  refine gz_aload_n (q := 0) hX dX0_init_18 rfl rfl ?_
  refine gn_new (ad := ad1) (lvF := fun ad => [(0, .ref (ad (10, 0, 0)))]) (stF := fun ad => [.ref (ad (10, 0, 0))]) (nm := (20, 0, 0)) hX (ci := 1) in_X1 tyX1_ok (by decide) rfl q187 q188 q145 (by decide) (by decide) (by decide) i2.1 (i2.fresh (k := 0) (by decide)) (gz_ne0 19 rfl) (fun ad2 ag => by rw [i2.this ag]; exact ⟨rfl, rfl⟩) dX0_init_19 (fun ad2 ag2 => ?_)
  have i3 := i2.us (t := (1, 25)) (nm := (20, 0, 0)) (j2 := 20) (by decide) (by decide) (by decide) ag2
  refine gz_dupa hX dX0_init_22 ?_
  refine gn_callI (As := []) (n := (20, 0, 0)) hX (c_x1_init i3.1 gz_us_eq (i2.freshM (sh1 := sh) (by decide))) (lw_meth q191) q145 q189 q190 rfl rfl rfl (by decide +kernel) (by decide) (by decide) rfl rfl (Nat.le_of_ble_eq_true rfl) dX0_init_23 ?_
  rintro sh2 V2 Rf2 ad3 rv ⟨⟨rfl, rfl, rfl, ag3, rfl⟩, z0, m0⟩
  rw [← i3.this ag3, ← ag3 (20, 0, 0) (Or.inl (gz_some_nn gz_us_eq))]
  have i4 := i3.mk (k := 0) (j2 := 20) (by decide) (by decide) z0 ag3 m0
  refine gn_putR (ci := 0) hX in_X0 (gz_apart hX in_X0 tyX0 tyX0_ok nmX0 rfl) (by decide) rfl i4.2.1 (gz_ne0 9 rfl) 4 (by decide) q444 rfl rfl rfl (tyX0_ok 4 (by decide)) rfl rfl (by rw [mk_S_20]; exact gz_some_nn gz_us_eq) dX0_init_26 ?_
  have i4b := i4.ur (nm := (10, 0, 0)) (f := 4) (x := some (20, 0, 0)) (gz_some_nn i4.2.1)
  refine gz_aload_n (q := 0) hX dX0_init_29 rfl rfl ?_
  refine gn_new (ad := ad3) (lvF := fun ad => [(0, .ref (ad (10, 0, 0)))]) (stF := fun ad => [.ref (ad (10, 0, 0))]) (nm := (20, 1, 0)) hX (ci := 1) in_X1 tyX1_ok (by decide) rfl q187 q188 q145 (by decide) (by decide) (by decide) i4b.1 (i4b.fresh (k := 1) (by decide)) (gz_ne0 19 rfl) (fun ad2 ag => by rw [i4b.this ag]; exact ⟨rfl, rfl⟩) dX0_init_30 (fun ad4 ag4 => ?_)
  have i7 := i4b.us (t := (1, 25)) (nm := (20, 1, 0)) (j2 := 30) (by decide) (by decide) (by decide) ag4
  refine gz_dupa hX dX0_init_33 ?_
  refine gn_callI (As := []) (n := (20, 1, 0)) hX (c_x1_init i7.1 gz_us_eq (i4b.freshM (sh1 := sh) (by decide))) (lw_meth q191) q145 q189 q190 rfl rfl rfl (by decide +kernel) (by decide) (by decide) rfl rfl (Nat.le_of_ble_eq_true rfl) dX0_init_34 ?_
  rintro sh2 V2 Rf2 ad5 rv ⟨⟨rfl, rfl, rfl, ag5, rfl⟩, z1, m1⟩
  rw [← i7.this ag5, ← ag5 (20, 1, 0) (Or.inl (gz_some_nn gz_us_eq))]
  have i8 := i7.mk (k := 1) (j2 := 30) (by decide) (by decide) z1 ag5 m1
  refine gn_putR (ci := 0) hX in_X0 (gz_apart hX in_X0 tyX0 tyX0_ok nmX0 rfl) (by decide) rfl i8.2.1 (gz_ne0 9 rfl) 5 (by decide) q446 rfl rfl rfl (tyX0_ok 5 (by decide)) rfl rfl (by rw [mk_S_20]; exact gz_some_nn gz_us_eq) dX0_init_37 ?_
  have i8b := i8.ur (nm := (10, 0, 0)) (f := 5) (x := some (20, 1, 0)) (gz_some_nn i8.2.1)
  refine gz_aload_n (q := 0) hX dX0_init_40 rfl rfl ?_
  refine gn_new (ad := ad5) (lvF := fun ad => [(0, .ref (ad (10, 0, 0)))]) (stF := fun ad => [.ref (ad (10, 0, 0))]) (nm := (20, 2, 0)) hX (ci := 1) in_X1 tyX1_ok (by decide) rfl q187 q188 q145 (by decide) (by decide) (by decide) i8b.1 (i8b.fresh (k := 2) (by decide)) (gz_ne0 19 rfl) (fun ad2 ag => by rw [i8b.this ag]; exact ⟨rfl, rfl⟩) dX0_init_41 (fun ad6 ag6 => ?_)
  have i11 := i8b.us (t := (1, 25)) (nm := (20, 2, 0)) (j2 := 40) (by decide) (by decide) (by decide) ag6
  refine gz_dupa hX dX0_init_44 ?_
  refine gn_callI (As := []) (n := (20, 2, 0)) hX (c_x1_init i11.1 gz_us_eq (i8b.freshM (sh1 := sh) (by decide))) (lw_meth q191) q145 q189 q190 rfl rfl rfl (by decide +kernel) (by decide) (by decide) rfl rfl (Nat.le_of_ble_eq_true rfl) dX0_init_45 ?_
  rintro sh2 V2 Rf2 ad7 rv ⟨⟨rfl, rfl, rfl, ag7, rfl⟩, z2, m2⟩
  rw [← i11.this ag7, ← ag7 (20, 2, 0) (Or.inl (gz_some_nn gz_us_eq))]
  have i12 := i11.mk (k := 2) (j2 := 40) (by decide) (by decide) z2 ag7 m2
  refine gn_putR (ci := 0) hX in_X0 (gz_apart hX in_X0 tyX0 tyX0_ok nmX0 rfl) (by decide) rfl i12.2.1 (gz_ne0 9 rfl) 6 (by decide) q447 rfl rfl rfl (tyX0_ok 6 (by decide)) rfl rfl (by rw [mk_S_20]; exact gz_some_nn gz_us_eq) dX0_init_48 ?_
  have i12b := i12.ur (nm := (10, 0, 0)) (f := 6) (x := some (20, 2, 0)) (gz_some_nn i12.2.1)
  refine gz_aload_n (q := 0) hX dX0_init_51 rfl rfl ?_
  refine gz_bipush (v := 6) hX dX0_init_52 (by decide) ?_
  refine gn_anew (ad := ad7) (lvF := fun ad => [(0, .ref (ad (10, 0, 0)))]) (stF := fun ad => [.ref (ad (10, 0, 0))]) (nm := (11, 7, 0)) (L := 6) (t := 113) (t0 := 6) hX q187 (by unfold gzOv; decide) (fun _ => rfl) (by decide) (by decide) (by decide) (by decide) (by decide) (by decide) (by decide) i12b.1 (i12b.2.2.1 _ (by simp [cf_st])) (gz_ne0 10 rfl) (fun ad2 ag => by rw [i12b.this ag]; exact ⟨rfl, rfl⟩) dX0_init_54 (fun ad8 ag8 => ?_)
  have i15 := i12b.us (t := (113, 6)) (nm := (11, 7, 0)) (j2 := 50) (by decide) (by decide) (by decide) ag8
  refine gn_putR (ci := 0) hX in_X0 (gz_apart hX in_X0 tyX0 tyX0_ok nmX0 rfl) (by decide) rfl i15.2.1 (gz_ne0 9 rfl) 7 (by decide) q448 rfl rfl rfl (tyX0_ok 7 (by decide)) rfl rfl (gz_some_nn gz_us_eq) dX0_init_57 ?_
  have i16 := i15.ur (nm := (10, 0, 0)) (f := 7) (x := some (11, 7, 0)) (gz_some_nn i15.2.1)
  refine gz_aload_n (q := 0) hX dX0_init_60 rfl rfl ?_
  refine xg_X0_27 (n2 := (20, 2, 0)) hX i16.2.1 (by rw [gz_ur_eq]; dsimp only; rw [if_neg (by decide), gz_ur_eq]; exact if_pos rfl) dX0_init_61 ?_
  have t2 : gz_us (mk_S 2 (gz_us (mk_S 1 (gz_us (mk_S 0 (gz_us (gz_us sh (11, 0, 0) (101, 400)) (20, 0, 0) (1, 25))) (20, 1, 0) (1, 25))) (20, 2, 0) (1, 25))) (11, 7, 0) (113, 6) (20, 2, 0) = some (1, 25) := by rw [gz_us_ne (by decide), mk_S_20]; exact gz_us_eq
  refine gz_iconst (v := 1) hX dX0_init_64 (by decide) ?_
  refine xp_X0_34 hX t2 (gz_ne0 19 rfl) (Or.inr rfl) dX0_init_65 rfl ?_
  have i16c := i16.up (nm := (20, 2, 0)) (f := 21) (x := 1) (gz_some_nn t2)
  refine gz_iconst (v := 0) hX dX0_init_68 (by decide) ?_
  refine gz_istore_n (i := 1) hX dX0_init_69 rfl (by decide) rfl ?_
  exact cf_back (S0 := cf_S0 sh) (R0 := cf_R0 Rf) (sh0 := sh) (ad0 := ad) (V := cf_V V) hX hE h5 h6 h7 rfl rfl gz_us_eq (by unfold cf_R0; rw [gz_ur_eq]; exact if_pos rfl) 6 0 ad8 rfl (i16c.mono (by decide))
