/-! THE TWIN's CONSTRUCTOR. Printed by wip/D-99505w/gen/mkini6.py -/
set_option maxRecDepth 100000
/-- the twin's world when its fields below j are made -/
def ti_sh (j : Nat) : gz_S := fun n => if n = (1, 0, 0) then some (6, 69) else if n.1 = 2 ∧ n.2.2 = 0 ∧ n.2.1 < j ∧ tw_len n.2.1 ≠ 0 then some (100, tw_len n.2.1) else none
def ti_rf (j : Nat) : gz_R := fun n f => if n = (1, 0, 0) ∧ f < j ∧ tw_len f ≠ 0 then some (2, f, 0) else none
def ti_w : List Int32 := [32, 112, 97, 115, 115, 101, 115, 32, 104, 111, 108, 100, 115, 32, 97, 115, 107, 115, 32, 119, 104, 101, 110, 32, 111, 114, 32, 97, 110, 100, 32, 110, 111, 116, 32, 116, 114, 97, 105, 116, 32, 111, 119, 110, 32, 111, 116, 104, 101, 114, 32, 103, 114, 105, 112, 32, 112, 114, 105, 99, 101, 32, 119, 111, 114, 116, 104, 32, 115, 112, 105, 114, 105, 116, 32, 115, 104, 111, 111, 107, 32, 112, 117, 114, 115, 101, 32, 107, 105, 110, 32, 100, 97, 121, 32, 111, 110, 32, 112, 101, 114, 115, 111, 110, 32, 104, 111, 114, 115, 101, 32, 97, 116, 32, 103, 108, 111, 118, 101, 32, 98, 97, 114, 101, 32, 115, 108, 105, 110, 103, 32, 112, 97, 121, 32, 99, 111, 108, 100, 32]
def ti_V (i : Nat) : gz_V := fun n j => if n = (2, 17, 0) ∧ j < i then ti_w.getD j 0 else 0
def ti_F : gz_V := gz_up (ti_V 140) (1, 0, 0) 33 (-1)
def ti_0 : gz_S := fun n => if n = (1, 0, 0) then some (6, 69) else none
theorem tw_len_out : ∀ f, 69 ≤ f → tw_len f = 0 := by
  intro f h
  unfold tw_len
  split <;> first | omega | rfl
theorem ti_sh_0 : ti_0 = ti_sh 1 := by
  funext n
  unfold ti_0 ti_sh
  split
  · rfl
  · rw [if_neg]
    rintro ⟨h1, h2, h3, h4⟩
    have h3 : n.2.1 = 0 := by omega
    rw [h3] at h4
    exact h4 rfl
theorem ti_rf_0 : (fun _ _ => none : gz_R) = ti_rf 1 := by
  funext n f
  unfold ti_rf
  rw [if_neg]
  rintro ⟨h1, h3, h4⟩
  have h3 : f = 0 := by omega
  rw [h3] at h4
  exact h4 rfl
theorem ti_sh_69 : ti_sh 69 = tw_S := by
  funext n
  unfold ti_sh tw_S
  have : (n.1 = 2 ∧ n.2.2 = 0 ∧ n.2.1 < 69 ∧ tw_len n.2.1 ≠ 0) ↔ (n.1 = 2 ∧ n.2.2 = 0 ∧ tw_len n.2.1 ≠ 0) := by
    constructor
    · rintro ⟨h1, h2, h3, h4⟩
      exact ⟨h1, h2, h4⟩
    · rintro ⟨h1, h2, h4⟩
      exact ⟨h1, h2, Nat.not_le.mp fun q => h4 (tw_len_out _ q), h4⟩
  simp only [this]
theorem ti_rf_69 : ti_rf 69 = tw_R := by
  funext n f
  unfold ti_rf tw_R
  have : (n = (1, 0, 0) ∧ f < 69 ∧ tw_len f ≠ 0) ↔ (n = (1, 0, 0) ∧ tw_len f ≠ 0) := by
    constructor
    · rintro ⟨h1, h2, h3⟩
      exact ⟨h1, h3⟩
    · rintro ⟨h1, h3⟩
      exact ⟨h1, Nat.not_le.mp fun q => h3 (tw_len_out _ q), h3⟩
  simp only [this]
theorem ti_this {j : Nat} : ti_sh j (1, 0, 0) = some (6, 69) := if_pos rfl
theorem ti_fr {j f : Nat} (h : j ≤ f) : ti_sh j (2, f, 0) = none := by
  unfold ti_sh
  rw [if_neg (by simp), if_neg]
  rintro ⟨-, -, h3, -⟩
  have h3 : f < j := h3
  omega
theorem ti_S {f L : Nat} (h : tw_S (2, f, 0) = some (100, L)) : tw_len f = L ∧ tw_len f ≠ 0 := by
  unfold tw_S at h
  rw [if_neg (by simp)] at h
  split at h
  · rename_i q
    cases h
    exact ⟨rfl, q.2.2⟩
  · cases h
theorem ti_al {j f L : Nat} (h : tw_S (2, f, 0) = some (100, L)) (hj : f < j) : ti_sh j (2, f, 0) = some (100, L) := by
  unfold ti_sh
  rw [if_neg (by simp), if_pos ⟨rfl, rfl, hj, (ti_S h).2⟩]
  rw [← (ti_S h).1]
theorem ti_us {f g L : Nat} (h : tw_S (2, f, 0) = some (100, L)) (hg : f < g) (hn : ∀ b, b < g → f < b → tw_len b = 0) : gz_us (ti_sh f) (2, f, 0) (100, L) = ti_sh g := by
  obtain ⟨h1, h2⟩ := ti_S h
  funext ⟨a, b, c⟩
  unfold gz_us ti_sh
  by_cases e : ((a, b, c) : gz_N) = (2, f, 0)
  · rw [if_pos e]
    cases e
    rw [if_neg (by simp), if_pos ⟨rfl, rfl, hg, h2⟩]
    rw [h1]
  · rw [if_neg e]
    have q : (a = 2 ∧ c = 0 ∧ b < f ∧ tw_len b ≠ 0) ↔ (a = 2 ∧ c = 0 ∧ b < g ∧ tw_len b ≠ 0) := by
      constructor
      · rintro ⟨q1, q2, q3, q4⟩
        exact ⟨q1, q2, by omega, q4⟩
      · rintro ⟨q1, q2, q3, q4⟩
        refine ⟨q1, q2, ?_, q4⟩
        rcases Nat.lt_trichotomy b f with r | r | r
        · exact r
        · subst r; subst q1; subst q2
          exact absurd rfl e
        · exact absurd (hn b q3 r) q4
    simp only [q]
theorem ti_ur {f g : Nat} (h2 : tw_len f ≠ 0) (hg : f < g) (hn : ∀ b, b < g → f < b → tw_len b = 0) : gz_ur (ti_rf f) (1, 0, 0) f (some (2, f, 0)) = ti_rf g := by
  funext n i
  unfold gz_ur ti_rf
  by_cases e : n = (1, 0, 0)
  · subst e
    rw [if_pos rfl]
    by_cases e2 : i = f
    · subst e2
      rw [if_pos rfl, if_pos ⟨rfl, hg, h2⟩]
    · rw [if_neg e2]
      have q : (((1, 0, 0) : gz_N) = (1, 0, 0) ∧ i < f ∧ tw_len i ≠ 0) ↔ (((1, 0, 0) : gz_N) = (1, 0, 0) ∧ i < g ∧ tw_len i ≠ 0) := by
        constructor
        · rintro ⟨q1, q3, q4⟩
          exact ⟨q1, by omega, q4⟩
        · rintro ⟨q1, q3, q4⟩
          refine ⟨q1, ?_, q4⟩
          rcases Nat.lt_trichotomy i f with r | r | r
          · exact r
          · exact absurd r e2
          · exact absurd (hn i q3 r) q4
      exact ite_congr (propext q) (fun _ => rfl) (fun _ => rfl)
  · rw [if_neg e, if_neg (fun q => e q.1), if_neg (fun q => e q.1)]
theorem ti_up {j g : Nat} {n : gz_N} (h : j ≤ g) (hn : ti_sh j n ≠ none) : ti_sh g n ≠ none := by
  unfold ti_sh at hn ⊢
  split
  · exact fun z => by cases z
  · rename_i q
    rw [if_neg q] at hn
    split at hn
    · rename_i r
      rw [if_pos ⟨r.1, r.2.1, by omega, r.2.2.2⟩]
      exact fun z => by cases z
    · exact absurd rfl hn
theorem ti_up0 {j : Nat} (n : gz_N) (hn : ti_0 n ≠ none) : ti_sh j n ≠ none := by
  unfold ti_0 at hn
  by_cases q : n = (1, 0, 0)
  · subst q
    exact gz_some_nn ti_this
  · rw [if_neg q] at hn
    exact absurd rfl hn
theorem ti_zr {j : Nat} {n : gz_N} (h : ti_sh j n = none) : ti_rf j n = fun _ => none := by
  funext f
  unfold ti_rf
  rw [if_neg]
  rintro ⟨q, -⟩
  subst q
  rw [ti_this] at h
  cases h
theorem ti_z1 {i j : Nat} (hj : 17 < j) : gz_z (ti_sh j) (ti_V i) (ti_rf j) := fun n h => by
  refine ⟨?_, ti_zr h⟩
  funext f
  unfold ti_V
  rw [if_neg]
  rintro ⟨q, -⟩
  subst q
  rw [ti_al tw_S17 hj] at h
  cases h
theorem ti_z0 {j : Nat} : gz_z (ti_sh j) (ti_V 0) (ti_rf j) := fun n h => by
  refine ⟨?_, ti_zr h⟩
  funext f
  unfold ti_V
  rw [if_neg]
  rintro ⟨-, q⟩
  omega
theorem ti_z2 {j : Nat} (hj : 17 < j) : gz_z (ti_sh j) ti_F (ti_rf j) := (ti_z1 (i := 140) hj).up (gz_some_nn ti_this)
theorem ti_V_s (i : Nat) {j x : Int32} (hj : j.toNatClampNeg = i) (hx : ti_w.getD i 0 = x) : gz_up (ti_V i) (2, 17, 0) j.toNatClampNeg x = ti_V (i + 1) := by
  subst hx
  rw [hj]
  funext n k
  unfold gz_up ti_V upd
  by_cases e : n = (2, 17, 0)
  · subst e
    rw [if_pos rfl]
    by_cases e2 : k = i
    · subst e2
      rw [if_pos rfl, if_pos ⟨rfl, by omega⟩]
    · rw [if_neg e2]
      have q : (((2, 17, 0) : gz_N) = (2, 17, 0) ∧ k < i) ↔ (((2, 17, 0) : gz_N) = (2, 17, 0) ∧ k < i + 1) := ⟨fun h => ⟨h.1, by omega⟩, fun h => ⟨h.1, by omega⟩⟩
      exact ite_congr (propext q) (fun _ => rfl) (fun _ => rfl)
  · rw [if_neg e, if_neg (fun q => e q.1), if_neg (fun q => e q.1)]
def rm_x6_init : Room := { frames := 1, cells := 36, slots := 15749, locals := 12 }
theorem c_x6_init {l : Launch} {D : va_G} {aC : Nat → ClassId} {ad : gz_A0} : gz_Met l yX6_init cX6_init 1 none rm_x6_init D aC ad ti_0 (ti_V 0) (fun _ _ => none) [.ref (ad (1, 0, 0))] (gz_FN ti_0 ad tw_S tw_R ti_F none) 36 15749 := by
  refine gz_ofW (own := RX6) (mn := "<init>") (lv := [(0, .ref (ad (1, 0, 0)))]) (by decide) rfl rfl (Nat.le_of_ble_eq_true rfl) rfl ?_
  intro X hX _ _ _ h5 h6 h7 hE
  rw [ti_sh_0, ti_rf_0]
  have A0 : gz_ag ti_0 ad ad := gz_ag.rf
  refine gz_aload_n (q := 0) hX dX6_init_0 rfl rfl ?_
  refine gn_obj0 hX q1471 (by decide) dX6_init_1 ?_
  refine gz_aload_n (q := 0) hX dX6_init_4 rfl rfl ?_
  refine gz_bipush (v := 121) hX dX6_init_5 (by decide) ?_
  refine gn_newI (ad := ad) (lvF := fun ad => [(0, .ref (ad (1, 0, 0)))]) (stF := fun ad => [.ref (ad (1, 0, 0))]) (L := 121) (nm := (2, 1, 0)) hX (by decide) (by decide) (by decide) (by decide) (by decide) (ti_z0) (ti_fr (by decide)) (gz_ne0 1 rfl) (fun ad2 ag => by rw [ag _ (Or.inl (gz_some_nn ti_this))]; exact ⟨rfl, rfl⟩) dX6_init_7 (fun ad1 ag1 => ?_)
  have A1 : gz_ag ti_0 ad ad1 := A0.trans ti_up0 ag1
  rw [ti_us (g := 2) tw_S1 (by decide) (by decide)]
  refine gn_putR (ci := 6) hX in_X6 (gz_apart hX in_X6 tyX6 tyX6_ok nmX6 rfl) (by decide) rfl ti_this (by decide) 1 (by decide) q1473 rfl rfl rfl (tyX6_ok 1 (by decide)) rfl rfl (gz_some_nn (ti_al tw_S1 (by decide))) dX6_init_9 ?_
  rw [ti_ur (g := 2) (by decide) (by decide) (by decide)]
  refine gz_aload_n (q := 0) hX dX6_init_12 rfl rfl ?_
  refine gz_sipush (v := 726) hX dX6_init_13 (by decide) ?_
  refine gn_newI (ad := ad1) (lvF := fun ad => [(0, .ref (ad (1, 0, 0)))]) (stF := fun ad => [.ref (ad (1, 0, 0))]) (L := 726) (nm := (2, 2, 0)) hX (by decide) (by decide) (by decide) (by decide) (by decide) (ti_z0) (ti_fr (by decide)) (gz_ne0 1 rfl) (fun ad2 ag => by rw [ag _ (Or.inl (gz_some_nn ti_this))]; exact ⟨rfl, rfl⟩) dX6_init_16 (fun ad2 ag2 => ?_)
  have A2 : gz_ag ti_0 ad ad2 := A1.trans ti_up0 ag2
  rw [ti_us (g := 4) tw_S2 (by decide) (by decide)]
  refine gn_putR (ci := 6) hX in_X6 (gz_apart hX in_X6 tyX6 tyX6_ok nmX6 rfl) (by decide) rfl ti_this (by decide) 2 (by decide) q1474 rfl rfl rfl (tyX6_ok 2 (by decide)) rfl rfl (gz_some_nn (ti_al tw_S2 (by decide))) dX6_init_18 ?_
  rw [ti_ur (g := 4) (by decide) (by decide) (by decide)]
  refine gz_aload_n (q := 0) hX dX6_init_21 rfl rfl ?_
  refine gz_bipush (v := 121) hX dX6_init_22 (by decide) ?_
  refine gn_newI (ad := ad2) (lvF := fun ad => [(0, .ref (ad (1, 0, 0)))]) (stF := fun ad => [.ref (ad (1, 0, 0))]) (L := 121) (nm := (2, 4, 0)) hX (by decide) (by decide) (by decide) (by decide) (by decide) (ti_z0) (ti_fr (by decide)) (gz_ne0 1 rfl) (fun ad2 ag => by rw [ag _ (Or.inl (gz_some_nn ti_this))]; exact ⟨rfl, rfl⟩) dX6_init_24 (fun ad3 ag3 => ?_)
  have A3 : gz_ag ti_0 ad ad3 := A2.trans ti_up0 ag3
  rw [ti_us (g := 8) tw_S4 (by decide) (by decide)]
  refine gn_putR (ci := 6) hX in_X6 (gz_apart hX in_X6 tyX6 tyX6_ok nmX6 rfl) (by decide) rfl ti_this (by decide) 4 (by decide) q1476 rfl rfl rfl (tyX6_ok 4 (by decide)) rfl rfl (gz_some_nn (ti_al tw_S4 (by decide))) dX6_init_26 ?_
  rw [ti_ur (g := 8) (by decide) (by decide) (by decide)]
  refine gz_aload_n (q := 0) hX dX6_init_29 rfl rfl ?_
  refine gz_bipush (v := 10) hX dX6_init_30 (by decide) ?_
  refine gn_newI (ad := ad3) (lvF := fun ad => [(0, .ref (ad (1, 0, 0)))]) (stF := fun ad => [.ref (ad (1, 0, 0))]) (L := 10) (nm := (2, 8, 0)) hX (by decide) (by decide) (by decide) (by decide) (by decide) (ti_z0) (ti_fr (by decide)) (gz_ne0 1 rfl) (fun ad2 ag => by rw [ag _ (Or.inl (gz_some_nn ti_this))]; exact ⟨rfl, rfl⟩) dX6_init_32 (fun ad4 ag4 => ?_)
  have A4 : gz_ag ti_0 ad ad4 := A3.trans ti_up0 ag4
  rw [ti_us (g := 9) tw_S8 (by decide) (by decide)]
  refine gn_putR (ci := 6) hX in_X6 (gz_apart hX in_X6 tyX6 tyX6_ok nmX6 rfl) (by decide) rfl ti_this (by decide) 8 (by decide) q1480 rfl rfl rfl (tyX6_ok 8 (by decide)) rfl rfl (gz_some_nn (ti_al tw_S8 (by decide))) dX6_init_34 ?_
  rw [ti_ur (g := 9) (by decide) (by decide) (by decide)]
  refine gz_aload_n (q := 0) hX dX6_init_37 rfl rfl ?_
  refine gz_bipush (v := 10) hX dX6_init_38 (by decide) ?_
  refine gn_newI (ad := ad4) (lvF := fun ad => [(0, .ref (ad (1, 0, 0)))]) (stF := fun ad => [.ref (ad (1, 0, 0))]) (L := 10) (nm := (2, 9, 0)) hX (by decide) (by decide) (by decide) (by decide) (by decide) (ti_z0) (ti_fr (by decide)) (gz_ne0 1 rfl) (fun ad2 ag => by rw [ag _ (Or.inl (gz_some_nn ti_this))]; exact ⟨rfl, rfl⟩) dX6_init_40 (fun ad5 ag5 => ?_)
  have A5 : gz_ag ti_0 ad ad5 := A4.trans ti_up0 ag5
  rw [ti_us (g := 10) tw_S9 (by decide) (by decide)]
  refine gn_putR (ci := 6) hX in_X6 (gz_apart hX in_X6 tyX6 tyX6_ok nmX6 rfl) (by decide) rfl ti_this (by decide) 9 (by decide) q1481 rfl rfl rfl (tyX6_ok 9 (by decide)) rfl rfl (gz_some_nn (ti_al tw_S9 (by decide))) dX6_init_42 ?_
  rw [ti_ur (g := 10) (by decide) (by decide) (by decide)]
  refine gz_aload_n (q := 0) hX dX6_init_45 rfl rfl ?_
  refine gz_sipush (v := 600) hX dX6_init_46 (by decide) ?_
  refine gn_newI (ad := ad5) (lvF := fun ad => [(0, .ref (ad (1, 0, 0)))]) (stF := fun ad => [.ref (ad (1, 0, 0))]) (L := 600) (nm := (2, 10, 0)) hX (by decide) (by decide) (by decide) (by decide) (by decide) (ti_z0) (ti_fr (by decide)) (gz_ne0 1 rfl) (fun ad2 ag => by rw [ag _ (Or.inl (gz_some_nn ti_this))]; exact ⟨rfl, rfl⟩) dX6_init_49 (fun ad6 ag6 => ?_)
  have A6 : gz_ag ti_0 ad ad6 := A5.trans ti_up0 ag6
  rw [ti_us (g := 11) tw_S10 (by decide) (by decide)]
  refine gn_putR (ci := 6) hX in_X6 (gz_apart hX in_X6 tyX6 tyX6_ok nmX6 rfl) (by decide) rfl ti_this (by decide) 10 (by decide) q1482 rfl rfl rfl (tyX6_ok 10 (by decide)) rfl rfl (gz_some_nn (ti_al tw_S10 (by decide))) dX6_init_51 ?_
  rw [ti_ur (g := 11) (by decide) (by decide) (by decide)]
  refine gz_aload_n (q := 0) hX dX6_init_54 rfl rfl ?_
  refine gz_sipush (v := 400) hX dX6_init_55 (by decide) ?_
  refine gn_newI (ad := ad6) (lvF := fun ad => [(0, .ref (ad (1, 0, 0)))]) (stF := fun ad => [.ref (ad (1, 0, 0))]) (L := 400) (nm := (2, 11, 0)) hX (by decide) (by decide) (by decide) (by decide) (by decide) (ti_z0) (ti_fr (by decide)) (gz_ne0 1 rfl) (fun ad2 ag => by rw [ag _ (Or.inl (gz_some_nn ti_this))]; exact ⟨rfl, rfl⟩) dX6_init_58 (fun ad7 ag7 => ?_)
  have A7 : gz_ag ti_0 ad ad7 := A6.trans ti_up0 ag7
  rw [ti_us (g := 17) tw_S11 (by decide) (by decide)]
  refine gn_putR (ci := 6) hX in_X6 (gz_apart hX in_X6 tyX6 tyX6_ok nmX6 rfl) (by decide) rfl ti_this (by decide) 11 (by decide) q1483 rfl rfl rfl (tyX6_ok 11 (by decide)) rfl rfl (gz_some_nn (ti_al tw_S11 (by decide))) dX6_init_60 ?_
  rw [ti_ur (g := 17) (by decide) (by decide) (by decide)]
  refine gz_aload_n (q := 0) hX dX6_init_63 rfl rfl ?_
  refine gz_sipush (v := 140) hX dX6_init_64 (by decide) ?_
  refine gn_newI (ad := ad7) (lvF := fun ad => [(0, .ref (ad (1, 0, 0)))]) (stF := fun ad => [.ref (ad (1, 0, 0))]) (L := 140) (nm := (2, 17, 0)) hX (by decide) (by decide) (by decide) (by decide) (by decide) (ti_z0) (ti_fr (by decide)) (gz_ne0 1 rfl) (fun ad2 ag => by rw [ag _ (Or.inl (gz_some_nn ti_this))]; exact ⟨rfl, rfl⟩) dX6_init_67 (fun ad8 ag8 => ?_)
  have A8 : gz_ag ti_0 ad ad8 := A7.trans ti_up0 ag8
  rw [ti_us (g := 18) tw_S17 (by decide) (by decide)]
  refine gz_dupa hX dX6_init_69 ?_
  refine gz_iconst (v := 0) hX dX6_init_70 (by decide) ?_
  refine gz_bipush (v := 32) hX dX6_init_71 (by decide) ?_
  refine gz_iast (L := 140) hX (ti_al tw_S17 (by decide)) (gz_ne0 1 rfl) (by unfold vp_in; decide) dX6_init_73 (ti_V_s 0 rfl (by decide)) ?_
  refine gz_dupa hX dX6_init_74 ?_
  refine gz_iconst (v := 1) hX dX6_init_75 (by decide) ?_
  refine gz_bipush (v := 112) hX dX6_init_76 (by decide) ?_
  refine gz_iast (L := 140) hX (ti_al tw_S17 (by decide)) (gz_ne0 1 rfl) (by unfold vp_in; decide) dX6_init_78 (ti_V_s 1 rfl (by decide)) ?_
  refine gz_dupa hX dX6_init_79 ?_
  refine gz_iconst (v := 2) hX dX6_init_80 (by decide) ?_
  refine gz_bipush (v := 97) hX dX6_init_81 (by decide) ?_
  refine gz_iast (L := 140) hX (ti_al tw_S17 (by decide)) (gz_ne0 1 rfl) (by unfold vp_in; decide) dX6_init_83 (ti_V_s 2 rfl (by decide)) ?_
  refine gz_dupa hX dX6_init_84 ?_
  refine gz_iconst (v := 3) hX dX6_init_85 (by decide) ?_
  refine gz_bipush (v := 115) hX dX6_init_86 (by decide) ?_
  refine gz_iast (L := 140) hX (ti_al tw_S17 (by decide)) (gz_ne0 1 rfl) (by unfold vp_in; decide) dX6_init_88 (ti_V_s 3 rfl (by decide)) ?_
  refine gz_dupa hX dX6_init_89 ?_
  refine gz_iconst (v := 4) hX dX6_init_90 (by decide) ?_
  refine gz_bipush (v := 115) hX dX6_init_91 (by decide) ?_
  refine gz_iast (L := 140) hX (ti_al tw_S17 (by decide)) (gz_ne0 1 rfl) (by unfold vp_in; decide) dX6_init_93 (ti_V_s 4 rfl (by decide)) ?_
  refine gz_dupa hX dX6_init_94 ?_
  refine gz_iconst (v := 5) hX dX6_init_95 (by decide) ?_
  refine gz_bipush (v := 101) hX dX6_init_96 (by decide) ?_
  refine gz_iast (L := 140) hX (ti_al tw_S17 (by decide)) (gz_ne0 1 rfl) (by unfold vp_in; decide) dX6_init_98 (ti_V_s 5 rfl (by decide)) ?_
  refine gz_dupa hX dX6_init_99 ?_
  refine gz_bipush (v := 6) hX dX6_init_100 (by decide) ?_
  refine gz_bipush (v := 115) hX dX6_init_102 (by decide) ?_
  refine gz_iast (L := 140) hX (ti_al tw_S17 (by decide)) (gz_ne0 1 rfl) (by unfold vp_in; decide) dX6_init_104 (ti_V_s 6 rfl (by decide)) ?_
  refine gz_dupa hX dX6_init_105 ?_
  refine gz_bipush (v := 7) hX dX6_init_106 (by decide) ?_
  refine gz_bipush (v := 32) hX dX6_init_108 (by decide) ?_
  refine gz_iast (L := 140) hX (ti_al tw_S17 (by decide)) (gz_ne0 1 rfl) (by unfold vp_in; decide) dX6_init_110 (ti_V_s 7 rfl (by decide)) ?_
  refine gz_dupa hX dX6_init_111 ?_
  refine gz_bipush (v := 8) hX dX6_init_112 (by decide) ?_
  refine gz_bipush (v := 104) hX dX6_init_114 (by decide) ?_
  refine gz_iast (L := 140) hX (ti_al tw_S17 (by decide)) (gz_ne0 1 rfl) (by unfold vp_in; decide) dX6_init_116 (ti_V_s 8 rfl (by decide)) ?_
  refine gz_dupa hX dX6_init_117 ?_
  refine gz_bipush (v := 9) hX dX6_init_118 (by decide) ?_
  refine gz_bipush (v := 111) hX dX6_init_120 (by decide) ?_
  refine gz_iast (L := 140) hX (ti_al tw_S17 (by decide)) (gz_ne0 1 rfl) (by unfold vp_in; decide) dX6_init_122 (ti_V_s 9 rfl (by decide)) ?_
  refine gz_dupa hX dX6_init_123 ?_
  refine gz_bipush (v := 10) hX dX6_init_124 (by decide) ?_
  refine gz_bipush (v := 108) hX dX6_init_126 (by decide) ?_
  refine gz_iast (L := 140) hX (ti_al tw_S17 (by decide)) (gz_ne0 1 rfl) (by unfold vp_in; decide) dX6_init_128 (ti_V_s 10 rfl (by decide)) ?_
  refine gz_dupa hX dX6_init_129 ?_
  refine gz_bipush (v := 11) hX dX6_init_130 (by decide) ?_
  refine gz_bipush (v := 100) hX dX6_init_132 (by decide) ?_
  refine gz_iast (L := 140) hX (ti_al tw_S17 (by decide)) (gz_ne0 1 rfl) (by unfold vp_in; decide) dX6_init_134 (ti_V_s 11 rfl (by decide)) ?_
  refine gz_dupa hX dX6_init_135 ?_
  refine gz_bipush (v := 12) hX dX6_init_136 (by decide) ?_
  refine gz_bipush (v := 115) hX dX6_init_138 (by decide) ?_
  refine gz_iast (L := 140) hX (ti_al tw_S17 (by decide)) (gz_ne0 1 rfl) (by unfold vp_in; decide) dX6_init_140 (ti_V_s 12 rfl (by decide)) ?_
  refine gz_dupa hX dX6_init_141 ?_
  refine gz_bipush (v := 13) hX dX6_init_142 (by decide) ?_
  refine gz_bipush (v := 32) hX dX6_init_144 (by decide) ?_
  refine gz_iast (L := 140) hX (ti_al tw_S17 (by decide)) (gz_ne0 1 rfl) (by unfold vp_in; decide) dX6_init_146 (ti_V_s 13 rfl (by decide)) ?_
  refine gz_dupa hX dX6_init_147 ?_
  refine gz_bipush (v := 14) hX dX6_init_148 (by decide) ?_
  refine gz_bipush (v := 97) hX dX6_init_150 (by decide) ?_
  refine gz_iast (L := 140) hX (ti_al tw_S17 (by decide)) (gz_ne0 1 rfl) (by unfold vp_in; decide) dX6_init_152 (ti_V_s 14 rfl (by decide)) ?_
  refine gz_dupa hX dX6_init_153 ?_
  refine gz_bipush (v := 15) hX dX6_init_154 (by decide) ?_
  refine gz_bipush (v := 115) hX dX6_init_156 (by decide) ?_
  refine gz_iast (L := 140) hX (ti_al tw_S17 (by decide)) (gz_ne0 1 rfl) (by unfold vp_in; decide) dX6_init_158 (ti_V_s 15 rfl (by decide)) ?_
  refine gz_dupa hX dX6_init_159 ?_
  refine gz_bipush (v := 16) hX dX6_init_160 (by decide) ?_
  refine gz_bipush (v := 107) hX dX6_init_162 (by decide) ?_
  refine gz_iast (L := 140) hX (ti_al tw_S17 (by decide)) (gz_ne0 1 rfl) (by unfold vp_in; decide) dX6_init_164 (ti_V_s 16 rfl (by decide)) ?_
  refine gz_dupa hX dX6_init_165 ?_
  refine gz_bipush (v := 17) hX dX6_init_166 (by decide) ?_
  refine gz_bipush (v := 115) hX dX6_init_168 (by decide) ?_
  refine gz_iast (L := 140) hX (ti_al tw_S17 (by decide)) (gz_ne0 1 rfl) (by unfold vp_in; decide) dX6_init_170 (ti_V_s 17 rfl (by decide)) ?_
  refine gz_dupa hX dX6_init_171 ?_
  refine gz_bipush (v := 18) hX dX6_init_172 (by decide) ?_
  refine gz_bipush (v := 32) hX dX6_init_174 (by decide) ?_
  refine gz_iast (L := 140) hX (ti_al tw_S17 (by decide)) (gz_ne0 1 rfl) (by unfold vp_in; decide) dX6_init_176 (ti_V_s 18 rfl (by decide)) ?_
  refine gz_dupa hX dX6_init_177 ?_
  refine gz_bipush (v := 19) hX dX6_init_178 (by decide) ?_
  refine gz_bipush (v := 119) hX dX6_init_180 (by decide) ?_
  refine gz_iast (L := 140) hX (ti_al tw_S17 (by decide)) (gz_ne0 1 rfl) (by unfold vp_in; decide) dX6_init_182 (ti_V_s 19 rfl (by decide)) ?_
  refine gz_dupa hX dX6_init_183 ?_
  refine gz_bipush (v := 20) hX dX6_init_184 (by decide) ?_
  refine gz_bipush (v := 104) hX dX6_init_186 (by decide) ?_
  refine gz_iast (L := 140) hX (ti_al tw_S17 (by decide)) (gz_ne0 1 rfl) (by unfold vp_in; decide) dX6_init_188 (ti_V_s 20 rfl (by decide)) ?_
  refine gz_dupa hX dX6_init_189 ?_
  refine gz_bipush (v := 21) hX dX6_init_190 (by decide) ?_
  refine gz_bipush (v := 101) hX dX6_init_192 (by decide) ?_
  refine gz_iast (L := 140) hX (ti_al tw_S17 (by decide)) (gz_ne0 1 rfl) (by unfold vp_in; decide) dX6_init_194 (ti_V_s 21 rfl (by decide)) ?_
  refine gz_dupa hX dX6_init_195 ?_
  refine gz_bipush (v := 22) hX dX6_init_196 (by decide) ?_
  refine gz_bipush (v := 110) hX dX6_init_198 (by decide) ?_
  refine gz_iast (L := 140) hX (ti_al tw_S17 (by decide)) (gz_ne0 1 rfl) (by unfold vp_in; decide) dX6_init_200 (ti_V_s 22 rfl (by decide)) ?_
  refine gz_dupa hX dX6_init_201 ?_
  refine gz_bipush (v := 23) hX dX6_init_202 (by decide) ?_
  refine gz_bipush (v := 32) hX dX6_init_204 (by decide) ?_
  refine gz_iast (L := 140) hX (ti_al tw_S17 (by decide)) (gz_ne0 1 rfl) (by unfold vp_in; decide) dX6_init_206 (ti_V_s 23 rfl (by decide)) ?_
  refine gz_dupa hX dX6_init_207 ?_
  refine gz_bipush (v := 24) hX dX6_init_208 (by decide) ?_
  refine gz_bipush (v := 111) hX dX6_init_210 (by decide) ?_
  refine gz_iast (L := 140) hX (ti_al tw_S17 (by decide)) (gz_ne0 1 rfl) (by unfold vp_in; decide) dX6_init_212 (ti_V_s 24 rfl (by decide)) ?_
  refine gz_dupa hX dX6_init_213 ?_
  refine gz_bipush (v := 25) hX dX6_init_214 (by decide) ?_
  refine gz_bipush (v := 114) hX dX6_init_216 (by decide) ?_
  refine gz_iast (L := 140) hX (ti_al tw_S17 (by decide)) (gz_ne0 1 rfl) (by unfold vp_in; decide) dX6_init_218 (ti_V_s 25 rfl (by decide)) ?_
  refine gz_dupa hX dX6_init_219 ?_
  refine gz_bipush (v := 26) hX dX6_init_220 (by decide) ?_
  refine gz_bipush (v := 32) hX dX6_init_222 (by decide) ?_
  refine gz_iast (L := 140) hX (ti_al tw_S17 (by decide)) (gz_ne0 1 rfl) (by unfold vp_in; decide) dX6_init_224 (ti_V_s 26 rfl (by decide)) ?_
  refine gz_dupa hX dX6_init_225 ?_
  refine gz_bipush (v := 27) hX dX6_init_226 (by decide) ?_
  refine gz_bipush (v := 97) hX dX6_init_228 (by decide) ?_
  refine gz_iast (L := 140) hX (ti_al tw_S17 (by decide)) (gz_ne0 1 rfl) (by unfold vp_in; decide) dX6_init_230 (ti_V_s 27 rfl (by decide)) ?_
  refine gz_dupa hX dX6_init_231 ?_
  refine gz_bipush (v := 28) hX dX6_init_232 (by decide) ?_
  refine gz_bipush (v := 110) hX dX6_init_234 (by decide) ?_
  refine gz_iast (L := 140) hX (ti_al tw_S17 (by decide)) (gz_ne0 1 rfl) (by unfold vp_in; decide) dX6_init_236 (ti_V_s 28 rfl (by decide)) ?_
  refine gz_dupa hX dX6_init_237 ?_
  refine gz_bipush (v := 29) hX dX6_init_238 (by decide) ?_
  refine gz_bipush (v := 100) hX dX6_init_240 (by decide) ?_
  refine gz_iast (L := 140) hX (ti_al tw_S17 (by decide)) (gz_ne0 1 rfl) (by unfold vp_in; decide) dX6_init_242 (ti_V_s 29 rfl (by decide)) ?_
  refine gz_dupa hX dX6_init_243 ?_
  refine gz_bipush (v := 30) hX dX6_init_244 (by decide) ?_
  refine gz_bipush (v := 32) hX dX6_init_246 (by decide) ?_
  refine gz_iast (L := 140) hX (ti_al tw_S17 (by decide)) (gz_ne0 1 rfl) (by unfold vp_in; decide) dX6_init_248 (ti_V_s 30 rfl (by decide)) ?_
  refine gz_dupa hX dX6_init_249 ?_
  refine gz_bipush (v := 31) hX dX6_init_250 (by decide) ?_
  refine gz_bipush (v := 110) hX dX6_init_252 (by decide) ?_
  refine gz_iast (L := 140) hX (ti_al tw_S17 (by decide)) (gz_ne0 1 rfl) (by unfold vp_in; decide) dX6_init_254 (ti_V_s 31 rfl (by decide)) ?_
  refine gz_dupa hX dX6_init_255 ?_
  refine gz_bipush (v := 32) hX dX6_init_256 (by decide) ?_
  refine gz_bipush (v := 111) hX dX6_init_258 (by decide) ?_
  refine gz_iast (L := 140) hX (ti_al tw_S17 (by decide)) (gz_ne0 1 rfl) (by unfold vp_in; decide) dX6_init_260 (ti_V_s 32 rfl (by decide)) ?_
  refine gz_dupa hX dX6_init_261 ?_
  refine gz_bipush (v := 33) hX dX6_init_262 (by decide) ?_
  refine gz_bipush (v := 116) hX dX6_init_264 (by decide) ?_
  refine gz_iast (L := 140) hX (ti_al tw_S17 (by decide)) (gz_ne0 1 rfl) (by unfold vp_in; decide) dX6_init_266 (ti_V_s 33 rfl (by decide)) ?_
  refine gz_dupa hX dX6_init_267 ?_
  refine gz_bipush (v := 34) hX dX6_init_268 (by decide) ?_
  refine gz_bipush (v := 32) hX dX6_init_270 (by decide) ?_
  refine gz_iast (L := 140) hX (ti_al tw_S17 (by decide)) (gz_ne0 1 rfl) (by unfold vp_in; decide) dX6_init_272 (ti_V_s 34 rfl (by decide)) ?_
  refine gz_dupa hX dX6_init_273 ?_
  refine gz_bipush (v := 35) hX dX6_init_274 (by decide) ?_
  refine gz_bipush (v := 116) hX dX6_init_276 (by decide) ?_
  refine gz_iast (L := 140) hX (ti_al tw_S17 (by decide)) (gz_ne0 1 rfl) (by unfold vp_in; decide) dX6_init_278 (ti_V_s 35 rfl (by decide)) ?_
  refine gz_dupa hX dX6_init_279 ?_
  refine gz_bipush (v := 36) hX dX6_init_280 (by decide) ?_
  refine gz_bipush (v := 114) hX dX6_init_282 (by decide) ?_
  refine gz_iast (L := 140) hX (ti_al tw_S17 (by decide)) (gz_ne0 1 rfl) (by unfold vp_in; decide) dX6_init_284 (ti_V_s 36 rfl (by decide)) ?_
  refine gz_dupa hX dX6_init_285 ?_
  refine gz_bipush (v := 37) hX dX6_init_286 (by decide) ?_
  refine gz_bipush (v := 97) hX dX6_init_288 (by decide) ?_
  refine gz_iast (L := 140) hX (ti_al tw_S17 (by decide)) (gz_ne0 1 rfl) (by unfold vp_in; decide) dX6_init_290 (ti_V_s 37 rfl (by decide)) ?_
  refine gz_dupa hX dX6_init_291 ?_
  refine gz_bipush (v := 38) hX dX6_init_292 (by decide) ?_
  refine gz_bipush (v := 105) hX dX6_init_294 (by decide) ?_
  refine gz_iast (L := 140) hX (ti_al tw_S17 (by decide)) (gz_ne0 1 rfl) (by unfold vp_in; decide) dX6_init_296 (ti_V_s 38 rfl (by decide)) ?_
  refine gz_dupa hX dX6_init_297 ?_
  refine gz_bipush (v := 39) hX dX6_init_298 (by decide) ?_
  refine gz_bipush (v := 116) hX dX6_init_300 (by decide) ?_
  refine gz_iast (L := 140) hX (ti_al tw_S17 (by decide)) (gz_ne0 1 rfl) (by unfold vp_in; decide) dX6_init_302 (ti_V_s 39 rfl (by decide)) ?_
  refine gz_dupa hX dX6_init_303 ?_
  refine gz_bipush (v := 40) hX dX6_init_304 (by decide) ?_
  refine gz_bipush (v := 32) hX dX6_init_306 (by decide) ?_
  refine gz_iast (L := 140) hX (ti_al tw_S17 (by decide)) (gz_ne0 1 rfl) (by unfold vp_in; decide) dX6_init_308 (ti_V_s 40 rfl (by decide)) ?_
  refine gz_dupa hX dX6_init_309 ?_
  refine gz_bipush (v := 41) hX dX6_init_310 (by decide) ?_
  refine gz_bipush (v := 111) hX dX6_init_312 (by decide) ?_
  refine gz_iast (L := 140) hX (ti_al tw_S17 (by decide)) (gz_ne0 1 rfl) (by unfold vp_in; decide) dX6_init_314 (ti_V_s 41 rfl (by decide)) ?_
  refine gz_dupa hX dX6_init_315 ?_
  refine gz_bipush (v := 42) hX dX6_init_316 (by decide) ?_
  refine gz_bipush (v := 119) hX dX6_init_318 (by decide) ?_
  refine gz_iast (L := 140) hX (ti_al tw_S17 (by decide)) (gz_ne0 1 rfl) (by unfold vp_in; decide) dX6_init_320 (ti_V_s 42 rfl (by decide)) ?_
  refine gz_dupa hX dX6_init_321 ?_
  refine gz_bipush (v := 43) hX dX6_init_322 (by decide) ?_
  refine gz_bipush (v := 110) hX dX6_init_324 (by decide) ?_
  refine gz_iast (L := 140) hX (ti_al tw_S17 (by decide)) (gz_ne0 1 rfl) (by unfold vp_in; decide) dX6_init_326 (ti_V_s 43 rfl (by decide)) ?_
  refine gz_dupa hX dX6_init_327 ?_
  refine gz_bipush (v := 44) hX dX6_init_328 (by decide) ?_
  refine gz_bipush (v := 32) hX dX6_init_330 (by decide) ?_
  refine gz_iast (L := 140) hX (ti_al tw_S17 (by decide)) (gz_ne0 1 rfl) (by unfold vp_in; decide) dX6_init_332 (ti_V_s 44 rfl (by decide)) ?_
  refine gz_dupa hX dX6_init_333 ?_
  refine gz_bipush (v := 45) hX dX6_init_334 (by decide) ?_
  refine gz_bipush (v := 111) hX dX6_init_336 (by decide) ?_
  refine gz_iast (L := 140) hX (ti_al tw_S17 (by decide)) (gz_ne0 1 rfl) (by unfold vp_in; decide) dX6_init_338 (ti_V_s 45 rfl (by decide)) ?_
  refine gz_dupa hX dX6_init_339 ?_
  refine gz_bipush (v := 46) hX dX6_init_340 (by decide) ?_
  refine gz_bipush (v := 116) hX dX6_init_342 (by decide) ?_
  refine gz_iast (L := 140) hX (ti_al tw_S17 (by decide)) (gz_ne0 1 rfl) (by unfold vp_in; decide) dX6_init_344 (ti_V_s 46 rfl (by decide)) ?_
  refine gz_dupa hX dX6_init_345 ?_
  refine gz_bipush (v := 47) hX dX6_init_346 (by decide) ?_
  refine gz_bipush (v := 104) hX dX6_init_348 (by decide) ?_
  refine gz_iast (L := 140) hX (ti_al tw_S17 (by decide)) (gz_ne0 1 rfl) (by unfold vp_in; decide) dX6_init_350 (ti_V_s 47 rfl (by decide)) ?_
  refine gz_dupa hX dX6_init_351 ?_
  refine gz_bipush (v := 48) hX dX6_init_352 (by decide) ?_
  refine gz_bipush (v := 101) hX dX6_init_354 (by decide) ?_
  refine gz_iast (L := 140) hX (ti_al tw_S17 (by decide)) (gz_ne0 1 rfl) (by unfold vp_in; decide) dX6_init_356 (ti_V_s 48 rfl (by decide)) ?_
  refine gz_dupa hX dX6_init_357 ?_
  refine gz_bipush (v := 49) hX dX6_init_358 (by decide) ?_
  refine gz_bipush (v := 114) hX dX6_init_360 (by decide) ?_
  refine gz_iast (L := 140) hX (ti_al tw_S17 (by decide)) (gz_ne0 1 rfl) (by unfold vp_in; decide) dX6_init_362 (ti_V_s 49 rfl (by decide)) ?_
  refine gz_dupa hX dX6_init_363 ?_
  refine gz_bipush (v := 50) hX dX6_init_364 (by decide) ?_
  refine gz_bipush (v := 32) hX dX6_init_366 (by decide) ?_
  refine gz_iast (L := 140) hX (ti_al tw_S17 (by decide)) (gz_ne0 1 rfl) (by unfold vp_in; decide) dX6_init_368 (ti_V_s 50 rfl (by decide)) ?_
  refine gz_dupa hX dX6_init_369 ?_
  refine gz_bipush (v := 51) hX dX6_init_370 (by decide) ?_
  refine gz_bipush (v := 103) hX dX6_init_372 (by decide) ?_
  refine gz_iast (L := 140) hX (ti_al tw_S17 (by decide)) (gz_ne0 1 rfl) (by unfold vp_in; decide) dX6_init_374 (ti_V_s 51 rfl (by decide)) ?_
  refine gz_dupa hX dX6_init_375 ?_
  refine gz_bipush (v := 52) hX dX6_init_376 (by decide) ?_
  refine gz_bipush (v := 114) hX dX6_init_378 (by decide) ?_
  refine gz_iast (L := 140) hX (ti_al tw_S17 (by decide)) (gz_ne0 1 rfl) (by unfold vp_in; decide) dX6_init_380 (ti_V_s 52 rfl (by decide)) ?_
  refine gz_dupa hX dX6_init_381 ?_
  refine gz_bipush (v := 53) hX dX6_init_382 (by decide) ?_
  refine gz_bipush (v := 105) hX dX6_init_384 (by decide) ?_
  refine gz_iast (L := 140) hX (ti_al tw_S17 (by decide)) (gz_ne0 1 rfl) (by unfold vp_in; decide) dX6_init_386 (ti_V_s 53 rfl (by decide)) ?_
  refine gz_dupa hX dX6_init_387 ?_
  refine gz_bipush (v := 54) hX dX6_init_388 (by decide) ?_
  refine gz_bipush (v := 112) hX dX6_init_390 (by decide) ?_
  refine gz_iast (L := 140) hX (ti_al tw_S17 (by decide)) (gz_ne0 1 rfl) (by unfold vp_in; decide) dX6_init_392 (ti_V_s 54 rfl (by decide)) ?_
  refine gz_dupa hX dX6_init_393 ?_
  refine gz_bipush (v := 55) hX dX6_init_394 (by decide) ?_
  refine gz_bipush (v := 32) hX dX6_init_396 (by decide) ?_
  refine gz_iast (L := 140) hX (ti_al tw_S17 (by decide)) (gz_ne0 1 rfl) (by unfold vp_in; decide) dX6_init_398 (ti_V_s 55 rfl (by decide)) ?_
  refine gz_dupa hX dX6_init_399 ?_
  refine gz_bipush (v := 56) hX dX6_init_400 (by decide) ?_
  refine gz_bipush (v := 112) hX dX6_init_402 (by decide) ?_
  refine gz_iast (L := 140) hX (ti_al tw_S17 (by decide)) (gz_ne0 1 rfl) (by unfold vp_in; decide) dX6_init_404 (ti_V_s 56 rfl (by decide)) ?_
  refine gz_dupa hX dX6_init_405 ?_
  refine gz_bipush (v := 57) hX dX6_init_406 (by decide) ?_
  refine gz_bipush (v := 114) hX dX6_init_408 (by decide) ?_
  refine gz_iast (L := 140) hX (ti_al tw_S17 (by decide)) (gz_ne0 1 rfl) (by unfold vp_in; decide) dX6_init_410 (ti_V_s 57 rfl (by decide)) ?_
  refine gz_dupa hX dX6_init_411 ?_
  refine gz_bipush (v := 58) hX dX6_init_412 (by decide) ?_
  refine gz_bipush (v := 105) hX dX6_init_414 (by decide) ?_
  refine gz_iast (L := 140) hX (ti_al tw_S17 (by decide)) (gz_ne0 1 rfl) (by unfold vp_in; decide) dX6_init_416 (ti_V_s 58 rfl (by decide)) ?_
  refine gz_dupa hX dX6_init_417 ?_
  refine gz_bipush (v := 59) hX dX6_init_418 (by decide) ?_
  refine gz_bipush (v := 99) hX dX6_init_420 (by decide) ?_
  refine gz_iast (L := 140) hX (ti_al tw_S17 (by decide)) (gz_ne0 1 rfl) (by unfold vp_in; decide) dX6_init_422 (ti_V_s 59 rfl (by decide)) ?_
  refine gz_dupa hX dX6_init_423 ?_
  refine gz_bipush (v := 60) hX dX6_init_424 (by decide) ?_
  refine gz_bipush (v := 101) hX dX6_init_426 (by decide) ?_
  refine gz_iast (L := 140) hX (ti_al tw_S17 (by decide)) (gz_ne0 1 rfl) (by unfold vp_in; decide) dX6_init_428 (ti_V_s 60 rfl (by decide)) ?_
  refine gz_dupa hX dX6_init_429 ?_
  refine gz_bipush (v := 61) hX dX6_init_430 (by decide) ?_
  refine gz_bipush (v := 32) hX dX6_init_432 (by decide) ?_
  refine gz_iast (L := 140) hX (ti_al tw_S17 (by decide)) (gz_ne0 1 rfl) (by unfold vp_in; decide) dX6_init_434 (ti_V_s 61 rfl (by decide)) ?_
  refine gz_dupa hX dX6_init_435 ?_
  refine gz_bipush (v := 62) hX dX6_init_436 (by decide) ?_
  refine gz_bipush (v := 119) hX dX6_init_438 (by decide) ?_
  refine gz_iast (L := 140) hX (ti_al tw_S17 (by decide)) (gz_ne0 1 rfl) (by unfold vp_in; decide) dX6_init_440 (ti_V_s 62 rfl (by decide)) ?_
  refine gz_dupa hX dX6_init_441 ?_
  refine gz_bipush (v := 63) hX dX6_init_442 (by decide) ?_
  refine gz_bipush (v := 111) hX dX6_init_444 (by decide) ?_
  refine gz_iast (L := 140) hX (ti_al tw_S17 (by decide)) (gz_ne0 1 rfl) (by unfold vp_in; decide) dX6_init_446 (ti_V_s 63 rfl (by decide)) ?_
  refine gz_dupa hX dX6_init_447 ?_
  refine gz_bipush (v := 64) hX dX6_init_448 (by decide) ?_
  refine gz_bipush (v := 114) hX dX6_init_450 (by decide) ?_
  refine gz_iast (L := 140) hX (ti_al tw_S17 (by decide)) (gz_ne0 1 rfl) (by unfold vp_in; decide) dX6_init_452 (ti_V_s 64 rfl (by decide)) ?_
  refine gz_dupa hX dX6_init_453 ?_
  refine gz_bipush (v := 65) hX dX6_init_454 (by decide) ?_
  refine gz_bipush (v := 116) hX dX6_init_456 (by decide) ?_
  refine gz_iast (L := 140) hX (ti_al tw_S17 (by decide)) (gz_ne0 1 rfl) (by unfold vp_in; decide) dX6_init_458 (ti_V_s 65 rfl (by decide)) ?_
  refine gz_dupa hX dX6_init_459 ?_
  refine gz_bipush (v := 66) hX dX6_init_460 (by decide) ?_
  refine gz_bipush (v := 104) hX dX6_init_462 (by decide) ?_
  refine gz_iast (L := 140) hX (ti_al tw_S17 (by decide)) (gz_ne0 1 rfl) (by unfold vp_in; decide) dX6_init_464 (ti_V_s 66 rfl (by decide)) ?_
  refine gz_dupa hX dX6_init_465 ?_
  refine gz_bipush (v := 67) hX dX6_init_466 (by decide) ?_
  refine gz_bipush (v := 32) hX dX6_init_468 (by decide) ?_
  refine gz_iast (L := 140) hX (ti_al tw_S17 (by decide)) (gz_ne0 1 rfl) (by unfold vp_in; decide) dX6_init_470 (ti_V_s 67 rfl (by decide)) ?_
  refine gz_dupa hX dX6_init_471 ?_
  refine gz_bipush (v := 68) hX dX6_init_472 (by decide) ?_
  refine gz_bipush (v := 115) hX dX6_init_474 (by decide) ?_
  refine gz_iast (L := 140) hX (ti_al tw_S17 (by decide)) (gz_ne0 1 rfl) (by unfold vp_in; decide) dX6_init_476 (ti_V_s 68 rfl (by decide)) ?_
  refine gz_dupa hX dX6_init_477 ?_
  refine gz_bipush (v := 69) hX dX6_init_478 (by decide) ?_
  refine gz_bipush (v := 112) hX dX6_init_480 (by decide) ?_
  refine gz_iast (L := 140) hX (ti_al tw_S17 (by decide)) (gz_ne0 1 rfl) (by unfold vp_in; decide) dX6_init_482 (ti_V_s 69 rfl (by decide)) ?_
  refine gz_dupa hX dX6_init_483 ?_
  refine gz_bipush (v := 70) hX dX6_init_484 (by decide) ?_
  refine gz_bipush (v := 105) hX dX6_init_486 (by decide) ?_
  refine gz_iast (L := 140) hX (ti_al tw_S17 (by decide)) (gz_ne0 1 rfl) (by unfold vp_in; decide) dX6_init_488 (ti_V_s 70 rfl (by decide)) ?_
  refine gz_dupa hX dX6_init_489 ?_
  refine gz_bipush (v := 71) hX dX6_init_490 (by decide) ?_
  refine gz_bipush (v := 114) hX dX6_init_492 (by decide) ?_
  refine gz_iast (L := 140) hX (ti_al tw_S17 (by decide)) (gz_ne0 1 rfl) (by unfold vp_in; decide) dX6_init_494 (ti_V_s 71 rfl (by decide)) ?_
  refine gz_dupa hX dX6_init_495 ?_
  refine gz_bipush (v := 72) hX dX6_init_496 (by decide) ?_
  refine gz_bipush (v := 105) hX dX6_init_498 (by decide) ?_
  refine gz_iast (L := 140) hX (ti_al tw_S17 (by decide)) (gz_ne0 1 rfl) (by unfold vp_in; decide) dX6_init_500 (ti_V_s 72 rfl (by decide)) ?_
  refine gz_dupa hX dX6_init_501 ?_
  refine gz_bipush (v := 73) hX dX6_init_502 (by decide) ?_
  refine gz_bipush (v := 116) hX dX6_init_504 (by decide) ?_
  refine gz_iast (L := 140) hX (ti_al tw_S17 (by decide)) (gz_ne0 1 rfl) (by unfold vp_in; decide) dX6_init_506 (ti_V_s 73 rfl (by decide)) ?_
  refine gz_dupa hX dX6_init_507 ?_
  refine gz_bipush (v := 74) hX dX6_init_508 (by decide) ?_
  refine gz_bipush (v := 32) hX dX6_init_510 (by decide) ?_
  refine gz_iast (L := 140) hX (ti_al tw_S17 (by decide)) (gz_ne0 1 rfl) (by unfold vp_in; decide) dX6_init_512 (ti_V_s 74 rfl (by decide)) ?_
  refine gz_dupa hX dX6_init_513 ?_
  refine gz_bipush (v := 75) hX dX6_init_514 (by decide) ?_
  refine gz_bipush (v := 115) hX dX6_init_516 (by decide) ?_
  refine gz_iast (L := 140) hX (ti_al tw_S17 (by decide)) (gz_ne0 1 rfl) (by unfold vp_in; decide) dX6_init_518 (ti_V_s 75 rfl (by decide)) ?_
  refine gz_dupa hX dX6_init_519 ?_
  refine gz_bipush (v := 76) hX dX6_init_520 (by decide) ?_
  refine gz_bipush (v := 104) hX dX6_init_522 (by decide) ?_
  refine gz_iast (L := 140) hX (ti_al tw_S17 (by decide)) (gz_ne0 1 rfl) (by unfold vp_in; decide) dX6_init_524 (ti_V_s 76 rfl (by decide)) ?_
  refine gz_dupa hX dX6_init_525 ?_
  refine gz_bipush (v := 77) hX dX6_init_526 (by decide) ?_
  refine gz_bipush (v := 111) hX dX6_init_528 (by decide) ?_
  refine gz_iast (L := 140) hX (ti_al tw_S17 (by decide)) (gz_ne0 1 rfl) (by unfold vp_in; decide) dX6_init_530 (ti_V_s 77 rfl (by decide)) ?_
  refine gz_dupa hX dX6_init_531 ?_
  refine gz_bipush (v := 78) hX dX6_init_532 (by decide) ?_
  refine gz_bipush (v := 111) hX dX6_init_534 (by decide) ?_
  refine gz_iast (L := 140) hX (ti_al tw_S17 (by decide)) (gz_ne0 1 rfl) (by unfold vp_in; decide) dX6_init_536 (ti_V_s 78 rfl (by decide)) ?_
  refine gz_dupa hX dX6_init_537 ?_
  refine gz_bipush (v := 79) hX dX6_init_538 (by decide) ?_
  refine gz_bipush (v := 107) hX dX6_init_540 (by decide) ?_
  refine gz_iast (L := 140) hX (ti_al tw_S17 (by decide)) (gz_ne0 1 rfl) (by unfold vp_in; decide) dX6_init_542 (ti_V_s 79 rfl (by decide)) ?_
  refine gz_dupa hX dX6_init_543 ?_
  refine gz_bipush (v := 80) hX dX6_init_544 (by decide) ?_
  refine gz_bipush (v := 32) hX dX6_init_546 (by decide) ?_
  refine gz_iast (L := 140) hX (ti_al tw_S17 (by decide)) (gz_ne0 1 rfl) (by unfold vp_in; decide) dX6_init_548 (ti_V_s 80 rfl (by decide)) ?_
  refine gz_dupa hX dX6_init_549 ?_
  refine gz_bipush (v := 81) hX dX6_init_550 (by decide) ?_
  refine gz_bipush (v := 112) hX dX6_init_552 (by decide) ?_
  refine gz_iast (L := 140) hX (ti_al tw_S17 (by decide)) (gz_ne0 1 rfl) (by unfold vp_in; decide) dX6_init_554 (ti_V_s 81 rfl (by decide)) ?_
  refine gz_dupa hX dX6_init_555 ?_
  refine gz_bipush (v := 82) hX dX6_init_556 (by decide) ?_
  refine gz_bipush (v := 117) hX dX6_init_558 (by decide) ?_
  refine gz_iast (L := 140) hX (ti_al tw_S17 (by decide)) (gz_ne0 1 rfl) (by unfold vp_in; decide) dX6_init_560 (ti_V_s 82 rfl (by decide)) ?_
  refine gz_dupa hX dX6_init_561 ?_
  refine gz_bipush (v := 83) hX dX6_init_562 (by decide) ?_
  refine gz_bipush (v := 114) hX dX6_init_564 (by decide) ?_
  refine gz_iast (L := 140) hX (ti_al tw_S17 (by decide)) (gz_ne0 1 rfl) (by unfold vp_in; decide) dX6_init_566 (ti_V_s 83 rfl (by decide)) ?_
  refine gz_dupa hX dX6_init_567 ?_
  refine gz_bipush (v := 84) hX dX6_init_568 (by decide) ?_
  refine gz_bipush (v := 115) hX dX6_init_570 (by decide) ?_
  refine gz_iast (L := 140) hX (ti_al tw_S17 (by decide)) (gz_ne0 1 rfl) (by unfold vp_in; decide) dX6_init_572 (ti_V_s 84 rfl (by decide)) ?_
  refine gz_dupa hX dX6_init_573 ?_
  refine gz_bipush (v := 85) hX dX6_init_574 (by decide) ?_
  refine gz_bipush (v := 101) hX dX6_init_576 (by decide) ?_
  refine gz_iast (L := 140) hX (ti_al tw_S17 (by decide)) (gz_ne0 1 rfl) (by unfold vp_in; decide) dX6_init_578 (ti_V_s 85 rfl (by decide)) ?_
  refine gz_dupa hX dX6_init_579 ?_
  refine gz_bipush (v := 86) hX dX6_init_580 (by decide) ?_
  refine gz_bipush (v := 32) hX dX6_init_582 (by decide) ?_
  refine gz_iast (L := 140) hX (ti_al tw_S17 (by decide)) (gz_ne0 1 rfl) (by unfold vp_in; decide) dX6_init_584 (ti_V_s 86 rfl (by decide)) ?_
  refine gz_dupa hX dX6_init_585 ?_
  refine gz_bipush (v := 87) hX dX6_init_586 (by decide) ?_
  refine gz_bipush (v := 107) hX dX6_init_588 (by decide) ?_
  refine gz_iast (L := 140) hX (ti_al tw_S17 (by decide)) (gz_ne0 1 rfl) (by unfold vp_in; decide) dX6_init_590 (ti_V_s 87 rfl (by decide)) ?_
  refine gz_dupa hX dX6_init_591 ?_
  refine gz_bipush (v := 88) hX dX6_init_592 (by decide) ?_
  refine gz_bipush (v := 105) hX dX6_init_594 (by decide) ?_
  refine gz_iast (L := 140) hX (ti_al tw_S17 (by decide)) (gz_ne0 1 rfl) (by unfold vp_in; decide) dX6_init_596 (ti_V_s 88 rfl (by decide)) ?_
  refine gz_dupa hX dX6_init_597 ?_
  refine gz_bipush (v := 89) hX dX6_init_598 (by decide) ?_
  refine gz_bipush (v := 110) hX dX6_init_600 (by decide) ?_
  refine gz_iast (L := 140) hX (ti_al tw_S17 (by decide)) (gz_ne0 1 rfl) (by unfold vp_in; decide) dX6_init_602 (ti_V_s 89 rfl (by decide)) ?_
  refine gz_dupa hX dX6_init_603 ?_
  refine gz_bipush (v := 90) hX dX6_init_604 (by decide) ?_
  refine gz_bipush (v := 32) hX dX6_init_606 (by decide) ?_
  refine gz_iast (L := 140) hX (ti_al tw_S17 (by decide)) (gz_ne0 1 rfl) (by unfold vp_in; decide) dX6_init_608 (ti_V_s 90 rfl (by decide)) ?_
  refine gz_dupa hX dX6_init_609 ?_
  refine gz_bipush (v := 91) hX dX6_init_610 (by decide) ?_
  refine gz_bipush (v := 100) hX dX6_init_612 (by decide) ?_
  refine gz_iast (L := 140) hX (ti_al tw_S17 (by decide)) (gz_ne0 1 rfl) (by unfold vp_in; decide) dX6_init_614 (ti_V_s 91 rfl (by decide)) ?_
  refine gz_dupa hX dX6_init_615 ?_
  refine gz_bipush (v := 92) hX dX6_init_616 (by decide) ?_
  refine gz_bipush (v := 97) hX dX6_init_618 (by decide) ?_
  refine gz_iast (L := 140) hX (ti_al tw_S17 (by decide)) (gz_ne0 1 rfl) (by unfold vp_in; decide) dX6_init_620 (ti_V_s 92 rfl (by decide)) ?_
  refine gz_dupa hX dX6_init_621 ?_
  refine gz_bipush (v := 93) hX dX6_init_622 (by decide) ?_
  refine gz_bipush (v := 121) hX dX6_init_624 (by decide) ?_
  refine gz_iast (L := 140) hX (ti_al tw_S17 (by decide)) (gz_ne0 1 rfl) (by unfold vp_in; decide) dX6_init_626 (ti_V_s 93 rfl (by decide)) ?_
  refine gz_dupa hX dX6_init_627 ?_
  refine gz_bipush (v := 94) hX dX6_init_628 (by decide) ?_
  refine gz_bipush (v := 32) hX dX6_init_630 (by decide) ?_
  refine gz_iast (L := 140) hX (ti_al tw_S17 (by decide)) (gz_ne0 1 rfl) (by unfold vp_in; decide) dX6_init_632 (ti_V_s 94 rfl (by decide)) ?_
  refine gz_dupa hX dX6_init_633 ?_
  refine gz_bipush (v := 95) hX dX6_init_634 (by decide) ?_
  refine gz_bipush (v := 111) hX dX6_init_636 (by decide) ?_
  refine gz_iast (L := 140) hX (ti_al tw_S17 (by decide)) (gz_ne0 1 rfl) (by unfold vp_in; decide) dX6_init_638 (ti_V_s 95 rfl (by decide)) ?_
  refine gz_dupa hX dX6_init_639 ?_
  refine gz_bipush (v := 96) hX dX6_init_640 (by decide) ?_
  refine gz_bipush (v := 110) hX dX6_init_642 (by decide) ?_
  refine gz_iast (L := 140) hX (ti_al tw_S17 (by decide)) (gz_ne0 1 rfl) (by unfold vp_in; decide) dX6_init_644 (ti_V_s 96 rfl (by decide)) ?_
  refine gz_dupa hX dX6_init_645 ?_
  refine gz_bipush (v := 97) hX dX6_init_646 (by decide) ?_
  refine gz_bipush (v := 32) hX dX6_init_648 (by decide) ?_
  refine gz_iast (L := 140) hX (ti_al tw_S17 (by decide)) (gz_ne0 1 rfl) (by unfold vp_in; decide) dX6_init_650 (ti_V_s 97 rfl (by decide)) ?_
  refine gz_dupa hX dX6_init_651 ?_
  refine gz_bipush (v := 98) hX dX6_init_652 (by decide) ?_
  refine gz_bipush (v := 112) hX dX6_init_654 (by decide) ?_
  refine gz_iast (L := 140) hX (ti_al tw_S17 (by decide)) (gz_ne0 1 rfl) (by unfold vp_in; decide) dX6_init_656 (ti_V_s 98 rfl (by decide)) ?_
  refine gz_dupa hX dX6_init_657 ?_
  refine gz_bipush (v := 99) hX dX6_init_658 (by decide) ?_
  refine gz_bipush (v := 101) hX dX6_init_660 (by decide) ?_
  refine gz_iast (L := 140) hX (ti_al tw_S17 (by decide)) (gz_ne0 1 rfl) (by unfold vp_in; decide) dX6_init_662 (ti_V_s 99 rfl (by decide)) ?_
  refine gz_dupa hX dX6_init_663 ?_
  refine gz_bipush (v := 100) hX dX6_init_664 (by decide) ?_
  refine gz_bipush (v := 114) hX dX6_init_666 (by decide) ?_
  refine gz_iast (L := 140) hX (ti_al tw_S17 (by decide)) (gz_ne0 1 rfl) (by unfold vp_in; decide) dX6_init_668 (ti_V_s 100 rfl (by decide)) ?_
  refine gz_dupa hX dX6_init_669 ?_
  refine gz_bipush (v := 101) hX dX6_init_670 (by decide) ?_
  refine gz_bipush (v := 115) hX dX6_init_672 (by decide) ?_
  refine gz_iast (L := 140) hX (ti_al tw_S17 (by decide)) (gz_ne0 1 rfl) (by unfold vp_in; decide) dX6_init_674 (ti_V_s 101 rfl (by decide)) ?_
  refine gz_dupa hX dX6_init_675 ?_
  refine gz_bipush (v := 102) hX dX6_init_676 (by decide) ?_
  refine gz_bipush (v := 111) hX dX6_init_678 (by decide) ?_
  refine gz_iast (L := 140) hX (ti_al tw_S17 (by decide)) (gz_ne0 1 rfl) (by unfold vp_in; decide) dX6_init_680 (ti_V_s 102 rfl (by decide)) ?_
  refine gz_dupa hX dX6_init_681 ?_
  refine gz_bipush (v := 103) hX dX6_init_682 (by decide) ?_
  refine gz_bipush (v := 110) hX dX6_init_684 (by decide) ?_
  refine gz_iast (L := 140) hX (ti_al tw_S17 (by decide)) (gz_ne0 1 rfl) (by unfold vp_in; decide) dX6_init_686 (ti_V_s 103 rfl (by decide)) ?_
  refine gz_dupa hX dX6_init_687 ?_
  refine gz_bipush (v := 104) hX dX6_init_688 (by decide) ?_
  refine gz_bipush (v := 32) hX dX6_init_690 (by decide) ?_
  refine gz_iast (L := 140) hX (ti_al tw_S17 (by decide)) (gz_ne0 1 rfl) (by unfold vp_in; decide) dX6_init_692 (ti_V_s 104 rfl (by decide)) ?_
  refine gz_dupa hX dX6_init_693 ?_
  refine gz_bipush (v := 105) hX dX6_init_694 (by decide) ?_
  refine gz_bipush (v := 104) hX dX6_init_696 (by decide) ?_
  refine gz_iast (L := 140) hX (ti_al tw_S17 (by decide)) (gz_ne0 1 rfl) (by unfold vp_in; decide) dX6_init_698 (ti_V_s 105 rfl (by decide)) ?_
  refine gz_dupa hX dX6_init_699 ?_
  refine gz_bipush (v := 106) hX dX6_init_700 (by decide) ?_
  refine gz_bipush (v := 111) hX dX6_init_702 (by decide) ?_
  refine gz_iast (L := 140) hX (ti_al tw_S17 (by decide)) (gz_ne0 1 rfl) (by unfold vp_in; decide) dX6_init_704 (ti_V_s 106 rfl (by decide)) ?_
  refine gz_dupa hX dX6_init_705 ?_
  refine gz_bipush (v := 107) hX dX6_init_706 (by decide) ?_
  refine gz_bipush (v := 114) hX dX6_init_708 (by decide) ?_
  refine gz_iast (L := 140) hX (ti_al tw_S17 (by decide)) (gz_ne0 1 rfl) (by unfold vp_in; decide) dX6_init_710 (ti_V_s 107 rfl (by decide)) ?_
  refine gz_dupa hX dX6_init_711 ?_
  refine gz_bipush (v := 108) hX dX6_init_712 (by decide) ?_
  refine gz_bipush (v := 115) hX dX6_init_714 (by decide) ?_
  refine gz_iast (L := 140) hX (ti_al tw_S17 (by decide)) (gz_ne0 1 rfl) (by unfold vp_in; decide) dX6_init_716 (ti_V_s 108 rfl (by decide)) ?_
  refine gz_dupa hX dX6_init_717 ?_
  refine gz_bipush (v := 109) hX dX6_init_718 (by decide) ?_
  refine gz_bipush (v := 101) hX dX6_init_720 (by decide) ?_
  refine gz_iast (L := 140) hX (ti_al tw_S17 (by decide)) (gz_ne0 1 rfl) (by unfold vp_in; decide) dX6_init_722 (ti_V_s 109 rfl (by decide)) ?_
  refine gz_dupa hX dX6_init_723 ?_
  refine gz_bipush (v := 110) hX dX6_init_724 (by decide) ?_
  refine gz_bipush (v := 32) hX dX6_init_726 (by decide) ?_
  refine gz_iast (L := 140) hX (ti_al tw_S17 (by decide)) (gz_ne0 1 rfl) (by unfold vp_in; decide) dX6_init_728 (ti_V_s 110 rfl (by decide)) ?_
  refine gz_dupa hX dX6_init_729 ?_
  refine gz_bipush (v := 111) hX dX6_init_730 (by decide) ?_
  refine gz_bipush (v := 97) hX dX6_init_732 (by decide) ?_
  refine gz_iast (L := 140) hX (ti_al tw_S17 (by decide)) (gz_ne0 1 rfl) (by unfold vp_in; decide) dX6_init_734 (ti_V_s 111 rfl (by decide)) ?_
  refine gz_dupa hX dX6_init_735 ?_
  refine gz_bipush (v := 112) hX dX6_init_736 (by decide) ?_
  refine gz_bipush (v := 116) hX dX6_init_738 (by decide) ?_
  refine gz_iast (L := 140) hX (ti_al tw_S17 (by decide)) (gz_ne0 1 rfl) (by unfold vp_in; decide) dX6_init_740 (ti_V_s 112 rfl (by decide)) ?_
  refine gz_dupa hX dX6_init_741 ?_
  refine gz_bipush (v := 113) hX dX6_init_742 (by decide) ?_
  refine gz_bipush (v := 32) hX dX6_init_744 (by decide) ?_
  refine gz_iast (L := 140) hX (ti_al tw_S17 (by decide)) (gz_ne0 1 rfl) (by unfold vp_in; decide) dX6_init_746 (ti_V_s 113 rfl (by decide)) ?_
  refine gz_dupa hX dX6_init_747 ?_
  refine gz_bipush (v := 114) hX dX6_init_748 (by decide) ?_
  refine gz_bipush (v := 103) hX dX6_init_750 (by decide) ?_
  refine gz_iast (L := 140) hX (ti_al tw_S17 (by decide)) (gz_ne0 1 rfl) (by unfold vp_in; decide) dX6_init_752 (ti_V_s 114 rfl (by decide)) ?_
  refine gz_dupa hX dX6_init_753 ?_
  refine gz_bipush (v := 115) hX dX6_init_754 (by decide) ?_
  refine gz_bipush (v := 108) hX dX6_init_756 (by decide) ?_
  refine gz_iast (L := 140) hX (ti_al tw_S17 (by decide)) (gz_ne0 1 rfl) (by unfold vp_in; decide) dX6_init_758 (ti_V_s 115 rfl (by decide)) ?_
  refine gz_dupa hX dX6_init_759 ?_
  refine gz_bipush (v := 116) hX dX6_init_760 (by decide) ?_
  refine gz_bipush (v := 111) hX dX6_init_762 (by decide) ?_
  refine gz_iast (L := 140) hX (ti_al tw_S17 (by decide)) (gz_ne0 1 rfl) (by unfold vp_in; decide) dX6_init_764 (ti_V_s 116 rfl (by decide)) ?_
  refine gz_dupa hX dX6_init_765 ?_
  refine gz_bipush (v := 117) hX dX6_init_766 (by decide) ?_
  refine gz_bipush (v := 118) hX dX6_init_768 (by decide) ?_
  refine gz_iast (L := 140) hX (ti_al tw_S17 (by decide)) (gz_ne0 1 rfl) (by unfold vp_in; decide) dX6_init_770 (ti_V_s 117 rfl (by decide)) ?_
  refine gz_dupa hX dX6_init_771 ?_
  refine gz_bipush (v := 118) hX dX6_init_772 (by decide) ?_
  refine gz_bipush (v := 101) hX dX6_init_774 (by decide) ?_
  refine gz_iast (L := 140) hX (ti_al tw_S17 (by decide)) (gz_ne0 1 rfl) (by unfold vp_in; decide) dX6_init_776 (ti_V_s 118 rfl (by decide)) ?_
  refine gz_dupa hX dX6_init_777 ?_
  refine gz_bipush (v := 119) hX dX6_init_778 (by decide) ?_
  refine gz_bipush (v := 32) hX dX6_init_780 (by decide) ?_
  refine gz_iast (L := 140) hX (ti_al tw_S17 (by decide)) (gz_ne0 1 rfl) (by unfold vp_in; decide) dX6_init_782 (ti_V_s 119 rfl (by decide)) ?_
  refine gz_dupa hX dX6_init_783 ?_
  refine gz_bipush (v := 120) hX dX6_init_784 (by decide) ?_
  refine gz_bipush (v := 98) hX dX6_init_786 (by decide) ?_
  refine gz_iast (L := 140) hX (ti_al tw_S17 (by decide)) (gz_ne0 1 rfl) (by unfold vp_in; decide) dX6_init_788 (ti_V_s 120 rfl (by decide)) ?_
  refine gz_dupa hX dX6_init_789 ?_
  refine gz_bipush (v := 121) hX dX6_init_790 (by decide) ?_
  refine gz_bipush (v := 97) hX dX6_init_792 (by decide) ?_
  refine gz_iast (L := 140) hX (ti_al tw_S17 (by decide)) (gz_ne0 1 rfl) (by unfold vp_in; decide) dX6_init_794 (ti_V_s 121 rfl (by decide)) ?_
  refine gz_dupa hX dX6_init_795 ?_
  refine gz_bipush (v := 122) hX dX6_init_796 (by decide) ?_
  refine gz_bipush (v := 114) hX dX6_init_798 (by decide) ?_
  refine gz_iast (L := 140) hX (ti_al tw_S17 (by decide)) (gz_ne0 1 rfl) (by unfold vp_in; decide) dX6_init_800 (ti_V_s 122 rfl (by decide)) ?_
  refine gz_dupa hX dX6_init_801 ?_
  refine gz_bipush (v := 123) hX dX6_init_802 (by decide) ?_
  refine gz_bipush (v := 101) hX dX6_init_804 (by decide) ?_
  refine gz_iast (L := 140) hX (ti_al tw_S17 (by decide)) (gz_ne0 1 rfl) (by unfold vp_in; decide) dX6_init_806 (ti_V_s 123 rfl (by decide)) ?_
  refine gz_dupa hX dX6_init_807 ?_
  refine gz_bipush (v := 124) hX dX6_init_808 (by decide) ?_
  refine gz_bipush (v := 32) hX dX6_init_810 (by decide) ?_
  refine gz_iast (L := 140) hX (ti_al tw_S17 (by decide)) (gz_ne0 1 rfl) (by unfold vp_in; decide) dX6_init_812 (ti_V_s 124 rfl (by decide)) ?_
  refine gz_dupa hX dX6_init_813 ?_
  refine gz_bipush (v := 125) hX dX6_init_814 (by decide) ?_
  refine gz_bipush (v := 115) hX dX6_init_816 (by decide) ?_
  refine gz_iast (L := 140) hX (ti_al tw_S17 (by decide)) (gz_ne0 1 rfl) (by unfold vp_in; decide) dX6_init_818 (ti_V_s 125 rfl (by decide)) ?_
  refine gz_dupa hX dX6_init_819 ?_
  refine gz_bipush (v := 126) hX dX6_init_820 (by decide) ?_
  refine gz_bipush (v := 108) hX dX6_init_822 (by decide) ?_
  refine gz_iast (L := 140) hX (ti_al tw_S17 (by decide)) (gz_ne0 1 rfl) (by unfold vp_in; decide) dX6_init_824 (ti_V_s 126 rfl (by decide)) ?_
  refine gz_dupa hX dX6_init_825 ?_
  refine gz_bipush (v := 127) hX dX6_init_826 (by decide) ?_
  refine gz_bipush (v := 105) hX dX6_init_828 (by decide) ?_
  refine gz_iast (L := 140) hX (ti_al tw_S17 (by decide)) (gz_ne0 1 rfl) (by unfold vp_in; decide) dX6_init_830 (ti_V_s 127 rfl (by decide)) ?_
  refine gz_dupa hX dX6_init_831 ?_
  refine gz_sipush (v := 128) hX dX6_init_832 (by decide) ?_
  refine gz_bipush (v := 110) hX dX6_init_835 (by decide) ?_
  refine gz_iast (L := 140) hX (ti_al tw_S17 (by decide)) (gz_ne0 1 rfl) (by unfold vp_in; decide) dX6_init_837 (ti_V_s 128 rfl (by decide)) ?_
  refine gz_dupa hX dX6_init_838 ?_
  refine gz_sipush (v := 129) hX dX6_init_839 (by decide) ?_
  refine gz_bipush (v := 103) hX dX6_init_842 (by decide) ?_
  refine gz_iast (L := 140) hX (ti_al tw_S17 (by decide)) (gz_ne0 1 rfl) (by unfold vp_in; decide) dX6_init_844 (ti_V_s 129 rfl (by decide)) ?_
  refine gz_dupa hX dX6_init_845 ?_
  refine gz_sipush (v := 130) hX dX6_init_846 (by decide) ?_
  refine gz_bipush (v := 32) hX dX6_init_849 (by decide) ?_
  refine gz_iast (L := 140) hX (ti_al tw_S17 (by decide)) (gz_ne0 1 rfl) (by unfold vp_in; decide) dX6_init_851 (ti_V_s 130 rfl (by decide)) ?_
  refine gz_dupa hX dX6_init_852 ?_
  refine gz_sipush (v := 131) hX dX6_init_853 (by decide) ?_
  refine gz_bipush (v := 112) hX dX6_init_856 (by decide) ?_
  refine gz_iast (L := 140) hX (ti_al tw_S17 (by decide)) (gz_ne0 1 rfl) (by unfold vp_in; decide) dX6_init_858 (ti_V_s 131 rfl (by decide)) ?_
  refine gz_dupa hX dX6_init_859 ?_
  refine gz_sipush (v := 132) hX dX6_init_860 (by decide) ?_
  refine gz_bipush (v := 97) hX dX6_init_863 (by decide) ?_
  refine gz_iast (L := 140) hX (ti_al tw_S17 (by decide)) (gz_ne0 1 rfl) (by unfold vp_in; decide) dX6_init_865 (ti_V_s 132 rfl (by decide)) ?_
  refine gz_dupa hX dX6_init_866 ?_
  refine gz_sipush (v := 133) hX dX6_init_867 (by decide) ?_
  refine gz_bipush (v := 121) hX dX6_init_870 (by decide) ?_
  refine gz_iast (L := 140) hX (ti_al tw_S17 (by decide)) (gz_ne0 1 rfl) (by unfold vp_in; decide) dX6_init_872 (ti_V_s 133 rfl (by decide)) ?_
  refine gz_dupa hX dX6_init_873 ?_
  refine gz_sipush (v := 134) hX dX6_init_874 (by decide) ?_
  refine gz_bipush (v := 32) hX dX6_init_877 (by decide) ?_
  refine gz_iast (L := 140) hX (ti_al tw_S17 (by decide)) (gz_ne0 1 rfl) (by unfold vp_in; decide) dX6_init_879 (ti_V_s 134 rfl (by decide)) ?_
  refine gz_dupa hX dX6_init_880 ?_
  refine gz_sipush (v := 135) hX dX6_init_881 (by decide) ?_
  refine gz_bipush (v := 99) hX dX6_init_884 (by decide) ?_
  refine gz_iast (L := 140) hX (ti_al tw_S17 (by decide)) (gz_ne0 1 rfl) (by unfold vp_in; decide) dX6_init_886 (ti_V_s 135 rfl (by decide)) ?_
  refine gz_dupa hX dX6_init_887 ?_
  refine gz_sipush (v := 136) hX dX6_init_888 (by decide) ?_
  refine gz_bipush (v := 111) hX dX6_init_891 (by decide) ?_
  refine gz_iast (L := 140) hX (ti_al tw_S17 (by decide)) (gz_ne0 1 rfl) (by unfold vp_in; decide) dX6_init_893 (ti_V_s 136 rfl (by decide)) ?_
  refine gz_dupa hX dX6_init_894 ?_
  refine gz_sipush (v := 137) hX dX6_init_895 (by decide) ?_
  refine gz_bipush (v := 108) hX dX6_init_898 (by decide) ?_
  refine gz_iast (L := 140) hX (ti_al tw_S17 (by decide)) (gz_ne0 1 rfl) (by unfold vp_in; decide) dX6_init_900 (ti_V_s 137 rfl (by decide)) ?_
  refine gz_dupa hX dX6_init_901 ?_
  refine gz_sipush (v := 138) hX dX6_init_902 (by decide) ?_
  refine gz_bipush (v := 100) hX dX6_init_905 (by decide) ?_
  refine gz_iast (L := 140) hX (ti_al tw_S17 (by decide)) (gz_ne0 1 rfl) (by unfold vp_in; decide) dX6_init_907 (ti_V_s 138 rfl (by decide)) ?_
  refine gz_dupa hX dX6_init_908 ?_
  refine gz_sipush (v := 139) hX dX6_init_909 (by decide) ?_
  refine gz_bipush (v := 32) hX dX6_init_912 (by decide) ?_
  refine gz_iast (L := 140) hX (ti_al tw_S17 (by decide)) (gz_ne0 1 rfl) (by unfold vp_in; decide) dX6_init_914 (ti_V_s 139 rfl (by decide)) ?_
  refine gn_putR (ci := 6) hX in_X6 (gz_apart hX in_X6 tyX6 tyX6_ok nmX6 rfl) (by decide) rfl ti_this (by decide) 17 (by decide) q1489 rfl rfl rfl (tyX6_ok 17 (by decide)) rfl rfl (gz_some_nn (ti_al tw_S17 (by decide))) dX6_init_915 ?_
  rw [ti_ur (g := 18) (by decide) (by decide) (by decide)]
  refine gz_aload_n (q := 0) hX dX6_init_918 rfl rfl ?_
  refine gz_iconst (v := 2) hX dX6_init_919 (by decide) ?_
  refine gn_newI (ad := ad8) (lvF := fun ad => [(0, .ref (ad (1, 0, 0)))]) (stF := fun ad => [.ref (ad (1, 0, 0))]) (L := 2) (nm := (2, 18, 0)) hX (by decide) (by decide) (by decide) (by decide) (by decide) (ti_z1 (by decide)) (ti_fr (by decide)) (gz_ne0 1 rfl) (fun ad2 ag => by rw [ag _ (Or.inl (gz_some_nn ti_this))]; exact ⟨rfl, rfl⟩) dX6_init_920 (fun ad9 ag9 => ?_)
  have A9 : gz_ag ti_0 ad ad9 := A8.trans ti_up0 ag9
  rw [ti_us (g := 19) tw_S18 (by decide) (by decide)]
  refine gn_putR (ci := 6) hX in_X6 (gz_apart hX in_X6 tyX6 tyX6_ok nmX6 rfl) (by decide) rfl ti_this (by decide) 18 (by decide) q1490 rfl rfl rfl (tyX6_ok 18 (by decide)) rfl rfl (gz_some_nn (ti_al tw_S18 (by decide))) dX6_init_922 ?_
  rw [ti_ur (g := 19) (by decide) (by decide) (by decide)]
  refine gz_aload_n (q := 0) hX dX6_init_925 rfl rfl ?_
  refine gz_bipush (v := 48) hX dX6_init_926 (by decide) ?_
  refine gn_newI (ad := ad9) (lvF := fun ad => [(0, .ref (ad (1, 0, 0)))]) (stF := fun ad => [.ref (ad (1, 0, 0))]) (L := 48) (nm := (2, 19, 0)) hX (by decide) (by decide) (by decide) (by decide) (by decide) (ti_z1 (by decide)) (ti_fr (by decide)) (gz_ne0 1 rfl) (fun ad2 ag => by rw [ag _ (Or.inl (gz_some_nn ti_this))]; exact ⟨rfl, rfl⟩) dX6_init_928 (fun ad10 ag10 => ?_)
  have A10 : gz_ag ti_0 ad ad10 := A9.trans ti_up0 ag10
  rw [ti_us (g := 20) tw_S19 (by decide) (by decide)]
  refine gn_putR (ci := 6) hX in_X6 (gz_apart hX in_X6 tyX6 tyX6_ok nmX6 rfl) (by decide) rfl ti_this (by decide) 19 (by decide) q1491 rfl rfl rfl (tyX6_ok 19 (by decide)) rfl rfl (gz_some_nn (ti_al tw_S19 (by decide))) dX6_init_930 ?_
  rw [ti_ur (g := 20) (by decide) (by decide) (by decide)]
  refine gz_aload_n (q := 0) hX dX6_init_933 rfl rfl ?_
  refine gz_bipush (v := 48) hX dX6_init_934 (by decide) ?_
  refine gn_newI (ad := ad10) (lvF := fun ad => [(0, .ref (ad (1, 0, 0)))]) (stF := fun ad => [.ref (ad (1, 0, 0))]) (L := 48) (nm := (2, 20, 0)) hX (by decide) (by decide) (by decide) (by decide) (by decide) (ti_z1 (by decide)) (ti_fr (by decide)) (gz_ne0 1 rfl) (fun ad2 ag => by rw [ag _ (Or.inl (gz_some_nn ti_this))]; exact ⟨rfl, rfl⟩) dX6_init_936 (fun ad11 ag11 => ?_)
  have A11 : gz_ag ti_0 ad ad11 := A10.trans ti_up0 ag11
  rw [ti_us (g := 21) tw_S20 (by decide) (by decide)]
  refine gn_putR (ci := 6) hX in_X6 (gz_apart hX in_X6 tyX6 tyX6_ok nmX6 rfl) (by decide) rfl ti_this (by decide) 20 (by decide) q1492 rfl rfl rfl (tyX6_ok 20 (by decide)) rfl rfl (gz_some_nn (ti_al tw_S20 (by decide))) dX6_init_938 ?_
  rw [ti_ur (g := 21) (by decide) (by decide) (by decide)]
  refine gz_aload_n (q := 0) hX dX6_init_941 rfl rfl ?_
  refine gz_bipush (v := 48) hX dX6_init_942 (by decide) ?_
  refine gn_newI (ad := ad11) (lvF := fun ad => [(0, .ref (ad (1, 0, 0)))]) (stF := fun ad => [.ref (ad (1, 0, 0))]) (L := 48) (nm := (2, 21, 0)) hX (by decide) (by decide) (by decide) (by decide) (by decide) (ti_z1 (by decide)) (ti_fr (by decide)) (gz_ne0 1 rfl) (fun ad2 ag => by rw [ag _ (Or.inl (gz_some_nn ti_this))]; exact ⟨rfl, rfl⟩) dX6_init_944 (fun ad12 ag12 => ?_)
  have A12 : gz_ag ti_0 ad ad12 := A11.trans ti_up0 ag12
  rw [ti_us (g := 22) tw_S21 (by decide) (by decide)]
  refine gn_putR (ci := 6) hX in_X6 (gz_apart hX in_X6 tyX6 tyX6_ok nmX6 rfl) (by decide) rfl ti_this (by decide) 21 (by decide) q1493 rfl rfl rfl (tyX6_ok 21 (by decide)) rfl rfl (gz_some_nn (ti_al tw_S21 (by decide))) dX6_init_946 ?_
  rw [ti_ur (g := 22) (by decide) (by decide) (by decide)]
  refine gz_aload_n (q := 0) hX dX6_init_949 rfl rfl ?_
  refine gz_bipush (v := 48) hX dX6_init_950 (by decide) ?_
  refine gn_newI (ad := ad12) (lvF := fun ad => [(0, .ref (ad (1, 0, 0)))]) (stF := fun ad => [.ref (ad (1, 0, 0))]) (L := 48) (nm := (2, 22, 0)) hX (by decide) (by decide) (by decide) (by decide) (by decide) (ti_z1 (by decide)) (ti_fr (by decide)) (gz_ne0 1 rfl) (fun ad2 ag => by rw [ag _ (Or.inl (gz_some_nn ti_this))]; exact ⟨rfl, rfl⟩) dX6_init_952 (fun ad13 ag13 => ?_)
  have A13 : gz_ag ti_0 ad ad13 := A12.trans ti_up0 ag13
  rw [ti_us (g := 23) tw_S22 (by decide) (by decide)]
  refine gn_putR (ci := 6) hX in_X6 (gz_apart hX in_X6 tyX6 tyX6_ok nmX6 rfl) (by decide) rfl ti_this (by decide) 22 (by decide) q1494 rfl rfl rfl (tyX6_ok 22 (by decide)) rfl rfl (gz_some_nn (ti_al tw_S22 (by decide))) dX6_init_954 ?_
  rw [ti_ur (g := 23) (by decide) (by decide) (by decide)]
  refine gz_aload_n (q := 0) hX dX6_init_957 rfl rfl ?_
  refine gz_sipush (v := 1200) hX dX6_init_958 (by decide) ?_
  refine gn_newI (ad := ad13) (lvF := fun ad => [(0, .ref (ad (1, 0, 0)))]) (stF := fun ad => [.ref (ad (1, 0, 0))]) (L := 1200) (nm := (2, 23, 0)) hX (by decide) (by decide) (by decide) (by decide) (by decide) (ti_z1 (by decide)) (ti_fr (by decide)) (gz_ne0 1 rfl) (fun ad2 ag => by rw [ag _ (Or.inl (gz_some_nn ti_this))]; exact ⟨rfl, rfl⟩) dX6_init_961 (fun ad14 ag14 => ?_)
  have A14 : gz_ag ti_0 ad ad14 := A13.trans ti_up0 ag14
  rw [ti_us (g := 24) tw_S23 (by decide) (by decide)]
  refine gn_putR (ci := 6) hX in_X6 (gz_apart hX in_X6 tyX6 tyX6_ok nmX6 rfl) (by decide) rfl ti_this (by decide) 23 (by decide) q1495 rfl rfl rfl (tyX6_ok 23 (by decide)) rfl rfl (gz_some_nn (ti_al tw_S23 (by decide))) dX6_init_963 ?_
  rw [ti_ur (g := 24) (by decide) (by decide) (by decide)]
  refine gz_aload_n (q := 0) hX dX6_init_966 rfl rfl ?_
  refine gz_sipush (v := 1200) hX dX6_init_967 (by decide) ?_
  refine gn_newI (ad := ad14) (lvF := fun ad => [(0, .ref (ad (1, 0, 0)))]) (stF := fun ad => [.ref (ad (1, 0, 0))]) (L := 1200) (nm := (2, 24, 0)) hX (by decide) (by decide) (by decide) (by decide) (by decide) (ti_z1 (by decide)) (ti_fr (by decide)) (gz_ne0 1 rfl) (fun ad2 ag => by rw [ag _ (Or.inl (gz_some_nn ti_this))]; exact ⟨rfl, rfl⟩) dX6_init_970 (fun ad15 ag15 => ?_)
  have A15 : gz_ag ti_0 ad ad15 := A14.trans ti_up0 ag15
  rw [ti_us (g := 28) tw_S24 (by decide) (by decide)]
  refine gn_putR (ci := 6) hX in_X6 (gz_apart hX in_X6 tyX6 tyX6_ok nmX6 rfl) (by decide) rfl ti_this (by decide) 24 (by decide) q1496 rfl rfl rfl (tyX6_ok 24 (by decide)) rfl rfl (gz_some_nn (ti_al tw_S24 (by decide))) dX6_init_972 ?_
  rw [ti_ur (g := 28) (by decide) (by decide) (by decide)]
  refine gz_aload_n (q := 0) hX dX6_init_975 rfl rfl ?_
  refine gz_bipush (v := 40) hX dX6_init_976 (by decide) ?_
  refine gn_newI (ad := ad15) (lvF := fun ad => [(0, .ref (ad (1, 0, 0)))]) (stF := fun ad => [.ref (ad (1, 0, 0))]) (L := 40) (nm := (2, 28, 0)) hX (by decide) (by decide) (by decide) (by decide) (by decide) (ti_z1 (by decide)) (ti_fr (by decide)) (gz_ne0 1 rfl) (fun ad2 ag => by rw [ag _ (Or.inl (gz_some_nn ti_this))]; exact ⟨rfl, rfl⟩) dX6_init_978 (fun ad16 ag16 => ?_)
  have A16 : gz_ag ti_0 ad ad16 := A15.trans ti_up0 ag16
  rw [ti_us (g := 35) tw_S28 (by decide) (by decide)]
  refine gn_putR (ci := 6) hX in_X6 (gz_apart hX in_X6 tyX6 tyX6_ok nmX6 rfl) (by decide) rfl ti_this (by decide) 28 (by decide) q1500 rfl rfl rfl (tyX6_ok 28 (by decide)) rfl rfl (gz_some_nn (ti_al tw_S28 (by decide))) dX6_init_980 ?_
  rw [ti_ur (g := 35) (by decide) (by decide) (by decide)]
  refine gz_aload_n (q := 0) hX dX6_init_983 rfl rfl ?_
  refine gz_iconst (v := (-1)) hX dX6_init_984 (by decide) ?_
  refine gz_put (ci := 6) (ty := .int) hX in_X6 (gz_apart hX in_X6 tyX6 tyX6_ok nmX6 rfl) (by decide) rfl ti_this (by decide) 33 (by decide) q1505 rfl rfl (tyX6_ok 33 (by decide)) rfl rfl dX6_init_985 (V2 := ti_F) rfl ?_
  refine gz_aload_n (q := 0) hX dX6_init_988 rfl rfl ?_
  refine gz_sipush (v := 160) hX dX6_init_989 (by decide) ?_
  refine gn_newI (ad := ad16) (lvF := fun ad => [(0, .ref (ad (1, 0, 0)))]) (stF := fun ad => [.ref (ad (1, 0, 0))]) (L := 160) (nm := (2, 35, 0)) hX (by decide) (by decide) (by decide) (by decide) (by decide) (ti_z2 (by decide)) (ti_fr (by decide)) (gz_ne0 1 rfl) (fun ad2 ag => by rw [ag _ (Or.inl (gz_some_nn ti_this))]; exact ⟨rfl, rfl⟩) dX6_init_992 (fun ad17 ag17 => ?_)
  have A17 : gz_ag ti_0 ad ad17 := A16.trans ti_up0 ag17
  rw [ti_us (g := 37) tw_S35 (by decide) (by decide)]
  refine gn_putR (ci := 6) hX in_X6 (gz_apart hX in_X6 tyX6 tyX6_ok nmX6 rfl) (by decide) rfl ti_this (by decide) 35 (by decide) q1507 rfl rfl rfl (tyX6_ok 35 (by decide)) rfl rfl (gz_some_nn (ti_al tw_S35 (by decide))) dX6_init_994 ?_
  rw [ti_ur (g := 37) (by decide) (by decide) (by decide)]
  refine gz_aload_n (q := 0) hX dX6_init_997 rfl rfl ?_
  refine gz_sipush (v := 160) hX dX6_init_998 (by decide) ?_
  refine gn_newI (ad := ad17) (lvF := fun ad => [(0, .ref (ad (1, 0, 0)))]) (stF := fun ad => [.ref (ad (1, 0, 0))]) (L := 160) (nm := (2, 37, 0)) hX (by decide) (by decide) (by decide) (by decide) (by decide) (ti_z2 (by decide)) (ti_fr (by decide)) (gz_ne0 1 rfl) (fun ad2 ag => by rw [ag _ (Or.inl (gz_some_nn ti_this))]; exact ⟨rfl, rfl⟩) dX6_init_1001 (fun ad18 ag18 => ?_)
  have A18 : gz_ag ti_0 ad ad18 := A17.trans ti_up0 ag18
  rw [ti_us (g := 39) tw_S37 (by decide) (by decide)]
  refine gn_putR (ci := 6) hX in_X6 (gz_apart hX in_X6 tyX6 tyX6_ok nmX6 rfl) (by decide) rfl ti_this (by decide) 37 (by decide) q1509 rfl rfl rfl (tyX6_ok 37 (by decide)) rfl rfl (gz_some_nn (ti_al tw_S37 (by decide))) dX6_init_1003 ?_
  rw [ti_ur (g := 39) (by decide) (by decide) (by decide)]
  refine gz_aload_n (q := 0) hX dX6_init_1006 rfl rfl ?_
  refine gz_bipush (v := 24) hX dX6_init_1007 (by decide) ?_
  refine gn_newI (ad := ad18) (lvF := fun ad => [(0, .ref (ad (1, 0, 0)))]) (stF := fun ad => [.ref (ad (1, 0, 0))]) (L := 24) (nm := (2, 39, 0)) hX (by decide) (by decide) (by decide) (by decide) (by decide) (ti_z2 (by decide)) (ti_fr (by decide)) (gz_ne0 1 rfl) (fun ad2 ag => by rw [ag _ (Or.inl (gz_some_nn ti_this))]; exact ⟨rfl, rfl⟩) dX6_init_1009 (fun ad19 ag19 => ?_)
  have A19 : gz_ag ti_0 ad ad19 := A18.trans ti_up0 ag19
  rw [ti_us (g := 40) tw_S39 (by decide) (by decide)]
  refine gn_putR (ci := 6) hX in_X6 (gz_apart hX in_X6 tyX6 tyX6_ok nmX6 rfl) (by decide) rfl ti_this (by decide) 39 (by decide) q1511 rfl rfl rfl (tyX6_ok 39 (by decide)) rfl rfl (gz_some_nn (ti_al tw_S39 (by decide))) dX6_init_1011 ?_
  rw [ti_ur (g := 40) (by decide) (by decide) (by decide)]
  refine gz_aload_n (q := 0) hX dX6_init_1014 rfl rfl ?_
  refine gz_bipush (v := 11) hX dX6_init_1015 (by decide) ?_
  refine gn_newI (ad := ad19) (lvF := fun ad => [(0, .ref (ad (1, 0, 0)))]) (stF := fun ad => [.ref (ad (1, 0, 0))]) (L := 11) (nm := (2, 40, 0)) hX (by decide) (by decide) (by decide) (by decide) (by decide) (ti_z2 (by decide)) (ti_fr (by decide)) (gz_ne0 1 rfl) (fun ad2 ag => by rw [ag _ (Or.inl (gz_some_nn ti_this))]; exact ⟨rfl, rfl⟩) dX6_init_1017 (fun ad20 ag20 => ?_)
  have A20 : gz_ag ti_0 ad ad20 := A19.trans ti_up0 ag20
  rw [ti_us (g := 41) tw_S40 (by decide) (by decide)]
  refine gn_putR (ci := 6) hX in_X6 (gz_apart hX in_X6 tyX6 tyX6_ok nmX6 rfl) (by decide) rfl ti_this (by decide) 40 (by decide) q1512 rfl rfl rfl (tyX6_ok 40 (by decide)) rfl rfl (gz_some_nn (ti_al tw_S40 (by decide))) dX6_init_1019 ?_
  rw [ti_ur (g := 41) (by decide) (by decide) (by decide)]
  refine gz_aload_n (q := 0) hX dX6_init_1022 rfl rfl ?_
  refine gz_sipush (v := 420) hX dX6_init_1023 (by decide) ?_
  refine gn_newI (ad := ad20) (lvF := fun ad => [(0, .ref (ad (1, 0, 0)))]) (stF := fun ad => [.ref (ad (1, 0, 0))]) (L := 420) (nm := (2, 41, 0)) hX (by decide) (by decide) (by decide) (by decide) (by decide) (ti_z2 (by decide)) (ti_fr (by decide)) (gz_ne0 1 rfl) (fun ad2 ag => by rw [ag _ (Or.inl (gz_some_nn ti_this))]; exact ⟨rfl, rfl⟩) dX6_init_1026 (fun ad21 ag21 => ?_)
  have A21 : gz_ag ti_0 ad ad21 := A20.trans ti_up0 ag21
  rw [ti_us (g := 45) tw_S41 (by decide) (by decide)]
  refine gn_putR (ci := 6) hX in_X6 (gz_apart hX in_X6 tyX6 tyX6_ok nmX6 rfl) (by decide) rfl ti_this (by decide) 41 (by decide) q1513 rfl rfl rfl (tyX6_ok 41 (by decide)) rfl rfl (gz_some_nn (ti_al tw_S41 (by decide))) dX6_init_1028 ?_
  rw [ti_ur (g := 45) (by decide) (by decide) (by decide)]
  refine gz_aload_n (q := 0) hX dX6_init_1031 rfl rfl ?_
  refine gz_iconst (v := 5) hX dX6_init_1032 (by decide) ?_
  refine gn_newI (ad := ad21) (lvF := fun ad => [(0, .ref (ad (1, 0, 0)))]) (stF := fun ad => [.ref (ad (1, 0, 0))]) (L := 5) (nm := (2, 45, 0)) hX (by decide) (by decide) (by decide) (by decide) (by decide) (ti_z2 (by decide)) (ti_fr (by decide)) (gz_ne0 1 rfl) (fun ad2 ag => by rw [ag _ (Or.inl (gz_some_nn ti_this))]; exact ⟨rfl, rfl⟩) dX6_init_1033 (fun ad22 ag22 => ?_)
  have A22 : gz_ag ti_0 ad ad22 := A21.trans ti_up0 ag22
  rw [ti_us (g := 46) tw_S45 (by decide) (by decide)]
  refine gn_putR (ci := 6) hX in_X6 (gz_apart hX in_X6 tyX6 tyX6_ok nmX6 rfl) (by decide) rfl ti_this (by decide) 45 (by decide) q1517 rfl rfl rfl (tyX6_ok 45 (by decide)) rfl rfl (gz_some_nn (ti_al tw_S45 (by decide))) dX6_init_1035 ?_
  rw [ti_ur (g := 46) (by decide) (by decide) (by decide)]
  refine gz_aload_n (q := 0) hX dX6_init_1038 rfl rfl ?_
  refine gz_iconst (v := 5) hX dX6_init_1039 (by decide) ?_
  refine gn_newI (ad := ad22) (lvF := fun ad => [(0, .ref (ad (1, 0, 0)))]) (stF := fun ad => [.ref (ad (1, 0, 0))]) (L := 5) (nm := (2, 46, 0)) hX (by decide) (by decide) (by decide) (by decide) (by decide) (ti_z2 (by decide)) (ti_fr (by decide)) (gz_ne0 1 rfl) (fun ad2 ag => by rw [ag _ (Or.inl (gz_some_nn ti_this))]; exact ⟨rfl, rfl⟩) dX6_init_1040 (fun ad23 ag23 => ?_)
  have A23 : gz_ag ti_0 ad ad23 := A22.trans ti_up0 ag23
  rw [ti_us (g := 49) tw_S46 (by decide) (by decide)]
  refine gn_putR (ci := 6) hX in_X6 (gz_apart hX in_X6 tyX6 tyX6_ok nmX6 rfl) (by decide) rfl ti_this (by decide) 46 (by decide) q1518 rfl rfl rfl (tyX6_ok 46 (by decide)) rfl rfl (gz_some_nn (ti_al tw_S46 (by decide))) dX6_init_1042 ?_
  rw [ti_ur (g := 49) (by decide) (by decide) (by decide)]
  refine gz_aload_n (q := 0) hX dX6_init_1045 rfl rfl ?_
  refine gz_bipush (v := 16) hX dX6_init_1046 (by decide) ?_
  refine gn_newI (ad := ad23) (lvF := fun ad => [(0, .ref (ad (1, 0, 0)))]) (stF := fun ad => [.ref (ad (1, 0, 0))]) (L := 16) (nm := (2, 49, 0)) hX (by decide) (by decide) (by decide) (by decide) (by decide) (ti_z2 (by decide)) (ti_fr (by decide)) (gz_ne0 1 rfl) (fun ad2 ag => by rw [ag _ (Or.inl (gz_some_nn ti_this))]; exact ⟨rfl, rfl⟩) dX6_init_1048 (fun ad24 ag24 => ?_)
  have A24 : gz_ag ti_0 ad ad24 := A23.trans ti_up0 ag24
  rw [ti_us (g := 50) tw_S49 (by decide) (by decide)]
  refine gn_putR (ci := 6) hX in_X6 (gz_apart hX in_X6 tyX6 tyX6_ok nmX6 rfl) (by decide) rfl ti_this (by decide) 49 (by decide) q1521 rfl rfl rfl (tyX6_ok 49 (by decide)) rfl rfl (gz_some_nn (ti_al tw_S49 (by decide))) dX6_init_1050 ?_
  rw [ti_ur (g := 50) (by decide) (by decide) (by decide)]
  refine gz_aload_n (q := 0) hX dX6_init_1053 rfl rfl ?_
  refine gz_bipush (v := 16) hX dX6_init_1054 (by decide) ?_
  refine gn_newI (ad := ad24) (lvF := fun ad => [(0, .ref (ad (1, 0, 0)))]) (stF := fun ad => [.ref (ad (1, 0, 0))]) (L := 16) (nm := (2, 50, 0)) hX (by decide) (by decide) (by decide) (by decide) (by decide) (ti_z2 (by decide)) (ti_fr (by decide)) (gz_ne0 1 rfl) (fun ad2 ag => by rw [ag _ (Or.inl (gz_some_nn ti_this))]; exact ⟨rfl, rfl⟩) dX6_init_1056 (fun ad25 ag25 => ?_)
  have A25 : gz_ag ti_0 ad ad25 := A24.trans ti_up0 ag25
  rw [ti_us (g := 52) tw_S50 (by decide) (by decide)]
  refine gn_putR (ci := 6) hX in_X6 (gz_apart hX in_X6 tyX6 tyX6_ok nmX6 rfl) (by decide) rfl ti_this (by decide) 50 (by decide) q1522 rfl rfl rfl (tyX6_ok 50 (by decide)) rfl rfl (gz_some_nn (ti_al tw_S50 (by decide))) dX6_init_1058 ?_
  rw [ti_ur (g := 52) (by decide) (by decide) (by decide)]
  refine gz_aload_n (q := 0) hX dX6_init_1061 rfl rfl ?_
  refine gz_bipush (v := 9) hX dX6_init_1062 (by decide) ?_
  refine gn_newI (ad := ad25) (lvF := fun ad => [(0, .ref (ad (1, 0, 0)))]) (stF := fun ad => [.ref (ad (1, 0, 0))]) (L := 9) (nm := (2, 52, 0)) hX (by decide) (by decide) (by decide) (by decide) (by decide) (ti_z2 (by decide)) (ti_fr (by decide)) (gz_ne0 1 rfl) (fun ad2 ag => by rw [ag _ (Or.inl (gz_some_nn ti_this))]; exact ⟨rfl, rfl⟩) dX6_init_1064 (fun ad26 ag26 => ?_)
  have A26 : gz_ag ti_0 ad ad26 := A25.trans ti_up0 ag26
  rw [ti_us (g := 53) tw_S52 (by decide) (by decide)]
  refine gn_putR (ci := 6) hX in_X6 (gz_apart hX in_X6 tyX6 tyX6_ok nmX6 rfl) (by decide) rfl ti_this (by decide) 52 (by decide) q1524 rfl rfl rfl (tyX6_ok 52 (by decide)) rfl rfl (gz_some_nn (ti_al tw_S52 (by decide))) dX6_init_1066 ?_
  rw [ti_ur (g := 53) (by decide) (by decide) (by decide)]
  refine gz_aload_n (q := 0) hX dX6_init_1069 rfl rfl ?_
  refine gz_bipush (v := 9) hX dX6_init_1070 (by decide) ?_
  refine gn_newI (ad := ad26) (lvF := fun ad => [(0, .ref (ad (1, 0, 0)))]) (stF := fun ad => [.ref (ad (1, 0, 0))]) (L := 9) (nm := (2, 53, 0)) hX (by decide) (by decide) (by decide) (by decide) (by decide) (ti_z2 (by decide)) (ti_fr (by decide)) (gz_ne0 1 rfl) (fun ad2 ag => by rw [ag _ (Or.inl (gz_some_nn ti_this))]; exact ⟨rfl, rfl⟩) dX6_init_1072 (fun ad27 ag27 => ?_)
  have A27 : gz_ag ti_0 ad ad27 := A26.trans ti_up0 ag27
  rw [ti_us (g := 54) tw_S53 (by decide) (by decide)]
  refine gn_putR (ci := 6) hX in_X6 (gz_apart hX in_X6 tyX6 tyX6_ok nmX6 rfl) (by decide) rfl ti_this (by decide) 53 (by decide) q1525 rfl rfl rfl (tyX6_ok 53 (by decide)) rfl rfl (gz_some_nn (ti_al tw_S53 (by decide))) dX6_init_1074 ?_
  rw [ti_ur (g := 54) (by decide) (by decide) (by decide)]
  refine gz_aload_n (q := 0) hX dX6_init_1077 rfl rfl ?_
  refine gz_bipush (v := 13) hX dX6_init_1078 (by decide) ?_
  refine gn_newI (ad := ad27) (lvF := fun ad => [(0, .ref (ad (1, 0, 0)))]) (stF := fun ad => [.ref (ad (1, 0, 0))]) (L := 13) (nm := (2, 54, 0)) hX (by decide) (by decide) (by decide) (by decide) (by decide) (ti_z2 (by decide)) (ti_fr (by decide)) (gz_ne0 1 rfl) (fun ad2 ag => by rw [ag _ (Or.inl (gz_some_nn ti_this))]; exact ⟨rfl, rfl⟩) dX6_init_1080 (fun ad28 ag28 => ?_)
  have A28 : gz_ag ti_0 ad ad28 := A27.trans ti_up0 ag28
  rw [ti_us (g := 55) tw_S54 (by decide) (by decide)]
  refine gn_putR (ci := 6) hX in_X6 (gz_apart hX in_X6 tyX6 tyX6_ok nmX6 rfl) (by decide) rfl ti_this (by decide) 54 (by decide) q1526 rfl rfl rfl (tyX6_ok 54 (by decide)) rfl rfl (gz_some_nn (ti_al tw_S54 (by decide))) dX6_init_1082 ?_
  rw [ti_ur (g := 55) (by decide) (by decide) (by decide)]
  refine gz_aload_n (q := 0) hX dX6_init_1085 rfl rfl ?_
  refine gz_sipush (v := 4096) hX dX6_init_1086 (by decide) ?_
  refine gn_newI (ad := ad28) (lvF := fun ad => [(0, .ref (ad (1, 0, 0)))]) (stF := fun ad => [.ref (ad (1, 0, 0))]) (L := 4096) (nm := (2, 55, 0)) hX (by decide) (by decide) (by decide) (by decide) (by decide) (ti_z2 (by decide)) (ti_fr (by decide)) (gz_ne0 1 rfl) (fun ad2 ag => by rw [ag _ (Or.inl (gz_some_nn ti_this))]; exact ⟨rfl, rfl⟩) dX6_init_1089 (fun ad29 ag29 => ?_)
  have A29 : gz_ag ti_0 ad ad29 := A28.trans ti_up0 ag29
  rw [ti_us (g := 56) tw_S55 (by decide) (by decide)]
  refine gn_putR (ci := 6) hX in_X6 (gz_apart hX in_X6 tyX6 tyX6_ok nmX6 rfl) (by decide) rfl ti_this (by decide) 55 (by decide) q1527 rfl rfl rfl (tyX6_ok 55 (by decide)) rfl rfl (gz_some_nn (ti_al tw_S55 (by decide))) dX6_init_1091 ?_
  rw [ti_ur (g := 56) (by decide) (by decide) (by decide)]
  refine gz_aload_n (q := 0) hX dX6_init_1094 rfl rfl ?_
  refine gz_sipush (v := 3600) hX dX6_init_1095 (by decide) ?_
  refine gn_newI (ad := ad29) (lvF := fun ad => [(0, .ref (ad (1, 0, 0)))]) (stF := fun ad => [.ref (ad (1, 0, 0))]) (L := 3600) (nm := (2, 56, 0)) hX (by decide) (by decide) (by decide) (by decide) (by decide) (ti_z2 (by decide)) (ti_fr (by decide)) (gz_ne0 1 rfl) (fun ad2 ag => by rw [ag _ (Or.inl (gz_some_nn ti_this))]; exact ⟨rfl, rfl⟩) dX6_init_1098 (fun ad30 ag30 => ?_)
  have A30 : gz_ag ti_0 ad ad30 := A29.trans ti_up0 ag30
  rw [ti_us (g := 58) tw_S56 (by decide) (by decide)]
  refine gn_putR (ci := 6) hX in_X6 (gz_apart hX in_X6 tyX6 tyX6_ok nmX6 rfl) (by decide) rfl ti_this (by decide) 56 (by decide) q1528 rfl rfl rfl (tyX6_ok 56 (by decide)) rfl rfl (gz_some_nn (ti_al tw_S56 (by decide))) dX6_init_1100 ?_
  rw [ti_ur (g := 58) (by decide) (by decide) (by decide)]
  refine gz_aload_n (q := 0) hX dX6_init_1103 rfl rfl ?_
  refine gz_iconst (v := 5) hX dX6_init_1104 (by decide) ?_
  refine gn_newI (ad := ad30) (lvF := fun ad => [(0, .ref (ad (1, 0, 0)))]) (stF := fun ad => [.ref (ad (1, 0, 0))]) (L := 5) (nm := (2, 58, 0)) hX (by decide) (by decide) (by decide) (by decide) (by decide) (ti_z2 (by decide)) (ti_fr (by decide)) (gz_ne0 1 rfl) (fun ad2 ag => by rw [ag _ (Or.inl (gz_some_nn ti_this))]; exact ⟨rfl, rfl⟩) dX6_init_1105 (fun ad31 ag31 => ?_)
  have A31 : gz_ag ti_0 ad ad31 := A30.trans ti_up0 ag31
  rw [ti_us (g := 60) tw_S58 (by decide) (by decide)]
  refine gn_putR (ci := 6) hX in_X6 (gz_apart hX in_X6 tyX6 tyX6_ok nmX6 rfl) (by decide) rfl ti_this (by decide) 58 (by decide) q1530 rfl rfl rfl (tyX6_ok 58 (by decide)) rfl rfl (gz_some_nn (ti_al tw_S58 (by decide))) dX6_init_1107 ?_
  rw [ti_ur (g := 60) (by decide) (by decide) (by decide)]
  refine gz_aload_n (q := 0) hX dX6_init_1110 rfl rfl ?_
  refine gz_bipush (v := 7) hX dX6_init_1111 (by decide) ?_
  refine gn_newI (ad := ad31) (lvF := fun ad => [(0, .ref (ad (1, 0, 0)))]) (stF := fun ad => [.ref (ad (1, 0, 0))]) (L := 7) (nm := (2, 60, 0)) hX (by decide) (by decide) (by decide) (by decide) (by decide) (ti_z2 (by decide)) (ti_fr (by decide)) (gz_ne0 1 rfl) (fun ad2 ag => by rw [ag _ (Or.inl (gz_some_nn ti_this))]; exact ⟨rfl, rfl⟩) dX6_init_1113 (fun ad32 ag32 => ?_)
  have A32 : gz_ag ti_0 ad ad32 := A31.trans ti_up0 ag32
  rw [ti_us (g := 61) tw_S60 (by decide) (by decide)]
  refine gn_putR (ci := 6) hX in_X6 (gz_apart hX in_X6 tyX6 tyX6_ok nmX6 rfl) (by decide) rfl ti_this (by decide) 60 (by decide) q1532 rfl rfl rfl (tyX6_ok 60 (by decide)) rfl rfl (gz_some_nn (ti_al tw_S60 (by decide))) dX6_init_1115 ?_
  rw [ti_ur (g := 61) (by decide) (by decide) (by decide)]
  refine gz_aload_n (q := 0) hX dX6_init_1118 rfl rfl ?_
  refine gz_iconst (v := 4) hX dX6_init_1119 (by decide) ?_
  refine gn_newI (ad := ad32) (lvF := fun ad => [(0, .ref (ad (1, 0, 0)))]) (stF := fun ad => [.ref (ad (1, 0, 0))]) (L := 4) (nm := (2, 61, 0)) hX (by decide) (by decide) (by decide) (by decide) (by decide) (ti_z2 (by decide)) (ti_fr (by decide)) (gz_ne0 1 rfl) (fun ad2 ag => by rw [ag _ (Or.inl (gz_some_nn ti_this))]; exact ⟨rfl, rfl⟩) dX6_init_1120 (fun ad33 ag33 => ?_)
  have A33 : gz_ag ti_0 ad ad33 := A32.trans ti_up0 ag33
  rw [ti_us (g := 63) tw_S61 (by decide) (by decide)]
  refine gn_putR (ci := 6) hX in_X6 (gz_apart hX in_X6 tyX6 tyX6_ok nmX6 rfl) (by decide) rfl ti_this (by decide) 61 (by decide) q1533 rfl rfl rfl (tyX6_ok 61 (by decide)) rfl rfl (gz_some_nn (ti_al tw_S61 (by decide))) dX6_init_1122 ?_
  rw [ti_ur (g := 63) (by decide) (by decide) (by decide)]
  refine gz_aload_n (q := 0) hX dX6_init_1125 rfl rfl ?_
  refine gz_bipush (v := 6) hX dX6_init_1126 (by decide) ?_
  refine gn_newI (ad := ad33) (lvF := fun ad => [(0, .ref (ad (1, 0, 0)))]) (stF := fun ad => [.ref (ad (1, 0, 0))]) (L := 6) (nm := (2, 63, 0)) hX (by decide) (by decide) (by decide) (by decide) (by decide) (ti_z2 (by decide)) (ti_fr (by decide)) (gz_ne0 1 rfl) (fun ad2 ag => by rw [ag _ (Or.inl (gz_some_nn ti_this))]; exact ⟨rfl, rfl⟩) dX6_init_1128 (fun ad34 ag34 => ?_)
  have A34 : gz_ag ti_0 ad ad34 := A33.trans ti_up0 ag34
  rw [ti_us (g := 64) tw_S63 (by decide) (by decide)]
  refine gn_putR (ci := 6) hX in_X6 (gz_apart hX in_X6 tyX6 tyX6_ok nmX6 rfl) (by decide) rfl ti_this (by decide) 63 (by decide) q1535 rfl rfl rfl (tyX6_ok 63 (by decide)) rfl rfl (gz_some_nn (ti_al tw_S63 (by decide))) dX6_init_1130 ?_
  rw [ti_ur (g := 64) (by decide) (by decide) (by decide)]
  refine gz_aload_n (q := 0) hX dX6_init_1133 rfl rfl ?_
  refine gz_bipush (v := 21) hX dX6_init_1134 (by decide) ?_
  refine gn_newI (ad := ad34) (lvF := fun ad => [(0, .ref (ad (1, 0, 0)))]) (stF := fun ad => [.ref (ad (1, 0, 0))]) (L := 21) (nm := (2, 64, 0)) hX (by decide) (by decide) (by decide) (by decide) (by decide) (ti_z2 (by decide)) (ti_fr (by decide)) (gz_ne0 1 rfl) (fun ad2 ag => by rw [ag _ (Or.inl (gz_some_nn ti_this))]; exact ⟨rfl, rfl⟩) dX6_init_1136 (fun ad35 ag35 => ?_)
  have A35 : gz_ag ti_0 ad ad35 := A34.trans ti_up0 ag35
  rw [ti_us (g := 68) tw_S64 (by decide) (by decide)]
  refine gn_putR (ci := 6) hX in_X6 (gz_apart hX in_X6 tyX6 tyX6_ok nmX6 rfl) (by decide) rfl ti_this (by decide) 64 (by decide) q1536 rfl rfl rfl (tyX6_ok 64 (by decide)) rfl rfl (gz_some_nn (ti_al tw_S64 (by decide))) dX6_init_1138 ?_
  rw [ti_ur (g := 68) (by decide) (by decide) (by decide)]
  refine gz_aload_n (q := 0) hX dX6_init_1141 rfl rfl ?_
  refine gz_sipush (v := 2400) hX dX6_init_1142 (by decide) ?_
  refine gn_newI (ad := ad35) (lvF := fun ad => [(0, .ref (ad (1, 0, 0)))]) (stF := fun ad => [.ref (ad (1, 0, 0))]) (L := 2400) (nm := (2, 68, 0)) hX (by decide) (by decide) (by decide) (by decide) (by decide) (ti_z2 (by decide)) (ti_fr (by decide)) (gz_ne0 1 rfl) (fun ad2 ag => by rw [ag _ (Or.inl (gz_some_nn ti_this))]; exact ⟨rfl, rfl⟩) dX6_init_1145 (fun ad36 ag36 => ?_)
  have A36 : gz_ag ti_0 ad ad36 := A35.trans ti_up0 ag36
  rw [ti_us (g := 69) tw_S68 (by decide) (by decide)]
  refine gn_putR (ci := 6) hX in_X6 (gz_apart hX in_X6 tyX6 tyX6_ok nmX6 rfl) (by decide) rfl ti_this (by decide) 68 (by decide) q1540 rfl rfl rfl (tyX6_ok 68 (by decide)) rfl rfl (gz_some_nn (ti_al tw_S68 (by decide))) dX6_init_1147 ?_
  rw [ti_ur (g := 69) (by decide) (by decide) (by decide)]
  rw [ti_sh_69, ti_rf_69]
  exact gn_ret hX hE h5 h6 h7 ⟨rfl, rfl, rfl, A36, rfl⟩ dX6_init_1150
