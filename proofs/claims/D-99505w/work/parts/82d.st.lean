/-! THE LAW's START: both objects made, the two worlds told apart -/
set_option maxRecDepth 100000
theorem st_cl : gp_cl st_Ds st_Df := by
  rintro ⟨a, k, c⟩ f bb hn hb h0
  unfold xw_c at hb
  dsimp only at hb
  have P1 : ∀ (Q : Prop) [Decidable Q] (x : gz_N), (if Q then some x else none) = some bb → Q ∧ bb = x := fun Q _ x h => by
    by_cases q : Q
    · rw [if_pos q] at h; exact ⟨q, (Option.some.inj h).symm⟩
    · rw [if_neg q] at h; cases h
  have K : 20 ≤ a → a < 90 → k < 9 := fun h1 h2 => Classical.byContradiction (fun hk => hn (by
    simp [xw_s, hk, show a ≠ 10 by omega, show a ≠ 11 by omega, show a ≠ 0 by omega, h2]))
  by_cases q : a = 10
  · rw [if_pos q] at hb
    unfold xw_m0 at hb
    split at hb <;> cases hb <;> exact fun z => by cases z
  rw [if_neg q] at hb
  clear q
  by_cases q : a = 20 ∧ f < 9
  · rw [if_pos q] at hb
    have hk := K (by omega) (by omega)
    unfold xw_mk at hb
    split at hb <;> cases hb <;> simp [xw_s, hk]
  rw [if_neg q] at hb
  clear q
  by_cases q : a = 21
  · rw [if_pos q] at hb
    have hk := K (by omega) (by omega)
    obtain ⟨h, rfl⟩ := P1 _ _ hb
    simp [xw_s, hk, h]
  rw [if_neg q] at hb
  clear q
  by_cases q : a = 22
  · rw [if_pos q] at hb
    have hk := K (by omega) (by omega)
    obtain ⟨h, rfl⟩ := P1 _ _ hb
    simp [xw_s, hk, h]
  rw [if_neg q] at hb
  clear q
  by_cases q : a = 23
  · rw [if_pos q] at hb
    have hk := K (by omega) (by omega)
    obtain ⟨h, rfl⟩ := P1 _ _ hb
    simp [xw_s, hk, h]
  rw [if_neg q] at hb
  clear q
  by_cases q : a = 25
  · rw [if_pos q] at hb
    have hk := K (by omega) (by omega)
    obtain ⟨h, rfl⟩ := P1 _ _ hb
    simp [xw_s, hk, h]
  rw [if_neg q] at hb
  clear q
  by_cases q : a = 27
  · rw [if_pos q] at hb
    subst q
    have hk := K (by omega) (by omega)
    obtain ⟨h, rfl⟩ := P1 _ _ hb
    have hc : c < 5 := by simpa [xw_s, hk] using hn
    simp [xw_s, hk, hc]
  rw [if_neg q] at hb
  clear q
  by_cases q : a = 28
  · rw [if_pos q] at hb
    subst q
    have hk := K (by omega) (by omega)
    obtain ⟨h, rfl⟩ := P1 _ _ hb
    have hc : c < 5 := by simpa [xw_s, hk] using hn
    rw [xs_RR hk hc h]
    exact fun z => by cases z
  rw [if_neg q] at hb
  clear q
  by_cases q : a = 40
  · rw [if_pos q] at hb
    subst q
    have hk := K (by omega) (by omega)
    obtain ⟨h, rfl⟩ := P1 _ _ hb
    have hc : c < 12 := by simpa [xw_s, hk] using hn
    simp [xw_s, hk, hc]
  rw [if_neg q] at hb
  clear q
  unfold st_Df at hb
  dsimp only at hb
  by_cases q : a = 20 ∧ c = 0
  · rw [if_pos q] at hb
    have hk := K (by omega) (by omega)
    by_cases q2 : 9 ≤ f ∧ f < 12
    · rw [if_pos q2] at hb
      cases hb
      simp [xw_s, st_Ds, hk, show f - 9 < 3 by omega]
    · rw [if_neg q2] at hb
      obtain ⟨h, rfl⟩ := P1 _ _ hb
      simp [xw_s, st_Ds, hk]
  rw [if_neg q] at hb
  clear q
  by_cases q : (a, k, c) = (11, 7, 0)
  · rw [if_pos q] at hb
    obtain ⟨h, rfl⟩ := P1 _ _ hb
    simp [xw_s, show 3 + f < 9 by omega]
  rw [if_neg q] at hb
  clear q
  obtain ⟨h, rfl⟩ := P1 _ _ hb
  exact absurd rfl h0
theorem st_1 {sh : gz_S} (h : sh (1, 0, 0) = none) : cf_S sh (1, 0, 0) = none := by
  unfold cf_S
  rw [gz_us_ne (by decide), gz_us_ne (by decide), gz_us_ne (by decide), gz_us_ne (by decide), cf_b_out (by decide) rfl]
  unfold cf_S0
  rw [gz_us_ne (by decide), mk_S_out (Or.inr rfl), gz_us_ne (by decide), mk_S_out (Or.inr rfl), gz_us_ne (by decide), mk_S_out (Or.inr rfl), gz_us_ne (by decide), gz_us_ne (by decide)]
  exact h
theorem st_go {X : gz_X} {b L : Nat} {xs : Nat → Int32} (lok : lw_ok X b L xs) (K : ∀ px pm : Nat, lW X px pm st_Ds st_Df (cf_V st_z1) ti_F 3000 40000 18 [(3, .int 0), (2, .ref pm), (1, .ref px), (0, .ref b)] []) : gW X 4 (fun _ => none) st_n1 (fun n => gx_C X (1000 + n.2.1)) st_z1 0 0 0 [(0, .ref b)] [] := by
  have ok := lok.1
  have hK := ok.2.2.2.2.2.1
  have hNW := ok.2.2.2.2.2.2.2.2.2.2.2.1
  have hSt := ok.2.2.2.2.2.2.2.2.2.2.2.2
  have hz0 : gz_z (fun _ => none) st_z1 st_n1 := fun a _ => ⟨rfl, rfl⟩
  refine gn_new (ad := fun n => gx_C X (1000 + n.2.1)) (lvF := fun _ => [(0, .ref b)]) (stF := fun _ => []) (nm := (10, 0, 0)) (ci := 0) ok in_X0 tyX0_ok (by decide) rfl q179 q180 q144 (by decide) (by decide) (by decide) hz0 rfl (gz_ne0 9 rfl) (fun ad2 ag => ⟨rfl, rfl⟩) dL_law_0 (fun ad1 ag1 => ?_)
  have z1 : gz_z st_s1 st_z1 st_n1 := hz0.us
  refine gz_dupa ok dL_law_3 ?_
  refine gn_callI (As := []) (n := (10, 0, 0)) ok (c_x0_init (sh := st_s1) z1 gz_us_eq (fun a h => gz_us_ne (fun e => by rw [e] at h; exact absurd h (by decide)))) (lw_meth q183) q144 q181 q182 rfl rfl rfl (by decide +kernel) (by decide) (by decide) rfl rfl (Nat.le_of_ble_eq_true rfl) dL_law_4 ?_
  rintro sh2 V2 Rf2 ad2 rv ⟨⟨rfl, rfl, rfl, ag2, rfl⟩, z2, m2⟩
  refine gz_astore_n (i := 1) ok dL_law_7 rfl (by decide) rfl ?_
  have s1 : st_s1 (1, 0, 0) = none := rfl
  have f1 : cf_S st_s1 (1, 0, 0) = none := st_1 s1
  have e10 : ad2 (10, 0, 0) = ad1 (10, 0, 0) := ag2 _ (Or.inl (gz_some_nn gz_us_eq))
  rw [← e10]
  have n10 : cf_S st_s1 (10, 0, 0) ≠ none := m2 _ (gz_some_nn gz_us_eq)
  refine gn_new (ad := ad2) (lvF := fun ad => [(1, .ref (ad (10, 0, 0))), (0, .ref b)]) (stF := fun _ => []) (nm := (1, 0, 0)) (ci := 6) ok in_X6 tyX6_ok (by decide) rfl q1466 q1467 q153 (by decide) (by decide) (by decide) z2 f1 (gz_ne0 0 rfl) (fun ad3 ag => by rw [ag _ (Or.inl n10)]; exact ⟨rfl, rfl⟩) dL_law_8 (fun ad3 ag3 => ?_)
  refine gz_dupa ok dL_law_11 ?_
  intro H locs ls hw hS hl
  have xn1 : ∀ n : gz_N, xw_s st_Ds n ≠ none → n ≠ (1, 0, 0) := fun n h e => h (by rw [e]; rfl)
  have hxw : gz_wd (gx_D X) (gx_C X) (gx_A X) (xw_s st_Ds) (cf_V st_z1) (xw_c st_Df) ad3 H := by
    refine gz_wd.less hw (fun n t h => ?_) (fun n _ => rfl) (fun n h => ?_) (fun n _ => rfl) st_cl
    · rw [gz_us_ne (xn1 n (gz_some_nn h))]
      exact st_S h
    · obtain ⟨t, ht⟩ := gp_nn_of h
      exact (st_R ht).symm
  have t0 : ∀ n : gz_N, ti_0 n ≠ none → n = (1, 0, 0) := fun n h => Classical.byContradiction (fun e => h (if_neg e))
  have hmw : gz_wd (gx_D X) (gx_C X) (gx_A X) ti_0 (ti_V 0) (fun _ _ => none) ad3 H := by
    refine gz_wd.less hw (fun n t h => ?_) (fun n h => ?_) (fun n h => ?_) (fun n _ => rfl) (fun n f bb h hb => by cases hb)
    · obtain rfl := t0 n (gz_some_nn h)
      rw [gz_us_eq]
      exact h
    · obtain rfl := t0 n h
      rw [(z2 _ f1).1]
      funext j
      simp [ti_V]
    · obtain rfl := t0 n h
      exact (z2 _ f1).2.symm
  have hA := ll_Asub lok hmw hS
  have hcw := cwI (R := gx_R X) 0 ok.2.2.2.2.1 (lw_meth q1470) rfl (show rm_x6_init.cells = 36 from rfl) (show rm_x6_init.slots = 15749 from rfl) (ok.2.2.2.2.1 _ q153) (ok.2.2.2.2.1 _ q1468) (ok.2.2.2.2.1 _ q1469) rfl (by decide +kernel) (by rw [ok.2.2.2.2.2.2.2.2.1]; decide)
  have hrun := va_runI (e := gx_e X) (below := gx_b X) (meth := gx_me X) (locs := locs) (g := F0 (gx_m X) 12 ls [.ref (ad3 (1, 0, 0)), .ref (ad3 (1, 0, 0))]) (cells := 0 + 1 + 2238 + 1) (slots := 0 + 16 + 14647 + 69) (As := []) (rest := [Value.ref (ad3 (1, 0, 0))]) (b := ad3 (1, 0, 0)) ⟨ok.1, ok.2.1, ok.2.2.1, ok.2.2.2.1, ok.2.2.2.2.1⟩ (c_x6_init (l := gx_l X) (D := gx_D X) (aC := gx_C X) (ad := ad3) H.size) hcw ⟨gz_blind, fun U hU hW => ⟨rfl, by rw [hU], ⟨by rw [hU]; exact hmw.own, va_K.moved hW.alike hK, hNW.warm hW, hSt.call hW (by rw [hU]; exact hS.2.1) hA⟩⟩⟩ rfl rfl hl.1 rfl (lv_room (Nat.le_of_ble_eq_true rfl)) dL_law_12 (by rw [ok.2.2.2.2.2.2.2.2.1]; decide)
  intro T hT XS
  obtain ⟨v, st₀, t, T', Lc, h0, X', hL, e1, e2, ⟨⟨sh2, V2', Rf2, ad4, rv, hv, hB, hF⟩, hz, hk⟩, stp⟩ := hrun T hT XS
  cases hv
  obtain ⟨rfl, rfl, rfl, ag4, rfl⟩ := hF
  rw [h0] at hz hk
  have dj0 : ∀ a b : gz_N, ti_0 a ≠ none → a.1 ≠ 0 → xw_s st_Ds b ≠ none → ad3 a ≠ ad3 b := fun a b ha h0 hb e => by
    obtain rfl := t0 a ha
    obtain ⟨t, ht⟩ := gp_nn_of hb
    have := hw.2.1 (1, 0, 0) b (gz_some_nn gz_us_eq) (by rw [gz_us_ne (xn1 b hb), st_S ht]; exact fun z => by cases z) e
    exact xn1 b hb this.symm
  have tw0 : ∀ a : gz_N, tw_S a ≠ none → a.1 ≠ 0 := fun a ha e => ha (by
    unfold tw_S
    rw [if_neg (fun q => by rw [q] at e; cases e), if_neg (fun q => by rw [e] at q; cases q.1)])
  have e4 : ad4 (1, 0, 0) = ad3 (1, 0, 0) := ag4 _ (Or.inl (by unfold ti_0; rw [if_pos rfl]; exact fun z => by cases z))
  have hx2 : gz_wd (gx_D X) (gx_C X) (gx_A X) (xw_s st_Ds) (cf_V st_z1) (xw_c st_Df) ad3 t.heap := ll_kept hmw hxw dj0 hk
  have dj2 : lw_dj st_Ds ad3 ad4 := fun a b ha h0 hb e => ll_djn hB.1 hxw dj0 b a hb (tw0 b hb) ha e.symm
  have k1 : lW X (ad3 (10, 0, 0)) (ad3 (1, 0, 0)) st_Ds st_Df (cf_V st_z1) ti_F 3000 40000 15 [(1, .ref (ad3 (10, 0, 0))), (0, .ref b)] [.ref (ad3 (1, 0, 0))] := by
    have k18 := K (ad3 (10, 0, 0)) (ad3 (1, 0, 0))
    intro ax am H locs ls hi hS hl
    refine lv_astore_n (i := 2) lok.1.1 lok.1.2.1 dL_law_15 rfl hl (by decide) rfl (fun ls2 hl2 => ?_)
    have k16 : lW X (ad3 (10, 0, 0)) (ad3 (1, 0, 0)) st_Ds st_Df (cf_V st_z1) ti_F 3000 40000 16 [(2, .ref (ad3 (1, 0, 0))), (1, .ref (ad3 (10, 0, 0))), (0, .ref b)] [] := by
      refine ll_iconst (v := 0) lok dL_law_16 (by decide) ?_
      exact ll_istore_n (i := 3) lok dL_law_17 rfl (by decide) rfl k18
    exact k16 ax am H locs ls2 hi hS hl2
  obtain ⟨t2, a1, b1⟩ := W.widen (show 0 + 1 + 2238 + 1 + 36 ≤ 3000 by decide) (show 0 + 16 + 14647 + 69 + 15749 ≤ 40000 by decide) (k1 ad3 ad4 T'.heap (locs ++ Lc) ls ⟨rfl, e4, by rw [e1]; exact hx2, by rw [e1]; exact hB.1.weaken hA, dj2⟩ ⟨Nat.le_trans hS.1 (by rw [e1]; exact hz), fun q h1 h2 => by rw [e1, hk q (Nat.lt_of_lt_of_le h1 hS.1) (fun z => h2 (hA q z))]; exact hS.2.1 q h1 h2, fun q hq => by
      rcases List.mem_append.mp hq with h | h
      · exact hS.2.2 q h
      · exact hA _ (hL q h)⟩ hl) T' rfl X'
  exact ⟨t2, stp t2 a1, b1⟩
theorem st_walk {p : Program} {e : Env} {s : State} {m : MethodId} {below : List Frame} {meth : Method} {c : Code} (l : Launch) {b L : Nat} {xs : Nat → Int32} (C0 : lw_At p s m meth c b L xs) (hnm : meth.name = "law")
    (K : ∀ (X : gz_X) (px pm : Nat), lw_ok X b L xs → gx_l X = l → lW X px pm st_Ds st_Df (cf_V st_z1) ti_F 3000 40000 18 [(3, .int 0), (2, .ref pm), (1, .ref px), (0, .ref b)] []) :
    W p l e room_1 s m #[Value.ref b] below meth c s.heap [] 0 0 (lw_Z below #[Value.ref b] s) (entryFrame m ([Value.ref b] : List Value).toArray 4) := by
  obtain ⟨hx, hc, hr, hml, hown, ht0, hX, hb, hlk, hg⟩ := C0
  obtain ⟨D, aC, hK, hNW, hSt, h1000⟩ := st_all ht0 hg
  have hl := lv_entry [Value.ref b] (n := 4) (Nat.le_of_ble_eq_true rfl)
  rw [lg_entry_eq]
  have hlv : lv_args 0 [Value.ref b] = [(0, .ref b)] := rfl
  rw [hlv] at hl
  have ok : lw_ok (p, l, e, room_1, s, m, #[Value.ref b], below, meth, c, (fun q => s.heap.size ≤ q), D, aC, (fun _ _ _ _ _ => True), 0, 0, lw_Z below #[Value.ref b] s) b L xs := ⟨⟨hx, hc, hml, hown, fun w hw => ht0 w (lw_all_tbl hw), hK, fun q h => h, hlk, rfl, hr, hnm, hNW, hSt⟩, rfl, hX, hb, rfl, h1000, rfl⟩
  exact st_go ok (fun px pm => K _ px pm ok rfl) s.heap [] _ ⟨fun n t h => (by cases h), fun a b h => absurd rfl h, fun n h => absurd rfl h, fun n f b h => absurd rfl h, fun i => rfl⟩ va_S.rf hl
