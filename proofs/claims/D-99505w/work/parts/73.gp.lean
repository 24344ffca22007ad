/-! READER's PARSER: worlds that grow by names (98, c, 0); Faults leave with the base world alone -/
set_option maxRecDepth 100000
abbrev gp_R (α : Type) : Type := (Int32 × Int32 × Nat) ⊕ (gz_S × gz_R × gz_V × Nat × α)
abbrev gp_O (α : Type) : Type := Option (gp_R α)
def gp_ct {α : Type} (o : gp_R α) : Nat := match o with
  | .inl q => q.2.2
  | .inr r => r.2.2.2.1
def gp_pg {α : Type} (c : Nat) (x : gp_O α) : gp_O α := match x with
  | none => none
  | some r => if c ≤ gp_ct r then some r else none
theorem gp_pg_o {α : Type} {c : Nat} {x : gp_O α} {o : gp_R α} (h : gp_pg c x = some o) : c ≤ gp_ct o ∧ x = some o := by
  unfold gp_pg at h
  cases x with
  | none => cases h
  | some r =>
    dsimp only at h
    by_cases hc : c ≤ gp_ct r
    · rw [if_pos hc] at h
      cases h
      exact ⟨hc, rfl⟩
    · rw [if_neg hc] at h
      cases h
/-- a call that may throw: what it threw is thrown on -/
def gp_bx {α β : Type} (c : Nat) (x : gp_O α) (f : gz_S → gz_R → gz_V → Nat → α → gp_O β) : gp_O β := match gp_pg c x with
  | none => none
  | some (.inl q) => some (.inl q)
  | some (.inr (Ds, Df, V, c2, a)) => gp_pg c2 (f Ds Df V c2 a)
theorem gp_bx_o {α β : Type} {c : Nat} {x : gp_O α} {f : gz_S → gz_R → gz_V → Nat → α → gp_O β} {o : gp_R β} (h : gp_bx c x f = some o) : (∃ q, x = some (.inl q) ∧ c ≤ q.2.2 ∧ o = .inl q) ∨ ∃ (Ds : gz_S) (Df : gz_R) (V : gz_V) (c2 : Nat) (a : α), x = some (.inr (Ds, Df, V, c2, a)) ∧ c ≤ c2 ∧ c2 ≤ gp_ct o ∧ f Ds Df V c2 a = some o := by
  unfold gp_bx at h
  cases hx : gp_pg c x with
  | none => rw [hx] at h; cases h
  | some r =>
    rw [hx] at h
    obtain ⟨h1, h2⟩ := gp_pg_o hx
    cases r with
    | inl q => cases h; exact Or.inl ⟨q, h2, h1, rfl⟩
    | inr r =>
      obtain ⟨Ds, Df, V, c2, a⟩ := r
      obtain ⟨h3, h4⟩ := gp_pg_o h
      exact Or.inr ⟨Ds, Df, V, c2, a, h2, h1, h3, h4⟩
/-- a new cell -/
def gp_nw {β : Type} (t : Nat × Nat) (Ds : gz_S) (Df : gz_R) (V : gz_V) (c : Nat) (f : gz_S → gz_R → gz_V → Nat → gp_O β) : gp_O β := gp_pg (c + 1) (f (gz_us Ds (98, c, 0) t) (gz_un Df (98, c, 0)) (gz_uz V (98, c, 0)) (c + 1))
theorem gp_nw_o {β : Type} {t : Nat × Nat} {Ds : gz_S} {Df : gz_R} {V : gz_V} {c : Nat} {f : gz_S → gz_R → gz_V → Nat → gp_O β} {o : gp_R β} (h : gp_nw t Ds Df V c f = some o) : ∃ (Ds2 : gz_S) (Df2 : gz_R) (V2 : gz_V) (c2 : Nat), (Ds2 = gz_us Ds (98, c, 0) t ∧ Df2 = gz_un Df (98, c, 0) ∧ V2 = gz_uz V (98, c, 0) ∧ c2 = c + 1 ∧ c2 ≤ gp_ct o) ∧ f Ds2 Df2 V2 c2 = some o := ⟨_, _, _, _, ⟨rfl, rfl, rfl, rfl, (gp_pg_o h).1⟩, (gp_pg_o h).2⟩
theorem gp_xs0 {Ds : gz_S} {n : gz_N} (h : ¬ (n.1 ≠ 0 ∧ n.1 < 90)) : xw_s Ds n = Ds n := by
  unfold xw_s
  rw [if_neg (by omega), if_neg (by omega), if_neg (by omega), if_neg (by omega), if_neg (by omega), if_neg (by omega), if_neg (by omega), if_neg (by omega), if_neg (by omega), if_neg (by omega), if_neg (by omega), if_neg (by omega), if_neg (by omega), if_neg (by omega), if_neg (by omega), if_neg h]
theorem gp_xs {Ds : gz_S} {n : gz_N} (h : 90 ≤ n.1) : xw_s Ds n = Ds n := gp_xs0 (by omega)
theorem gp_xst {Ds Ds2 : gz_S} {n : gz_N} (h : n.1 ≠ 0 ∧ n.1 < 90) : xw_s Ds n = xw_s Ds2 n := by
  have g : ∀ D : gz_S, (if n.1 ≠ 0 ∧ n.1 < 90 then none else D n) = none := fun D => if_pos h
  unfold xw_s
  rw [g Ds, g Ds2]
theorem gp_xr {Df : gz_R} {n : gz_N} (h : 90 ≤ n.1) : xw_c Df n = Df n := funext fun _ => xr_dyn h
def gp_gr (Ds Ds2 : gz_S) : Prop := ∀ (n : gz_N) (t : Nat × Nat), Ds n = some t → Ds2 n = some t
theorem gp_gr.rf {Ds : gz_S} : gp_gr Ds Ds := fun _ _ h => h
theorem gp_gr.trans {Ds Ds2 Ds3 : gz_S} (h1 : gp_gr Ds Ds2) (h2 : gp_gr Ds2 Ds3) : gp_gr Ds Ds3 := fun n t h => h2 n t (h1 n t h)
theorem gp_gr.xs {Ds Ds2 : gz_S} (h : gp_gr Ds Ds2) : gp_gr (xw_s Ds) (xw_s Ds2) := by
  intro n t ht
  by_cases h0 : n.1 ≠ 0 ∧ n.1 < 90
  · rw [gp_xst (Ds := Ds2) (Ds2 := Ds) h0]
    exact ht
  · rw [gp_xs0 h0] at ht ⊢
    exact h n t ht
theorem gp_nn_of {α : Type} {o : Option α} (h : o ≠ none) : ∃ x, o = some x := by
  cases o with
  | none => exact absurd rfl h
  | some x => exact ⟨x, rfl⟩
theorem gp_gr.nn {Ds Ds2 : gz_S} (h : gp_gr Ds Ds2) {n : gz_N} (hn : Ds n ≠ none) : Ds2 n ≠ none := by
  obtain ⟨t, ht⟩ := gp_nn_of hn
  rw [h n t ht]
  exact fun z => by cases z
/-! the base: shapes, references, ints, addresses, the first name's number -/
abbrev gp_B : Type := gz_S × gz_R × gz_V × gz_A0 × Nat
def gp_nn (B : gp_B) (n : gz_N) : Prop := n.1 = 98 ∧ B.2.2.2.2 ≤ n.2.1
def gp_cl (Ds : gz_S) (Df : gz_R) : Prop := ∀ (n : gz_N) (f : Nat) (b : gz_N), xw_s Ds n ≠ none → xw_c Df n f = some b → b.1 ≠ 0 → xw_s Ds b ≠ none
def gp_ba (B : gp_B) (Ds : gz_S) (Df : gz_R) (V : gz_V) (c : Nat) (ad : gz_A0) : Prop :=
  gp_gr B.1 Ds ∧ (∀ n, xw_s B.1 n ≠ none → V n = B.2.2.1 n ∧ xw_c Df n = xw_c B.2.1 n) ∧ (∀ n : gz_N, xw_s B.1 n ≠ none ∨ n.1 = 0 → ad n = B.2.2.2.1 n) ∧ gp_cl B.1 B.2.1 ∧ Ds (97, 0, 0) = none ∧ (∀ n, gp_nn B n → B.1 n = none) ∧ (∀ n : gz_N, n.1 = 98 → c ≤ n.2.1 → Ds n = none) ∧ B.2.2.2.2 ≤ c
/-! at the method's start: shapes, addresses, the next name's number; and that at its end -/
abbrev gp_E : Type := gz_S × gz_A0 × Nat × Nat
def gp_in (B : gp_B) (E : gp_E) (Ds : gz_S) (Df : gz_R) (V : gz_V) (c : Nat) (ad : gz_A0) : Prop := gp_ba B Ds Df V c ad ∧ gz_ag (xw_s E.1) E.2.1 ad ∧ gp_gr E.1 Ds ∧ E.2.2.1 ≤ c ∧ c ≤ E.2.2.2
def gP (X : gz_X) (nL : Nat) (B : gp_B) (E : gp_E) (Ds : gz_S) (Df : gz_R) (V : gz_V) (c : Nat) (pc : Nat) (lv : gz_A0 → List (Nat × Value)) (st : gz_A0 → List Value) : Prop :=
  ∀ ad : gz_A0, gp_in B E Ds Df V c ad → gW X nL (xw_s Ds) (xw_c Df) ad V (c - E.2.2.1) (24 * (c - E.2.2.1)) pc (lv ad) (st ad)
section GPB
variable {B : gp_B} {E : gp_E} {Ds : gz_S} {Df : gz_R} {V : gz_V} {c : Nat} {ad : gz_A0}
theorem gp_nn.not {n : gz_N} (hb : gp_ba B Ds Df V c ad) (hn : gp_nn B n) : xw_s B.1 n = none := by
  rw [gp_xs (by have := hn.1; omega)]
  exact hb.2.2.2.2.2.1 n hn
theorem gp_ba.wV {V2 : gz_V} {n : gz_N} (hb : gp_ba B Ds Df V c ad) (hn : gp_nn B n) (hV : ∀ a, a ≠ n → V2 a = V a) : gp_ba B Ds Df V2 c ad :=
  ⟨hb.1, fun a ha => ⟨(hV a (fun e => ha (by rw [e]; exact hn.not hb))).trans (hb.2.1 a ha).1, (hb.2.1 a ha).2⟩, hb.2.2⟩
theorem gp_in.wV {V2 : gz_V} {n : gz_N} (hi : gp_in B E Ds Df V c ad) (hn : gp_nn B n) (hV : ∀ a, a ≠ n → V2 a = V a) : gp_in B E Ds Df V2 c ad := ⟨hi.1.wV hn hV, hi.2⟩
theorem gp_in.up {V2 : gz_V} {n : gz_N} {f : Nat} {x : Int32} (hi : gp_in B E Ds Df V c ad) (hn : gp_nn B n) (hV : gz_up V n f x = V2) : gp_in B E Ds Df V2 c ad := hi.wV hn (fun a h => by rw [← hV]; exact gz_up_ne h)
theorem gp_ba.wR {Df2 : gz_R} {n : gz_N} (hb : gp_ba B Ds Df V c ad) (hn : gp_nn B n) (hR : ∀ a, a ≠ n → Df2 a = Df a) : gp_ba B Ds Df2 V c ad :=
  ⟨hb.1, fun a ha => ⟨(hb.2.1 a ha).1, by
    rw [← (hb.2.1 a ha).2]
    funext i
    exact xr_ne (by rw [hR a (fun e => ha (by rw [e]; exact hn.not hb))])⟩, hb.2.2⟩
theorem gp_in.wR {Df2 : gz_R} {n : gz_N} (hi : gp_in B E Ds Df V c ad) (hn : gp_nn B n) (hR : ∀ a, a ≠ n → Df2 a = Df a) : gp_in B E Ds Df2 V c ad := ⟨hi.1.wR hn hR, hi.2⟩
theorem gp_in.ur {Df2 : gz_R} {n : gz_N} {f : Nat} {x : Option gz_N} (hi : gp_in B E Ds Df V c ad) (hn : gp_nn B n) (hR : gz_ur Df n f x = Df2) : gp_in B E Ds Df2 V c ad := hi.wR hn (fun a h => by rw [← hR]; exact gz_ur_ne h)
theorem gp_xur {n : gz_N} {f : Nat} {x : Option gz_N} (h : 90 ≤ n.1) : gz_ur (xw_c Df) n f x = xw_c (gz_ur Df n f x) := by
  funext a i
  by_cases e : a = n
  · subst e
    rw [gz_ur_eq, gp_xr h, gp_xr h, gz_ur_eq]
  · rw [gz_ur_ne e]
    exact xr_ne (by rw [gz_ur_ne e])
/-- the name that's next -/
theorem gp_nn.next (hb : gp_ba B Ds Df V c ad) : gp_nn B (98, c, 0) := ⟨rfl, hb.2.2.2.2.2.2.2⟩
theorem gp_ba.free (hb : gp_ba B Ds Df V c ad) : Ds (98, c, 0) = none := hb.2.2.2.2.2.2.1 (98, c, 0) rfl (Nat.le_refl _)
theorem gp_gr.us {n : gz_N} {t : Nat × Nat} (hf : Ds n = none) : gp_gr Ds (gz_us Ds n t) := fun a u h => by
  rw [gz_us_ne (fun e => by rw [e, hf] at h; cases h)]
  exact h
theorem gp_ba.new {t : Nat × Nat} {ad2 : gz_A0} (hb : gp_ba B Ds Df V c ad) (ha : ∀ a, a ≠ (98, c, 0) → ad2 a = ad a) : gp_ba B (gz_us Ds (98, c, 0) t) (gz_un Df (98, c, 0)) (gz_uz V (98, c, 0)) (c + 1) ad2 := by
  have h1 := hb.wV (V2 := gz_uz V (98, c, 0)) (gp_nn.next hb) (fun a h => gz_uz_ne h)
  have h2 := h1.wR (Df2 := gz_un Df (98, c, 0)) (gp_nn.next hb) (fun a h => gz_un_ne h)
  refine ⟨hb.1.trans (gp_gr.us hb.free), h2.2.1, fun n hn => ?_, h2.2.2.2.1, ?_, h2.2.2.2.2.2.1, fun n h3 h4 => ?_, Nat.le_succ_of_le h2.2.2.2.2.2.2.2⟩
  · rw [ha n (fun e => ?_)]
    · exact hb.2.2.1 n hn
    · rcases hn with hn | hn
      · exact hn (by rw [e]; exact (gp_nn.next hb).not hb)
      · rw [e] at hn; cases hn
  · rw [gz_us_ne (fun e => by cases e)]
    exact hb.2.2.2.2.1
  · rw [gz_us_ne (fun e => by rw [e] at h4; exact absurd h4 (by show ¬ c + 1 ≤ c; omega))]
    exact hb.2.2.2.2.2.2.1 n h3 (by omega)
theorem gp_ag_of {ad2 : gz_A0} (hb : gp_ba B Ds Df V c ad) (ha : ∀ a, a ≠ (98, c, 0) → ad2 a = ad a) : gz_ag (xw_s Ds) ad ad2 := fun a h => ha a (fun e => by
  rcases h with h | h
  · exact h (by rw [e, gp_xs (by show 90 ≤ 98; decide)]; exact hb.free)
  · rw [e] at h; cases h)
theorem gp_in.new {t : Nat × Nat} {ad2 : gz_A0} (hi : gp_in B E Ds Df V c ad) (hc : c + 1 ≤ E.2.2.2) (ha : ∀ a, a ≠ (98, c, 0) → ad2 a = ad a) : gp_in B E (gz_us Ds (98, c, 0) t) (gz_un Df (98, c, 0)) (gz_uz V (98, c, 0)) (c + 1) ad2 :=
  ⟨hi.1.new ha, hi.2.1.trans (fun a h => hi.2.2.1.xs.nn h) (gp_ag_of hi.1 ha), hi.2.2.1.trans (gp_gr.us hi.1.free), Nat.le_succ_of_le hi.2.2.2.1, hc⟩
end GPB
/-- a method's room -/
def gp_rm (F L n : Nat) : Room := { frames := F, cells := n, slots := 24 * n, locals := L }
/-- how it ends: returns -/
def gp_Fi {α : Type} (B : gp_B) (E : gp_E) (P : gz_S → α → Prop) (rvf : gz_A0 → α → Option Value) (o : gp_R α) : gz_Fi := fun sh3 V3 Rf3 ad3 rv =>
  ∃ (Ds : gz_S) (Df : gz_R) (V : gz_V) (c : Nat) (r : α), o = .inr (Ds, Df, V, c, r) ∧ sh3 = xw_s Ds ∧ V3 = V ∧ Rf3 = xw_c Df ∧ gz_ag (xw_s E.1) E.2.1 ad3 ∧ gp_ba B Ds Df V c ad3 ∧ gp_gr E.1 Ds ∧ P Ds r ∧ rv = rvf ad3 r
/-- how it ends: throws -/
def gp_Fx {α : Type} (B : gp_B) (o : gp_R α) : gy_Fx := fun sh V Rf ad q =>
  ∃ k p c, o = .inl (k, p, c) ∧ gy_F0 B.1 B.2.1 B.2.2.1 B.2.2.2.1 k p sh V Rf ad q
def gp_Met {α : Type} (l : Launch) (y : MethodName) (code : ByteArray) (nL : Nat) (ret : Option FieldType) (F L : Nat) (D : va_G) (aC : Nat → ClassId) (ad : gz_A0) (Ds : gz_S) (Df : gz_R) (V : gz_V) (c : Nat) (av : List Value) (B : gp_B) (P : gz_S → α → Prop) (rvf : gz_A0 → α → Option Value) (o : gp_R α) : Prop :=
  gy_Mt l y code nL ret (gp_rm F L (gp_ct o - c)) D aC ad (xw_s Ds) V (xw_c Df) av (gp_Fi B (Ds, ad, c, gp_ct o) P rvf o) (gp_Fx B o) (gp_ct o - c) (24 * (gp_ct o - c))
/-- what stays through such a method's walk -/
def gp_end {α : Type} (X : gz_X) (B : gp_B) (E : gp_E) (P : gz_S → α → Prop) (rvf : gz_A0 → α → Option Value) (o : gp_R α) (F L : Nat) : Prop :=
  gy_E X (gp_Fx B o) ∧ (∀ sh V Rf ad rv, gp_Fi B E P rvf o sh V Rf ad rv → gx_F X sh V Rf ad rv) ∧ gx_mc X = gp_ct o - E.2.2.1 ∧ gx_ms X = 24 * (gp_ct o - E.2.2.1) ∧ (gx_l X).stackTraces = false ∧ E.2.2.2 = gp_ct o ∧ gx_R X = gp_rm F L (gp_ct o - E.2.2.1)
theorem gp_of {α : Type} {l : Launch} {y : MethodName} {code : ByteArray} {nL : Nat} {ret : Option FieldType} {F L : Nat} {D : va_G} {aC : Nat → ClassId} {ad : gz_A0} {Ds : gz_S} {Df : gz_R} {V : gz_V} {c : Nat} {av : List Value} {B : gp_B} {P : gz_S → α → Prop} {rvf : gz_A0 → α → Option Value} {o : gp_R α} {own mn : String} {lv : List (Nat × Value)}
    (hy : plainName y.cls = true) (hc : y.cls = own) (hm : y.name = mn) (hn : (lg_sl av).length ≤ nL) (hlv : lv_args 0 av = lv) (htr : l.stackTraces = false) (hb : gp_ba B Ds Df V c ad) (hct : c ≤ gp_ct o)
    (k : ∀ X : gz_X, gz_ok X code own mn nL (gp_rm F L (gp_ct o - c)) ret → gp_end X B (Ds, ad, c, gp_ct o) P rvf o F L → gp_in B (Ds, ad, c, gp_ct o) Ds Df V c ad → gW X nL (xw_s Ds) (xw_c Df) ad V (c - c) (24 * (c - c)) 0 lv []) : gp_Met l y code nL ret F L D aC ad Ds Df V c av B P rvf o := by
  refine gy_of (own := own) (mn := mn) hy hc hm hn hlv (fun X hX h1 h2 h3 h4 h5 h6 h7 => ?_)
  have h := k X hX ⟨h7, fun _ _ _ _ _ hf => by rw [h4]; exact hf, h5, h6, by rw [h1]; exact htr, rfl, hX.2.2.2.2.2.2.2.2.1⟩ ⟨hb, gz_ag.rf, gp_gr.rf, Nat.le_refl _, hct⟩
  rw [Nat.sub_self] at h
  exact h
section GPX
variable {α : Type} {X : gz_X} {cc : ByteArray} {own mn : String} {nL : Nat} {rm : Room} {ret : Option FieldType} {B : gp_B} {E : gp_E} {P : gz_S → α → Prop} {rvf : gz_A0 → α → Option Value} {o : gp_R α} {F L : Nat} {Ds : gz_S} {Df : gz_R} {V : gz_V} {c : Nat} {ad : gz_A0} {pc : Nat} {lv : List (Nat × Value)}
theorem gp_hf (hX : gz_ok X cc own mn nL rm ret) (hE : gp_end X B E P rvf o F L) (hI : gp_in B E Ds Df V c ad) : c - E.2.2.1 ≤ rm.cells ∧ 24 * (c - E.2.2.1) ≤ rm.slots := by
  have h1 := hI.2.2.2.2
  rw [← hX.2.2.2.2.2.2.2.2.1, hE.2.2.2.2.2.2]
  rw [hE.2.2.2.2.2.1] at h1
  show c - E.2.2.1 ≤ gp_ct o - E.2.2.1 ∧ 24 * (c - E.2.2.1) ≤ 24 * (gp_ct o - E.2.2.1)
  omega
/-- a new object -/
theorem gp_new (hX : gz_ok X cc own mn nL rm ret) (hE : gp_end X B E P rvf o F L) (hI : gp_in B E Ds Df V c ad) {ci index N N0 : Nat} {C : String} {T : u_T} {Ds2 : gz_S} {Df2 : gz_R} {V2 : gz_V} {c2 : Nat} (hN : Ds2 = gz_us Ds (98, c, 0) (ci, N) ∧ Df2 = gz_un Df (98, c, 0) ∧ V2 = gz_uz V (98, c, 0) ∧ c2 = c + 1 ∧ c2 ≤ gp_ct o) (hin : ∀ w ∈ u_ws C T N, w ∈ lw_all) (hty : ∀ k, k < N → parseFieldDescriptor (T k).2.2.1 = some (gz_ty ci k)) (hci : ci < 100) (hc : gzCl[ci]? = some (C, T, N)) (hcl : Cond.classLink own index C ∈ lw_all) (hins : Cond.instantiable C N0 ∈ lw_all) (hini : Cond.initialized C ∈ lw_all) (hzz : ∀ f, f < N → defaultValue (gz_ty ci f) = if gz_isr (gz_ty ci f) then .null else .int 0)
    (hN0 : N0 ≤ 24) (lvF : gz_A0 → List (Nat × Value)) (stF : gz_A0 → List Value) (hF : ∀ ad2 : gz_A0, gz_ag (xw_s Ds) ad ad2 → lvF ad2 = lvF ad ∧ stF ad2 = stF ad) (hdg : decode cc pc = .ok (.new index, 3))
    (k : gp_gr Ds Ds2 → Ds2 (98, c, 0) = some (ci, N) → gp_nn B (98, c, 0) → gP X nL B E Ds2 Df2 V2 c2 (pc + 3) lvF (fun ad => .ref (ad (98, c, 0)) :: stF ad)) : gW X nL (xw_s Ds) (xw_c Df) ad V (c - E.2.2.1) (24 * (c - E.2.2.1)) pc (lvF ad) (stF ad) := by
  obtain ⟨rfl, rfl, rfl, rfl, hct⟩ := hN
  have hle := hI.2.2.2.1
  have hr : rm = gp_rm F L (gp_ct o - E.2.2.1) := by rw [← hX.2.2.2.2.2.2.2.2.1, hE.2.2.2.2.2.2]
  refine gz_new (nm := (98, c, 0)) (N0 := N0) hX hin hty hci hc hcl hins hini hzz (by rw [hr]; show _ ≤ gp_ct o - E.2.2.1; omega) (by rw [hr]; show _ ≤ 24 * (gp_ct o - E.2.2.1); omega) (by rw [gp_xs (by show 90 ≤ 98; decide)]; exact hI.1.free) (by show (98 : Nat) ≠ 0; decide) (fun ad2 h => hF ad2 (gp_ag_of hI.1 h)) hdg (fun ad2 h => ?_)
  rw [cd_us (by decide), cd_un (by decide)]
  refine gz_widen (k := c + 1 - E.2.2.1) (n := 24 * (c + 1 - E.2.2.1)) (by omega) (by omega) ?_
  exact k (gp_gr.us hI.1.free) gz_us_eq (gp_nn.next hI.1) ad2 (hI.new (by rw [hE.2.2.2.2.2.1]; exact hct) h)
/-- a Fault is thrown -/
theorem gp_throw (hX : gz_ok X cc RX7 mn nL rm ret) (hE : gp_end X B E P rvf o F L) (hI : gp_in B E Ds Df V c ad) {u : gz_N} {kk : Int} {k : Int32} {q0 : Nat} (hu : 90 ≤ u.1 ∧ Ds u = some (7, 9)) (h : (some (.inl (k, V u 3, c + 1)) : gp_O α) = some o) (hq0 : lv[q0]? = some (0, .ref (ad u))) (hR : 5 ≤ F ∧ 76 ≤ L)
    (d0 : decode cc pc = .ok (.new 124, 3)) (d3 : decode cc (pc + 3) = .ok (.dup, 1)) (d4 : decode cc (pc + 4) = .ok (.iconst kk, 1)) (hk : Int32.ofInt kk = k) (d5 : decode cc (pc + 5) = .ok (.aload_n 0, 1)) (d6 : decode cc (pc + 6) = .ok (.getfield 41, 3)) (d9 : decode cc (pc + 9) = .ok (.invokespecial 126, 3)) (d12 : decode cc (pc + 12) = .ok (.athrow, 1)) : gW X nL (xw_s Ds) (xw_c Df) ad V (c - E.2.2.1) (24 * (c - E.2.2.1)) pc lv [] := by
  have ho := (Option.some.inj h).symm
  have hct : gp_ct o = c + 1 := by rw [ho]; rfl
  have hle := hI.2.2.2.1
  have hr : rm = gp_rm F L (gp_ct o - E.2.2.1) := by rw [← hX.2.2.2.2.2.2.2.2.1, hE.2.2.2.2.2.2]
  refine gy_throw (k := k) (n := u) (q0 := q0) hX hE.2.2.2.2.1 (xs_dyn hu) (by rw [gp_xs (by show 90 ≤ 97; decide)]; exact hI.1.2.2.2.2.1) hq0 (by rw [hr, hct]; show _ ≤ c + 1 - E.2.2.1; omega) (by rw [hr, hct]; show _ ≤ 24 * (c + 1 - E.2.2.1); omega) (by rw [hr]; exact hR) d0 d3 d4 hk d5 q523 d6 d9 d12 (fun ad2 ha => ?_)
  have bne : ∀ n : gz_N, xw_s B.1 n ≠ none → n ≠ (97, 0, 0) := fun n hn e => by
    obtain ⟨t, ht⟩ := gp_nn_of hn
    have := hI.1.1.xs n t ht
    rw [e, gp_xs (by show 90 ≤ 97; decide), hI.1.2.2.2.2.1] at this
    cases this
  have g1 : ∀ n t, xw_s (gz_us B.1 (97, 0, 0) (8, 2)) n = some t → n = (97, 0, 0) ∧ t = (8, 2) ∨ n ≠ (97, 0, 0) ∧ xw_s B.1 n = some t := fun n t hn => by
    rw [← cd_us (by decide)] at hn
    by_cases e : n = (97, 0, 0)
    · rw [e, gz_us_eq] at hn
      cases hn
      exact Or.inl ⟨e, rfl⟩
    · rw [gz_us_ne e] at hn
      exact Or.inr ⟨e, hn⟩
  have g2 : ∀ n, xw_s (gz_us B.1 (97, 0, 0) (8, 2)) n ≠ none → n = (97, 0, 0) ∨ n ≠ (97, 0, 0) ∧ xw_s B.1 n ≠ none := fun n hn => by
    obtain ⟨t, ht⟩ := gp_nn_of hn
    rcases g1 n t ht with ⟨e, -⟩ | ⟨e, e2⟩
    · exact Or.inl e
    · exact Or.inr ⟨e, by rw [e2]; exact fun z => by cases z⟩
  refine gy_lessW (sh2 := xw_s (gz_us B.1 (97, 0, 0) (8, 2))) (V2 := gy_V8 B.2.2.1 k (V u 3)) (Rf2 := xw_c (gz_un B.2.1 (97, 0, 0))) (ad2 := ad2) (fun n t hn => ?_) (fun n hn => ?_) (fun n hn => ?_) (fun _ _ => rfl) (fun n f b hn hb h0 => ?_) (gy_leave hX hE.1 ?_ ?_ ?_)
  · rcases g1 n t hn with ⟨rfl, rfl⟩ | ⟨e, e2⟩
    · exact gz_us_eq
    · rw [gz_us_ne e]
      exact hI.1.1.xs n t e2
  · rcases g2 n hn with rfl | ⟨e, e2⟩
    · unfold gy_V8
      rw [gz_up_eq, gz_up_eq, gz_up_eq, gz_up_eq, gz_uz_eq, gz_uz_eq]
    · unfold gy_V8
      rw [gz_up_ne e, gz_up_ne e, gz_up_ne e, gz_up_ne e, gz_uz_ne e, gz_uz_ne e]
      exact (hI.1.2.1 n e2).1.symm
  · rcases g2 n hn with rfl | ⟨e, e2⟩
    · rw [← cd_un (by decide), gz_un_eq, gz_un_eq]
    · rw [← cd_un (by decide), gz_un_ne e, gz_un_ne e]
      exact (hI.1.2.1 n e2).2.symm
  · rw [← cd_us (by decide)]
    rcases g2 n hn with rfl | ⟨e, e2⟩
    · rw [← cd_un (by decide), gz_un_eq] at hb
      cases hb
    · rw [← cd_un (by decide), gz_un_ne e] at hb
      have := hI.1.2.2.2.1 n f b e2 hb h0
      rw [gz_us_ne (bne b this)]
      exact this
  · refine ⟨k, V u 3, c + 1, ho, rfl, rfl, rfl, fun a ha2 => ?_, rfl⟩
    rw [ha a (fun e => ?_)]
    · exact hI.1.2.2.1 a ha2
    · rcases ha2 with h | h
      · exact bne a h e
      · rw [e] at h; cases h
  · rw [hE.2.2.1, hct]
    omega
  · rw [hE.2.2.2.1, hct]
    omega
end GPX
