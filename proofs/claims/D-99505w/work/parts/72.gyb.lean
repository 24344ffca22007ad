/-! Faults leave with the base world alone -/
set_option maxRecDepth 100000
section GYB
variable {X : gz_X} {nL : Nat} {sh sh2 : gz_S} {Rf Rf2 : gz_R} {ad ad2 : gz_A0} {V V2 : gz_V} {ce sl pc : Nat} {lv : List (Nat × Value)} {st : List Value} {q : Addr}
theorem gy_lessW (hs : ∀ n t, sh2 n = some t → sh n = some t) (hv : ∀ n, sh2 n ≠ none → V2 n = V n) (hr : ∀ n, sh2 n ≠ none → Rf2 n = Rf n) (ha : ∀ n, sh2 n ≠ none ∨ n.1 = 0 → ad2 n = ad n) (hcl : ∀ (n : gz_N) (f : Nat) (b : gz_N), sh2 n ≠ none → Rf2 n f = some b → b.1 ≠ 0 → sh2 b ≠ none) (k : gyW X nL sh2 Rf2 ad2 V2 ce sl pc lv st q) : gyW X nL sh Rf ad V ce sl pc lv st q := fun H locs ls cell hw hS hl h1 h2 h3 => k H locs ls cell (hw.less hs hv hr ha hcl) hS hl h1 h2 h3
end GYB
/-- the base world (Ds, Df, V, ad) with the Fault (97, 0, 0) of kind k and place p, at q -/
def gy_F0 (Ds : gz_S) (Df : gz_R) (V : gz_V) (ad : gz_A0) (k p : Int32) : gy_Fx := fun sh2 V2 Rf2 ad2 q =>
  sh2 = xw_s (gz_us Ds (97, 0, 0) (8, 2)) ∧ V2 = gy_V8 V k p ∧ Rf2 = xw_c (gz_un Df (97, 0, 0)) ∧ (∀ a, xw_s Ds a ≠ none ∨ a.1 = 0 → ad2 a = ad a) ∧ ad2 (97, 0, 0) = q
