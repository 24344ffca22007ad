/-! THE PLAIN PART: tools -/
set_option maxRecDepth 100000
section PT
variable {α β γ δ ρ : Type}
theorem gs_let {x : α} {f : α → β} : gz_let x f = f x := rfl
theorem gs_gd {c : Prop} [Decidable c] {k : Option β} (h : c) : gz_gd c k = k := if_pos h
theorem gs_gdT {k : Option β} [Decidable True] : gz_gd True k = k := if_pos trivial
theorem gs_bd {a : α} {f : α → Option β} : gz_bd (some a) f = f a := rfl
theorem gs_b2 {a : α} {b : γ} {f : α → γ → Option β} : gz_b2 (some (a, b)) f = f a b := rfl
theorem gs_b3 {a : α} {b : γ} {c : δ} {f : α → γ → δ → Option β} : gz_b3 (some (a, b, c)) f = f a b c := rfl
theorem gs_lpl {a : ρ} {r : ρ → Option β} {f : α → Option β} : gz_lp (some (.inl a)) r f = r a := rfl
theorem gs_lpr {a : α} {r : ρ → Option β} {f : α → Option β} : gz_lp (some (.inr a)) r f = f a := rfl
theorem gs_l2l {a : ρ} {r : ρ → Option β} {f : α → γ → Option β} : gz_l2 (some (.inl a)) r f = r a := rfl
theorem gs_l2r {a : α} {b : γ} {r : ρ → Option β} {f : α → γ → Option β} : gz_l2 (some (.inr (a, b))) r f = f a b := rfl
theorem gs_on0 {a : β} {f : α → β} : gz_on none a f = a := rfl
theorem gs_on1 {a : β} {x : α} {f : α → β} : gz_on (some x) a f = f x := rfl
end PT
/-! ints that are naturals -/
theorem o_nat {p : Nat} (h : p < 2147483648) : (Int32.ofNat p).toNatClampNeg = p := by rw [i_nat, i_of h]; omega
theorem o_inb {p n : Nat} (h : p < n) (h2 : p < 2147483648) : gz_inb (Int32.ofNat p) n = true := i_inb (by rw [i_of h2]; omega) (by rw [i_of h2]; omega)
theorem o_addl (c p : Nat) : (no_index (OfNat.ofNat c) : Int32) + Int32.ofNat p = Int32.ofNat (OfNat.ofNat c + p) := (Int32.ofNat_add _ _).symm
theorem o_addr (c p : Nat) : Int32.ofNat p + (no_index (OfNat.ofNat c) : Int32) = Int32.ofNat (p + OfNat.ofNat c) := (Int32.ofNat_add _ _).symm
theorem o_add (c p : Nat) : Int32.ofNat p + Int32.ofNat c = Int32.ofNat (p + c) := (Int32.ofNat_add _ _).symm
theorem o_mull (c p : Nat) : (no_index (OfNat.ofNat c) : Int32) * Int32.ofNat p = Int32.ofNat (OfNat.ofNat c * p) := (Int32.ofNat_mul _ _).symm
theorem o_litn (c : Nat) (h : (OfNat.ofNat c : Nat) < 2147483648) : (no_index (OfNat.ofNat c) : Int32).toNatClampNeg = OfNat.ofNat c := o_nat h
theorem o_lel {c p : Nat} (hc : (OfNat.ofNat c : Nat) < 2147483648) (hp : p < 2147483648) : (no_index (OfNat.ofNat c) : Int32) ≤ Int32.ofNat p ↔ OfNat.ofNat c ≤ p := by
  rw [i_le, i_of hp]
  show (Int32.ofNat c).toInt ≤ (p : Int) ↔ _
  rw [i_of (show c < 2147483648 from hc)]
  show (c : Int) ≤ p ↔ c ≤ p
  omega
theorem o_le {c p : Nat} (hc : c < 2147483648) (hp : p < 2147483648) : Int32.ofNat c ≤ Int32.ofNat p ↔ c ≤ p := by
  rw [i_le, i_of hp, i_of hc]
  omega
theorem o_lt {c p : Nat} (hc : c < 2147483648) (hp : p < 2147483648) : Int32.ofNat c < Int32.ofNat p ↔ c < p := by
  rw [i_lt, i_of hp, i_of hc]
  omega
theorem o_eq {c p : Nat} (hc : c < 2147483648) (hp : p < 2147483648) : Int32.ofNat c = Int32.ofNat p ↔ c = p := by
  rw [i_eq, i_of hp, i_of hc]
  omega
theorem o_ex {a : Int32} {n : Nat} (h1 : 0 ≤ a.toInt) (h2 : a.toInt < n) : ∃ p, p < n ∧ a = Int32.ofNat p := by
  refine ⟨a.toInt.toNat, by omega, ?_⟩
  have := i_max a
  rw [i_eq, i_of (by omega)]
  omega
/-! updates -/
theorem up_at {V : gz_V} {n a : gz_N} {j i : Nat} {x : Int32} : gz_up V n j x a i = if a = n ∧ i = j then x else V a i := by
  unfold gz_up upd
  by_cases h : a = n
  · subst h
    by_cases h2 : i = j
    · simp [h2]
    · simp [h2]
  · simp [h]
theorem upd_at {f : Nat → Int32} {j i : Nat} {x : Int32} : upd f j x i = if i = j then x else f i := rfl
/-- what may change does; all else stays -/
def fr (F : gz_N → Nat → Bool) (V V' : gz_V) : Prop := ∀ n i, F n i = false → V' n i = V n i
theorem fr.rf {F : gz_N → Nat → Bool} {V : gz_V} : fr F V V := fun _ _ _ => rfl
theorem fr.trans {F : gz_N → Nat → Bool} {V V' V2 : gz_V} (h : fr F V V') (h2 : fr F V' V2) : fr F V V2 := fun n i hn => (h2 n i hn).trans (h n i hn)
theorem fr.up {F : gz_N → Nat → Bool} {V V' : gz_V} {n : gz_N} {j : Nat} {x : Int32} (h : fr F V V') (hF : F n j = true) : fr F V (gz_up V' n j x) := fun a i ha => by
  rw [up_at]
  by_cases q : a = n ∧ i = j
  · obtain ⟨rfl, rfl⟩ := q
    rw [hF] at ha
    cases ha
  · rw [if_neg q]
    exact h a i ha
theorem fr.wk {F G : gz_N → Nat → Bool} {V V' : gz_V} (h : fr F V V') (hFG : ∀ n i, G n i = false → F n i = false) : fr G V V' := fun n i hn => h n i (hFG n i hn)
/-! a market's row, as the twin has it -/
def xr (V : gz_V) (k : Nat) (i : Nat) : Int32 :=
  if i = 0 then V (20, k, 0) 17 else if i = 1 then V (20, k, 0) 18 else if i = 2 then V (20, k, 0) 19 else if i = 3 then V (20, k, 0) 15 else if i = 4 then V (20, k, 0) 16
  else if i < 65 then V (41, k, (i - 5) / 5) ((i - 5) % 5) else if i < 77 then V (40, k, i - 65) 1 else if i < 89 then V (40, k, i - 77) 2 else if i < 101 then V (40, k, i - 89) 3
  else if i < 111 then V (42, k, i - 101) 0 else V (42, k, i - 111) 3
section XR
variable {V : gz_V} {k p t h i : Nat} {v : Int32}
theorem xr_trait (hp : p < 12) (ht : t < 5) : xr V k (5 + 5 * p + t) = V (41, k, p) t := by
  unfold xr
  rw [if_neg (by omega), if_neg (by omega), if_neg (by omega), if_neg (by omega), if_neg (by omega), if_pos (by omega), show (5 + 5 * p + t - 5) / 5 = p by omega, show (5 + 5 * p + t - 5) % 5 = t by omega]
theorem xr_purse (hp : p < 12) : xr V k (65 + p) = V (40, k, p) 1 := by
  unfold xr
  rw [if_neg (by omega), if_neg (by omega), if_neg (by omega), if_neg (by omega), if_neg (by omega), if_neg (by omega), if_pos (by omega), show 65 + p - 65 = p by omega]
theorem xr_hand (hp : p < 12) : xr V k (77 + p) = V (40, k, p) 2 := by
  unfold xr
  rw [if_neg (by omega), if_neg (by omega), if_neg (by omega), if_neg (by omega), if_neg (by omega), if_neg (by omega), if_neg (by omega), if_pos (by omega), show 77 + p - 77 = p by omega]
theorem xr_shook (hp : p < 12) : xr V k (89 + p) = V (40, k, p) 3 := by
  unfold xr
  rw [if_neg (by omega), if_neg (by omega), if_neg (by omega), if_neg (by omega), if_neg (by omega), if_neg (by omega), if_neg (by omega), if_neg (by omega), if_pos (by omega), show 89 + p - 89 = p by omega]
theorem xr_owner (hp : h < 10) : xr V k (101 + h) = V (42, k, h) 0 := by
  unfold xr
  rw [if_neg (by omega), if_neg (by omega), if_neg (by omega), if_neg (by omega), if_neg (by omega), if_neg (by omega), if_neg (by omega), if_neg (by omega), if_neg (by omega), if_pos (by omega), show 101 + h - 101 = h by omega]
theorem xr_sold : xr V k (111 + h) = V (42, k, h) 3 := by
  unfold xr
  rw [if_neg (by omega), if_neg (by omega), if_neg (by omega), if_neg (by omega), if_neg (by omega), if_neg (by omega), if_neg (by omega), if_neg (by omega), if_neg (by omega), if_neg (by omega), show 111 + h - 111 = h by omega]
theorem xu_trait (hp : p < 12) (ht : t < 5) : xr (gz_up V (41, k, p) t v) k = upd (xr V k) (5 + 5 * p + t) v := by
  funext i
  simp only [xr, up_at, upd_at, Prod.mk.injEq]
  grind (splits := 30)
theorem xu_purse (hp : p < 12) : xr (gz_up V (40, k, p) 1 v) k = upd (xr V k) (65 + p) v := by
  funext i
  simp only [xr, up_at, upd_at, Prod.mk.injEq]
  grind (splits := 30)
theorem xu_hand (hp : p < 12) : xr (gz_up V (40, k, p) 2 v) k = upd (xr V k) (77 + p) v := by
  funext i
  simp only [xr, up_at, upd_at, Prod.mk.injEq]
  grind (splits := 30)
theorem xu_shook (hp : p < 12) : xr (gz_up V (40, k, p) 3 v) k = upd (xr V k) (89 + p) v := by
  funext i
  simp only [xr, up_at, upd_at, Prod.mk.injEq]
  grind (splits := 30)
theorem xu_owner (hp : h < 10) : xr (gz_up V (42, k, h) 0 v) k = upd (xr V k) (101 + h) v := by
  funext i
  simp only [xr, up_at, upd_at, Prod.mk.injEq]
  grind (splits := 30)
theorem xu_sold : xr (gz_up V (42, k, h) 3 v) k = upd (xr V k) (111 + h) v := by
  funext i
  simp only [xr, up_at, upd_at, Prod.mk.injEq]
  grind (splits := 30)
theorem xu_day : xr (gz_up V (20, k, 0) 17 v) k = upd (xr V k) 0 v := by
  funext i
  simp only [xr, up_at, upd_at, Prod.mk.injEq]
  grind (splits := 30)
theorem xu_state : xr (gz_up V (20, k, 0) 18 v) k = upd (xr V k) 1 v := by
  funext i
  simp only [xr, up_at, upd_at, Prod.mk.injEq]
  grind (splits := 30)
theorem xu_lines : xr (gz_up V (20, k, 0) 19 v) k = upd (xr V k) 2 v := by
  funext i
  simp only [xr, up_at, upd_at, Prod.mk.injEq]
  grind (splits := 30)
theorem xu_passed : xr (gz_up V (20, k, 0) 15 v) k = upd (xr V k) 3 v := by
  funext i
  simp only [xr, up_at, upd_at, Prod.mk.injEq]
  grind (splits := 30)
theorem xu_held : xr (gz_up V (20, k, 0) 16 v) k = upd (xr V k) 4 v := by
  funext i
  simp only [xr, up_at, upd_at, Prod.mk.injEq]
  grind (splits := 30)
/-- is it a slot of a row? -/
def xsl (k : Nat) (n : gz_N) (i : Nat) : Bool := n.2.1 == k && (n.1 == 41 || (n.1 == 40 && (i == 1 || i == 2 || i == 3)) || (n.1 == 42 && (i == 0 || i == 3)) || (n.1 == 20 && (15 ≤ i && i ≤ 19)))
theorem xr_eq {V V' : gz_V} (h : ∀ n i, xsl k n i = true → V' n i = V n i) : xr V' k = xr V k := by
  funext i
  unfold xr
  rw [h (20, k, 0) 17 (by simp [xsl]), h (20, k, 0) 18 (by simp [xsl]), h (20, k, 0) 19 (by simp [xsl]), h (20, k, 0) 15 (by simp [xsl]), h (20, k, 0) 16 (by simp [xsl]), h (41, k, (i - 5) / 5) _ (by simp [xsl]), h (40, k, i - 65) 1 (by simp [xsl]), h (40, k, i - 77) 2 (by simp [xsl]), h (40, k, i - 89) 3 (by simp [xsl]), h (42, k, i - 101) 0 (by simp [xsl]), h (42, k, i - 111) 3 (by simp [xsl])]
theorem xr_no {n : gz_N} {j : Nat} (h : xsl k n j = false) : xr (gz_up V n j v) k = xr V k := xr_eq (fun a i ha => by
  rw [up_at, if_neg]
  rintro ⟨rfl, rfl⟩
  rw [h] at ha
  cases ha)
end XR
