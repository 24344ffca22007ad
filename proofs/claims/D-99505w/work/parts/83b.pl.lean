/-! TERMS and the twin's codes -/
set_option maxRecDepth 100000
/-- how, the code, the sort of both sides (true: a condition), its own sort -/
def tOp (how o : Int32) (bl b : Bool) : Prop := (how = 43 ∧ o = 2 ∧ bl = false ∧ b = false) ∨ (how = 45 ∧ o = 3 ∧ bl = false ∧ b = false) ∨ (how = 42 ∧ o = 4 ∧ bl = false ∧ b = false) ∨ (how = 47 ∧ o = 5 ∧ bl = false ∧ b = false)
  ∨ (how = 60 ∧ o = 6 ∧ bl = false ∧ b = true) ∨ (how = 61 ∧ o = 7 ∧ bl = false ∧ b = true) ∨ (how = 62 ∧ o = 8 ∧ bl = false ∧ b = true) ∨ (how = 5 ∧ o = 10 ∧ bl = true ∧ b = true) ∨ (how = 4 ∧ o = 11 ∧ bl = true ∧ b = true)
/-- a term in the heap, and its codes -/
def tC (Ds : gz_S) (Df : gz_R) (V : gz_V) : Nat → gz_N → List (Int32 × Int32) → Bool → Prop
  | 0, _, _, _ => False
  | d + 1, n, cs, b => 90 ≤ n.1 ∧ ((b = false ∧ Ds n = some (9, 1) ∧ cs = [(0, V n 0)]) ∨ (b = false ∧ Ds n = some (10, 1) ∧ cs = [(1, V n 0)] ∧ 0 ≤ (V n 0).toInt ∧ (V n 0).toInt < 11)
    ∨ (Ds n = some (11, 3) ∧ ∃ l r cl cr bl o, Df n 0 = some l ∧ Df n 1 = some r ∧ tC Ds Df V d l cl bl ∧ tC Ds Df V d r cr bl ∧ cs = cl ++ (cr ++ [(o, 0)]) ∧ tOp (V n 2) o bl b ∧ (o = 5 → Ds r = some (9, 1) ∧ ¬ V r 0 = 0))
    ∨ (b = true ∧ Ds n = some (12, 1) ∧ ∃ a ca, Df n 0 = some a ∧ tC Ds Df V d a ca true ∧ cs = ca ++ [(9, 0)]))
theorem tC.mono {Ds : gz_S} {Df : gz_R} {V : gz_V} : ∀ {d e : Nat} {n : gz_N} {cs : List (Int32 × Int32)} {b : Bool}, tC Ds Df V d n cs b → d ≤ e → tC Ds Df V e n cs b
  | 0, _, _, _, _, h, _ => h.elim
  | d + 1, 0, _, _, _, _, h2 => absurd h2 (by omega)
  | d + 1, e + 1, n, cs, b, ⟨h0, h⟩, h2 => by
    refine ⟨h0, ?_⟩
    rcases h with h | h | ⟨h1, l, r, cl, cr, bl, o, h3, h4, h5, h6, h7⟩ | ⟨h1, h3, a, ca, h4, h5, h6⟩
    · exact Or.inl h
    · exact Or.inr (Or.inl h)
    · exact Or.inr (Or.inr (Or.inl ⟨h1, l, r, cl, cr, bl, o, h3, h4, h5.mono (by omega), h6.mono (by omega), h7⟩))
    · exact Or.inr (Or.inr (Or.inr ⟨h1, h3, a, ca, h4, h5.mono (by omega), h6⟩))
/-- the graph grows: what was stays -/
def tGr (Ds : gz_S) (Df : gz_R) (V : gz_V) (Ds2 : gz_S) (Df2 : gz_R) (V2 : gz_V) (P : gz_N → Prop) : Prop := ∀ n : gz_N, 90 ≤ n.1 → P n → Ds n ≠ none → Ds2 n = Ds n ∧ Df2 n = Df n ∧ V2 n = V n
theorem tC.grow {Ds : gz_S} {Df : gz_R} {V : gz_V} {Ds2 : gz_S} {Df2 : gz_R} {V2 : gz_V} {P : gz_N → Prop} (g : tGr Ds Df V Ds2 Df2 V2 P) (hP : ∀ n t, Ds n = some t → 9 ≤ t.1 → t.1 < 13 → P n) : ∀ {d : Nat} {n : gz_N} {cs : List (Int32 × Int32)} {b : Bool}, tC Ds Df V d n cs b → tC Ds2 Df2 V2 d n cs b
  | 0, _, _, _, h => h.elim
  | d + 1, n, cs, b, ⟨h0, h⟩ => by
    refine ⟨h0, ?_⟩
    have go : ∀ n t, 90 ≤ n.1 → Ds n = some t → 9 ≤ t.1 → t.1 < 13 → Ds2 n = some t ∧ Df2 n = Df n ∧ V2 n = V n := fun n t h1 h2 h3 h4 => by
      obtain ⟨e1, e2, e3⟩ := g n h1 (hP n t h2 h3 h4) (by rw [h2]; exact fun z => by cases z)
      exact ⟨e1.trans h2, e2, e3⟩
    rcases h with ⟨h1, h2, h3⟩ | ⟨h1, h2, h3, h4⟩ | ⟨h1, l, r, cl, cr, bl, o, h3, h4, h5, h6, h7, h8, h9⟩ | ⟨h1, h3, a, ca, h4, h5, h6⟩
    · obtain ⟨e1, e2, e3⟩ := go n _ h0 h2 (by decide) (by decide)
      exact Or.inl ⟨h1, e1, by rw [e3]; exact h3⟩
    · obtain ⟨e1, e2, e3⟩ := go n _ h0 h2 (by decide) (by decide)
      exact Or.inr (Or.inl ⟨h1, e1, by rw [e3]; exact h3, by rw [e3]; exact h4⟩)
    · obtain ⟨e1, e2, e3⟩ := go n _ h0 h1 (by decide) (by decide)
      refine Or.inr (Or.inr (Or.inl ⟨e1, l, r, cl, cr, bl, o, by rw [e2]; exact h3, by rw [e2]; exact h4, h5.grow g hP, h6.grow g hP, h7, by rw [e3]; exact h8, fun ho => ?_⟩))
      obtain ⟨q1, q2⟩ := h9 ho
      have hr : 90 ≤ r.1 := by
        cases d with
        | zero => exact h6.elim
        | succ d => exact h6.1
      obtain ⟨f1, f2, f3⟩ := go r _ hr q1 (by decide) (by decide)
      exact ⟨f1, by rw [f3]; exact q2⟩
    · obtain ⟨e1, e2, e3⟩ := go n _ h0 h3 (by decide) (by decide)
      exact Or.inr (Or.inr (Or.inr ⟨h1, e1, a, ca, by rw [e2]; exact h4, h5.grow g hP, h6⟩))
/-- a code done on a pile, its top first -/
noncomputable def rs (A : Nat → Int32) (o a : Int32) (st : List Int32) : Option (List Int32) := if o = 0 then some (a :: st) else if o = 1 then some (A a.toNatClampNeg :: st) else if o = 9 then
      match st with
      | x :: st => some ((1 - x) :: st)
      | [] => none
    else match st with
      | y :: x :: st => gz_bd (m_twoOf o x y) (fun z => some (z :: st))
      | _ => none
noncomputable def rn (A : Nat → Int32) : List (Int32 × Int32) → List Int32 → Option (List Int32)
  | [], st => some st
  | c :: cs, st => gz_bd (rs A c.1 c.2 st) (fun s => rn A cs s)
theorem rn_app (A : Nat → Int32) : ∀ (cs ds : List (Int32 × Int32)) (st : List Int32), rn A (cs ++ ds) st = gz_bd (rn A cs st) (fun s => rn A ds s)
  | [], ds, st => rfl
  | c :: cs, ds, st => by
    show gz_bd (rs A c.1 c.2 st) (fun s => rn A (cs ++ ds) s) = gz_bd (gz_bd (rs A c.1 c.2 st) (fun s => rn A cs s)) (fun s => rn A ds s)
    cases rs A c.1 c.2 st with
    | none => rfl
    | some s => exact rn_app A cs ds s
theorem b_and : ∀ x y : Int32, (x = 0 ∨ x = 1) → (y = 0 ∨ y = 1) → x &&& y = x * y ∧ (x * y = 0 ∨ x * y = 1) := by
  intro x y hx hy
  rcases hx with rfl | rfl <;> rcases hy with rfl | rfl <;> decide
theorem b_or : ∀ x y : Int32, (x = 0 ∨ x = 1) → (y = 0 ∨ y = 1) → (x ||| y = if x + y ≤ 0 then 0 else 1) ∧ (x ||| y = 0 ∨ x ||| y = 1) := by
  intro x y hx hy
  rcases hx with rfl | rfl <;> rcases hy with rfl | rfl <;> decide
theorem b_not : ∀ x : Int32, (x = 0 ∨ x = 1) → 1 - x = 0 ∨ 1 - x = 1 := by
  intro x hx
  rcases hx with rfl | rfl <;> decide
/-- a term comes to what its codes come to -/
theorem tC.of {Ds : gz_S} {Df : gz_R} {V : gz_V} {k : Nat} {A : Nat → Int32} (hA : ∀ w : Int32, 0 ≤ w.toInt → w.toInt < 11 → x1_fact Ds Df V k w = some (A w.toNatClampNeg)) : ∀ {d e : Nat} {n : gz_N} {cs : List (Int32 × Int32)} {b : Bool}, tC Ds Df V d n cs b → d ≤ e → ∃ v, xd_of Ds Df V k e n = some v ∧ (b = true → v = 0 ∨ v = 1) ∧ ∀ st, rn A cs st = some (v :: st)
  | 0, _, _, _, _, h, _ => h.elim
  | d + 1, 0, _, _, _, _, h2 => absurd h2 (by omega)
  | d + 1, e + 1, n, cs, b, ⟨h0, h⟩, h2 => by
    unfold xd_of
    rw [if_neg (by omega)]
    rcases h with ⟨h1, h3, h4⟩ | ⟨h1, h3, h4, h5⟩ | ⟨h1, l, r, cl, cr, bl, o, h3, h4, h5, h6, h7, h8, h9⟩ | ⟨h1, h3, a, ca, h4, h5, h6⟩
    · rw [if_pos h3]
      refine ⟨V n 0, rfl, fun hb => ?_, fun st => ?_⟩
      · rw [h1] at hb; cases hb
      · rw [h4]; rfl
    · rw [if_neg (by rw [h3]; decide), if_pos h3]
      unfold x11_of
      rw [hA _ h5.1 h5.2]
      refine ⟨A (V n 0).toNatClampNeg, rfl, fun hb => ?_, fun st => ?_⟩
      · rw [h1] at hb; cases hb
      · rw [h4]; rfl
    · rw [if_neg (by rw [h1]; decide), if_neg (by rw [h1]; decide), if_pos h1]
      obtain ⟨x, hx, bx, rx⟩ := tC.of hA h5 (show d ≤ e by omega)
      obtain ⟨y, hy, by', ry⟩ := tC.of hA h6 (show d ≤ e by omega)
      have hcs : ∀ st, rn A cs st = gz_bd (m_twoOf o x y) (fun z => some (z :: st)) := fun st => by
        rw [h7, rn_app, rx]
        show rn A (cr ++ [(o, 0)]) (x :: st) = _
        rw [rn_app, ry]
        show rn A [(o, 0)] (y :: x :: st) = _
        have ho : o ≠ 0 ∧ o ≠ 1 ∧ o ≠ 9 := by
          rcases h8 with h | h | h | h | h | h | h | h | h <;> (obtain ⟨-, rfl, -⟩ := h; decide)
        show gz_bd (rs A o 0 (y :: x :: st)) (fun s => some s) = _
        unfold rs
        rw [if_neg ho.1, if_neg ho.2.1, if_neg ho.2.2]
        dsimp only
        cases m_twoOf o x y <;> rfl
      have hd : ∀ q, o = 5 → some y = some q → ¬ q = 0 := fun q h5' hq => by
        cases hq
        obtain ⟨q1, q2⟩ := h9 h5'
        cases e with
        | zero => cases hy
        | succ e =>
          unfold xd_of at hy
          cases d with
          | zero => exact h6.elim
          | succ d =>
            rw [if_neg (by have := h6.1; omega), if_pos q1] at hy
            cases hy
            exact q2
      unfold x12_of
      rw [h3, h4]
      simp only [gs_bd, hx, hy]
      rcases h8 with ⟨q1, q2, q3, q4⟩ | ⟨q1, q2, q3, q4⟩ | ⟨q1, q2, q3, q4⟩ | ⟨q1, q2, q3, q4⟩ | ⟨q1, q2, q3, q4⟩ | ⟨q1, q2, q3, q4⟩ | ⟨q1, q2, q3, q4⟩ | ⟨q1, q2, q3, q4⟩ | ⟨q1, q2, q3, q4⟩ <;> rw [q1] <;> subst q2
      · exact ⟨x + y, rfl, (fun hb => by rw [q4] at hb; cases hb), fun st => hcs st⟩
      · exact ⟨x - y, rfl, (fun hb => by rw [q4] at hb; cases hb), fun st => hcs st⟩
      · exact ⟨x * y, rfl, (fun hb => by rw [q4] at hb; cases hb), fun st => hcs st⟩
      · have h0 := hd y rfl rfl
        refine ⟨x / y, ?_, (fun hb => by rw [q4] at hb; cases hb), fun st => ?_⟩
        · show gz_gd (¬ y = 0) (some (x / y)) = _
          rw [gs_gd h0]
        · rw [hcs]
          show gz_bd (gz_gd (¬ y = 0) (some (x / y))) _ = _
          rw [gs_gd h0]
          rfl
      · refine ⟨if y ≤ x then 0 else 1, ?_, fun _ => ?_, fun st => ?_⟩
        · show (if y ≤ x then some 0 else some 1) = _
          split <;> rfl
        · split
          · exact Or.inl rfl
          · exact Or.inr rfl
        · rw [hcs]
          show gz_bd (if y ≤ x then some 0 else some 1) _ = _
          split <;> rfl
      · refine ⟨if x = y then 1 else 0, ?_, fun _ => ?_, fun st => ?_⟩
        · show (if x = y then some 1 else some 0) = _
          split <;> rfl
        · split
          · exact Or.inr rfl
          · exact Or.inl rfl
        · rw [hcs]
          show gz_bd (if x = y then some 1 else some 0) _ = _
          split <;> rfl
      · refine ⟨if x ≤ y then 0 else 1, ?_, fun _ => ?_, fun st => ?_⟩
        · show (if x ≤ y then some 0 else some 1) = _
          split <;> rfl
        · split
          · exact Or.inl rfl
          · exact Or.inr rfl
        · rw [hcs]
          show gz_bd (if x ≤ y then some 0 else some 1) _ = _
          split <;> rfl
      · have hb := b_and x y (bx q3) (by' q3)
        refine ⟨x &&& y, rfl, fun _ => by rw [hb.1]; exact hb.2, fun st => ?_⟩
        rw [hcs, hb.1]
        rfl
      · have hb := b_or x y (bx q3) (by' q3)
        refine ⟨x ||| y, rfl, fun _ => hb.2, fun st => ?_⟩
        rw [hcs, hb.1]
        show gz_bd (if x + y ≤ 0 then some 0 else some 1) _ = _
        split <;> rfl
    · rw [if_neg (by rw [h3]; decide), if_neg (by rw [h3]; decide), if_neg (by rw [h3]; decide), if_pos h3]
      obtain ⟨x, hx, bx, rx⟩ := tC.of hA h5 (show d ≤ e by omega)
      unfold x13_of
      rw [h4]
      simp only [gs_bd, hx]
      refine ⟨1 - x, rfl, fun _ => b_not x (bx rfl), fun st => ?_⟩
      rw [h6, rn_app, rx]
      rfl
