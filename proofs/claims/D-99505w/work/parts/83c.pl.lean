/-! THE TWIN's codes, run -/
set_option maxRecDepth 100000
theorem tC.cok {Ds : gz_S} {Df : gz_R} {V : gz_V} : ∀ {d : Nat} {n : gz_N} {cs : List (Int32 × Int32)} {b : Bool}, tC Ds Df V d n cs b → (∀ c ∈ cs, c.1 = 1 → 0 ≤ c.2.toInt ∧ c.2.toInt < 11) ∧ 0 < cs.length ∧ d ≠ 0
  | 0, _, _, _, h => h.elim
  | d + 1, n, cs, b, ⟨h0, h⟩ => by
    rcases h with ⟨h1, h2, h3⟩ | ⟨h1, h2, h3, h4⟩ | ⟨h1, l, r, cl, cr, bl, o, h3, h4, h5, h6, h7, h8, h9⟩ | ⟨h1, h3, a, ca, h4, h5, h6⟩
    · subst h3
      refine ⟨fun c hc h => ?_, by simp, by omega⟩
      rw [List.mem_singleton.mp hc] at h
      exact absurd (show (0 : Int32) = 1 from h) (by decide)
    · subst h3
      refine ⟨fun c hc h => ?_, by simp, by omega⟩
      rw [List.mem_singleton.mp hc]
      exact h4
    · subst h7
      refine ⟨fun c hc h => ?_, by simp only [List.length_append, List.length_cons]; omega, by omega⟩
      rcases List.mem_append.mp hc with hc | hc
      · exact h5.cok.1 c hc h
      · rcases List.mem_append.mp hc with hc | hc
        · exact h6.cok.1 c hc h
        · rw [List.mem_singleton.mp hc] at h
          rcases h8 with q | q | q | q | q | q | q | q | q <;> (obtain ⟨-, rfl, -⟩ := q; exact absurd h (by decide))
    · subst h6
      refine ⟨fun c hc h => ?_, by simp only [List.length_append, List.length_cons]; omega, by omega⟩
      rcases List.mem_append.mp hc with hc | hc
      · exact h5.cok.1 c hc h
      · rw [List.mem_singleton.mp hc] at h
        exact absurd h (by decide)
/-- the pile lies in the twin's stack -/
def pl (M : gz_V) : List Int32 → Prop
  | [] => True
  | x :: st => M (2, 41, 0) st.length = x ∧ pl M st
/-- codes lie there from f on -/
def cdF (op ar : Nat → Int32) : Nat → List (Int32 × Int32) → Prop
  | _, [] => True
  | f, c :: cs => op f = c.1 ∧ ar f = c.2 ∧ cdF op ar (f + 1) cs
abbrev cd (M : gz_V) (f : Nat) (cs : List (Int32 × Int32)) : Prop := cdF (M (2, 23, 0)) (M (2, 24, 0)) f cs
theorem cdF.cg {op ar op2 ar2 : Nat → Int32} : ∀ {f : Nat} {cs : List (Int32 × Int32)}, cdF op ar f cs → (∀ i, f ≤ i → i < f + cs.length → op2 i = op i ∧ ar2 i = ar i) → cdF op2 ar2 f cs
  | _, [], _, _ => trivial
  | f, c :: cs, ⟨a, b, d⟩, h => by
    obtain ⟨h1, h2⟩ := h f (Nat.le_refl _) (by simp)
    exact ⟨h1.trans a, h2.trans b, d.cg (fun i q1 q2 => h i (by omega) (by simp; omega))⟩
theorem cdF.app {op ar : Nat → Int32} : ∀ {f : Nat} {cs ds : List (Int32 × Int32)}, cdF op ar f cs → cdF op ar (f + cs.length) ds → cdF op ar f (cs ++ ds)
  | _, [], _, _, h => h
  | f, c :: cs, ds, ⟨a, b, d⟩, h => ⟨a, b, d.app (by rw [show f + 1 + cs.length = f + (c :: cs).length by simp; omega]; exact h)⟩
abbrev fS : gz_N → Nat → Bool := fun n _ => n == (2, 41, 0)
theorem pl.up {M : gz_V} {j : Nat} {x : Int32} : ∀ {st : List Int32}, pl M st → st.length ≤ j → pl (gz_up M (2, 41, 0) j x) st
  | [], _, _ => trivial
  | y :: st, ⟨h1, h2⟩, hl => ⟨by rw [up_at, if_neg (by simp at hl; omega)]; exact h1, h2.up (by simp at hl; omega)⟩
theorem up_ne {V : gz_V} {n a : gz_N} {j : Nat} {x : Int32} (h : a ≠ n) : gz_up V n j x a = V a := gz_up_ne h
theorem rs_o {A : Nat → Int32} {o a : Int32} {st st' : List Int32} (h : rs A o a st = some st') (h0 : o ≠ 0) (h1 : o ≠ 1) (h9 : o ≠ 9) : ∃ x y z s, st = y :: x :: s ∧ m_twoOf o x y = some z ∧ st' = z :: s := by
  unfold rs at h
  rw [if_neg h0, if_neg h1, if_neg h9] at h
  match st, h with
  | y :: x :: s, h =>
    dsimp only at h
    obtain ⟨z, hz, h2⟩ := gz_bd_o h
    cases h2
    exact ⟨x, y, z, s, rfl, hz, rfl⟩
/-- one code of the twin's -/
theorem m_code {N n f e : Nat} {M : gz_V} {A : Nat → Int32} {o a : Int32} {st st' : List Int32} (hA : ∀ w, w < 11 → M (2, 40, 0) w = A w) (ho : M (2, 23, 0) f = o) (ha : M (2, 24, 0) f = a) (hok : o = 1 → 0 ≤ a.toInt ∧ a.toInt < 11) (hp : pl M st) (hl : st.length < 420) (hf : f < e) (he : e ≤ 1200) (h : rs A o a st = some st') :
    ∃ M', pl M' st' ∧ fr fS M M' ∧ st'.length ≤ st.length + 1 ∧ m_runs_L12 N 0 (Int32.ofNat e) (n + 1) M (Int32.ofNat st.length) (Int32.ofNat f) = m_runs_L12 N 0 (Int32.ofNat e) n M' (Int32.ofNat st'.length) (Int32.ofNat (f + 1)) := by
  have e0 : (400 * (0 : Int32)) + Int32.ofNat e = Int32.ofNat e := by rw [show (400 * (0 : Int32)) = 0 by decide, Int32.zero_add]
  have hf1 : ¬ (400 * (0 : Int32)) + Int32.ofNat e ≤ Int32.ofNat f := by rw [e0, o_le (by omega) (by omega)]; omega
  have e1 : Int32.ofNat f + 1 = Int32.ofNat (f + 1) := o_addr 1 f
  rw [m_runs_L12, if_neg hf1, gs_gd (o_inb (by omega) (by omega)), o_nat (show f < 2147483648 by omega), ho, ha, e1]
  by_cases h0 : o = 0
  · subst h0
    cases h
    refine ⟨gz_up M (2, 41, 0) st.length a, ⟨by rw [up_at, if_pos ⟨rfl, rfl⟩], hp.up (Nat.le_refl _)⟩, fr.rf.up (by rfl), by simp, ?_⟩
    rw [if_pos rfl, if_pos rfl, gs_gd (o_inb (by omega) (by omega)), gs_gd (o_inb (by omega) (by omega)), gs_bd, gs_gd (o_inb (by omega) (by omega)), o_nat (show st.length < 2147483648 by omega)]
    simp only [gs_let, gs_b2, o_addr]
    rfl
  by_cases h1 : o = 1
  · subst h1
    cases h
    obtain ⟨q1, q2⟩ := hok rfl
    refine ⟨gz_up M (2, 41, 0) st.length (A a.toNatClampNeg), ⟨by rw [up_at, if_pos ⟨rfl, rfl⟩], hp.up (Nat.le_refl _)⟩, fr.rf.up (by rfl), by simp, ?_⟩
    rw [if_neg (by decide), gs_gd (o_inb (by omega) (by omega)), if_pos rfl, if_neg (by decide), gs_gd (o_inb (by omega) (by omega)), gs_gd (o_inb (by omega) (by omega)), gs_gd (i_inb q1 q2), gs_bd, gs_gd (o_inb (by omega) (by omega)), o_nat (show st.length < 2147483648 by omega), hA _ (by rw [i_nat]; omega)]
    simp only [gs_let, gs_b2, o_addr]
    rfl
  by_cases h9 : o = 9
  · subst h9
    match st, h, hp, hl with
    | x :: s, h, hp, hl =>
      cases h
      have es : Int32.ofNat (x :: s).length - 1 = Int32.ofNat s.length := by
        have e1 : Int32.ofNat (x :: s).length = Int32.ofNat s.length + 1 := (o_addr 1 _).symm
        rw [e1, Int32.add_sub_cancel]
      have hs : s.length < 2147483648 := by simp at hl; omega
      have hs2 : s.length < 420 := by simp at hl; omega
      refine ⟨gz_up M (2, 41, 0) s.length (1 - x), ⟨by rw [up_at, if_pos ⟨rfl, rfl⟩], hp.2.up (Nat.le_refl _)⟩, fr.rf.up (by rfl), by simp, ?_⟩
      rw [if_neg (by decide), gs_gd (o_inb (by omega) (by omega)), if_neg (by decide), gs_gd (o_inb (by omega) (by omega)), if_pos rfl, es, gs_gd (o_inb hs2 hs), gs_gd (o_inb hs2 hs), o_nat hs, hp.1]
      simp only [gs_let, gs_b2]
      rfl
  obtain ⟨x, y, z, s, rfl, hz, rfl⟩ := rs_o h h0 h1 h9
  have hs : s.length + 1 < 420 := by simp at hl; omega
  have es : Int32.ofNat (y :: x :: s).length - 1 = Int32.ofNat (s.length + 1) := by
    have e1 : Int32.ofNat (y :: x :: s).length = Int32.ofNat (s.length + 1) + 1 := (o_addr 1 _).symm
    rw [e1, Int32.add_sub_cancel]
  have es2 : Int32.ofNat (s.length + 1) - 1 = Int32.ofNat s.length := by
    have e1 : Int32.ofNat (s.length + 1) = Int32.ofNat s.length + 1 := (o_addr 1 _).symm
    rw [e1, Int32.add_sub_cancel]
  refine ⟨gz_up M (2, 41, 0) s.length z, ⟨by rw [up_at, if_pos ⟨rfl, rfl⟩], hp.2.2.up (Nat.le_refl _)⟩, fr.rf.up (by rfl), by simp, ?_⟩
  rw [if_neg h0, gs_gd (o_inb (by omega) (by omega)), if_neg h1, gs_gd (o_inb (by omega) (by omega)), if_neg h9, es]
  simp only [gs_let]
  rw [gs_gd (o_inb (by omega) (by omega)), es2, gs_gd (o_inb (by omega) (by omega)), gs_gd (o_inb (by omega) (by omega)), o_nat (show s.length < 2147483648 by omega), o_nat (show s.length + 1 < 2147483648 by omega), show M (2, 41, 0) s.length = x from hp.2.1, show M (2, 41, 0) (s.length + 1) = y from hp.1, hz, gs_bd, gs_gd (o_inb (by omega) (by omega))]
  rfl
theorem m_codes {N e : Nat} {A : Nat → Int32} (he : e ≤ 1200) : ∀ {cs : List (Int32 × Int32)} {n f : Nat} {M : gz_V} {st st' : List Int32}, (∀ w, w < 11 → M (2, 40, 0) w = A w) → cd M f cs → (∀ c ∈ cs, c.1 = 1 → 0 ≤ c.2.toInt ∧ c.2.toInt < 11) → pl M st → st.length + cs.length ≤ 420 → f + cs.length = e → cs.length < n → rn A cs st = some st' →
    ∃ M', m_runs_L12 N 0 (Int32.ofNat e) n M (Int32.ofNat st.length) (Int32.ofNat f) = some M' ∧ pl M' st' ∧ fr fS M M' := by
  have e0 : (400 * (0 : Int32)) + Int32.ofNat e = Int32.ofNat e := by rw [show (400 * (0 : Int32)) = 0 by decide, Int32.zero_add]
  intro cs
  induction cs with
  | nil =>
    intro n f M st st' hA hc hk hp hl hf hn h
    cases h
    obtain ⟨n, rfl⟩ : ∃ m, n = m + 1 := ⟨n - 1, by simp at hn; omega⟩
    refine ⟨M, ?_, hp, fr.rf⟩
    rw [m_runs_L12, e0, if_pos]
    rw [o_le (by omega) (by simp at hf; omega)]
    simp at hf
    omega
  | cons c cs ih =>
    intro n f M st st' hA hc hk hp hl hf hn h
    obtain ⟨n, rfl⟩ : ∃ m, n = m + 1 := ⟨n - 1, by omega⟩
    obtain ⟨s1, h1, h2⟩ := gz_bd_o (show gz_bd (rs A c.1 c.2 st) (fun s => rn A cs s) = some st' from h)
    have hl0 : cs.length + 1 = (c :: cs).length := rfl
    obtain ⟨M1, p1, f1, l1, e1⟩ := m_code (N := N) (n := n) (e := e) hA hc.1 hc.2.1 (hk c List.mem_cons_self) hp (by omega) (by omega) he h1
    rw [e1]
    have q23 : M1 (2, 23, 0) = M (2, 23, 0) := funext (fun i => f1 _ i rfl)
    have q24 : M1 (2, 24, 0) = M (2, 24, 0) := funext (fun i => f1 _ i rfl)
    obtain ⟨M2, a1, a2, a3⟩ := ih (n := n) (f := f + 1) (M := M1) (fun w hw => by rw [f1 (2, 40, 0) w rfl]; exact hA w hw) (by unfold cd; rw [q23, q24]; exact hc.2.2) (fun c hc => hk c (List.mem_cons_of_mem _ hc)) p1 (by omega) (by omega) (by omega) h2
    exact ⟨M2, a1, a2, f1.trans a3⟩
/-- what codes come to -/
theorem m_run {N f e : Nat} {M : gz_V} {A : Nat → Int32} {cs : List (Int32 × Int32)} {v : Int32} (hA : ∀ w, w < 11 → M (2, 40, 0) w = A w) (hc : cd M f cs) (hk : ∀ c ∈ cs, c.1 = 1 → 0 ≤ c.2.toInt ∧ c.2.toInt < 11) (hl : cs.length ≤ 400) (hf : f + cs.length = e) (he : e ≤ 400) (hN : 500 ≤ N) (h : rn A cs [] = some [v]) :
    ∃ M', m_runs N M 0 (Int32.ofNat f) (Int32.ofNat e) = some (M', v) ∧ fr fS M M' := by
  have e0 : (400 * (0 : Int32)) + Int32.ofNat f = Int32.ofNat f := by rw [show (400 * (0 : Int32)) = 0 by decide, Int32.zero_add]
  obtain ⟨M', h1, h2, h3⟩ := m_codes (N := N) (n := N) (e := e) (st := []) (by omega) hA hc hk trivial (by simp; omega) hf (by omega) h
  refine ⟨M', ?_, h3⟩
  unfold m_runs
  rw [e0, gs_let]
  rw [show (0 : Int32) = Int32.ofNat ([] : List Int32).length from rfl] at *
  rw [h1, gs_bd]
  rw [show (Int32.ofNat ([] : List Int32).length).toNatClampNeg = 0 from rfl]
  rw [show M' (2, 41, 0) 0 = v from h2.1]
