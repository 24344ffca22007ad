/-! set, whole -/
set_option maxRecDepth 100000
section SET2
variable {Ds : gz_S} {Df : gz_R} {V M : gz_V} {c P H b : Nat} {F : Int32}
/-- one trait changes alike -/
theorem cU.tr1 {p t : Nat} {a : Int32} (u : cU 0 P H F b Ds Df V M) (hp : p < 12) (ht : t < 5) (ha : 0 ≤ a.toInt ∧ a.toInt ≤ 999) : cU 0 P H F b Ds Df (gz_up V (41, 0, p) t a) (gz_up M (2, 1, 0) (5 + 5 * p + t) a) := by
  have hH := u.1.2.2.1
  refine u.row (fr.rf.up (by simp [fx])) (fr.rf.up (by simp [fm])) (fun i' hi' => ?_) (fun i' h1 h2 => ?_) (fun j hj => ?_) ?_ (fun i => ?_) ?_
  · have := u.2.1 i' hi'
    rw [xu_trait hp ht]
    simp only [upd_at, up_at, true_and, this]
  · have := u.2.2.1.1 i' h1 h2
    simp only [up_at, true_and]
    split
    · exact ha
    · exact this
  · have := u.2.2.1.2.1 j hj
    simp only [up_at, true_and]
    rw [if_neg (by omega)]
    exact this
  · simp only [up_at, true_and]
    rw [if_neg (by omega)]
  · rw [up_ne (by simp)]
  · rw [up_ne (by decide)]
/-- a deed, and all is forgotten -/
theorem JJ.df {V2 M2 : gz_V} (h : JJ Ds Df V c M) (mr : mR 0 P H b Ds Df V M) (u : cU 0 P H 0 b Ds Df V2 M2) (hx : fr (fx 0) V V2) (hm : fr fm M M2) : JJ Ds Df (gz_up V2 (10, 0, 0) 8 0) c (gz_up M2 (1, 0, 0) 3 0) := by
  obtain ⟨b', hb, mr2⟩ := mr.core u hx hm
  refine h.fg mr2.fz (by rw [up_at, if_pos ⟨rfl, rfl⟩]) (by rw [up_at, if_pos ⟨rfl, rfl⟩]) (fun n i hn hn2 => ?_) (fun n i hn => ?_)
  · rw [up_at, if_neg hn2]
    refine hx n i ?_
    rcases hn with q | q | q | ⟨rfl, rfl⟩
    · unfold fx
      have : n.1 ≠ 23 ∧ n.1 ≠ 24 ∧ n.1 ≠ 26 ∧ n.1 ≠ 40 ∧ n.1 ≠ 41 ∧ n.1 ≠ 42 ∧ n.1 ≠ 20 := by omega
      simp [this]
    · exact fx_dyn q
    · exact fx0_jx q
    · simp [fx]
  · rw [up_at, if_neg]
    · refine hm n i ?_
      rcases hn with rfl | rfl | rfl | ⟨rfl, q⟩
      · rfl
      · rfl
      · rfl
      · rcases q with rfl | rfl | rfl | rfl | rfl <;> rfl
    · rintro ⟨rfl, rfl⟩
      rcases hn with q | q | q | q <;> first | exact absurd q (by decide) | exact absurd q.2 (by decide)
end SET2
