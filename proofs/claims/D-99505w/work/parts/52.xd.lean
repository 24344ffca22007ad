/-! TERMS asked to any depth; habits. First printed by a program, then by hand -/
set_option maxRecDepth 100000
/-- what a term comes to, asked of market k, at most d deep -/
noncomputable def xd_of (Ds : gz_S) (Df : gz_R) (V : gz_V) (k : Nat) : Nat → gz_N → Option Int32
  | 0, _ => none
  | d + 1, n => if n.1 < 90 then none
    else if Ds n = some (9, 1) then some (x10_of V n k)
    else if Ds n = some (10, 1) then x11_of Ds Df V n k
    else if Ds n = some (11, 3) then x12_of (xd_of Ds Df V k d) Ds Df V n k
    else if Ds n = some (12, 1) then x13_of (xd_of Ds Df V k d) Ds Df V n k
    else none
theorem xd_ok {Ds : gz_S} {Df : gz_R} {V : gz_V} {k : Nat} (hk : k < 9) : ∀ (d : Nat) {l : Launch} {D : va_G} {aC : Nat → ClassId} {ad : gz_A0} {n : gz_N} {r : Int32}, xd_of Ds Df V k d n = some r → xd_met l D aC ad Ds Df V k (rm_xd d) n r := by
  intro d
  induction d with
  | zero => intro l D aC ad n r h; rw [xd_of] at h; cases h
  | succ d ih =>
    intro l D aC ad n r h
    rw [xd_of] at h
    by_cases h90 : n.1 < 90
    · rw [if_pos h90] at h; cases h
    rw [if_neg h90] at h
    have h9 : 90 ≤ n.1 := Nat.not_lt.mp h90
    refine ⟨h9, ?_⟩
    by_cases c1 : Ds n = some (9, 1)
    · rw [if_pos c1] at h
      exact Or.inl ⟨c1, c_x10_of ⟨h9, c1⟩ hk (gz_in1 h)⟩
    rw [if_neg c1] at h
    by_cases c2 : Ds n = some (10, 1)
    · rw [if_pos c2] at h
      exact Or.inr (Or.inl ⟨c2, c_x11_of ⟨h9, c2⟩ hk h⟩)
    rw [if_neg c2] at h
    by_cases c3 : Ds n = some (11, 3)
    · rw [if_pos c3] at h
      exact Or.inr (Or.inr (Or.inl ⟨c3, c_x12_of ⟨h9, c3⟩ hk (fun e => ih e) h⟩))
    rw [if_neg c3] at h
    by_cases c4 : Ds n = some (12, 1)
    · rw [if_pos c4] at h
      exact Or.inr (Or.inr (Or.inr ⟨c4, c_x13_of ⟨h9, c4⟩ hk (fun e => ih e) h⟩))
    rw [if_neg c4] at h
    cases h
/-! habits -/
abbrev xd_isHb (Ds : gz_S) (n : gz_N) : Prop := 90 ≤ n.1 ∧ (Ds n = some (15, 3) ∨ Ds n = some (16, 4) ∨ Ds n = some (17, 3))
noncomputable def xd_isOf (V : gz_V) (n : gz_N) (a : Int32) : Int32 := x16_isOf_Wa V n a
noncomputable def xd_does (Ds : gz_S) (V : gz_V) (n : gz_N) (k p : Nat) : Option gz_V := if n.1 < 90 then none
  else if Ds n = some (15, 3) then x17_does V n k p
  else if Ds n = some (16, 4) then x18_does V n k p
  else if Ds n = some (17, 3) then x19_does V n k p
  else none
section XD1
variable {X : gz_X} {cc : ByteArray} {mn : String} {nL : Nat} {rm : Room} {ret : Option FieldType} {Ds : gz_S} {Df : gz_R} {ad : gz_A0} {V V2 : gz_V} {pc idx : Nat} {lv : List (Nat × Value)} {st : List Value} {n : gz_N}
theorem gu_castHb (hX : gz_ok X cc RX1 mn nL rm ret) (hlink : Cond.classLink RX1 idx "ClaspedFair$Habit" ∈ lw_all) (hn : xd_isHb Ds n) (hdg : decode cc pc = .ok (.checkcast idx, 3)) (k : gW X nL (xw_s Ds) (xw_c Df) ad V 0 0 (pc + 3) lv (.ref (ad n) :: st)) : gW X nL (xw_s Ds) (xw_c Df) ad V 0 0 pc lv (.ref (ad n) :: st) := by
  obtain ⟨h90, h | h | h⟩ := hn
  · exact gz_cast (ci := 15) hX hlink (by decide) rfl (xs_dyn ⟨h90, h⟩) (Or.inr q2211) hdg k
  · exact gz_cast (ci := 16) hX hlink (by decide) rfl (xs_dyn ⟨h90, h⟩) (Or.inr q2209) hdg k
  · exact gz_cast (ci := 17) hX hlink (by decide) rfl (xs_dyn ⟨h90, h⟩) (Or.inr q2210) hdg k
theorem gu_isOf (hX : gz_ok X cc RX1 mn nL rm ret) {a : Int32} (hl : Cond.methodLink RX1 idx ⟨"ClaspedFair$Habit", "isOf", "(I)Z"⟩ ∈ lw_all) (hn : xd_isHb Ds n) (h8 : (st.map fun v => v.category).sum ≤ 8) (hdg : decode cc pc = .ok (.invokevirtual idx, 3)) (hR : 1 ≤ rm.frames ∧ 21 ≤ rm.locals) (k : gW X nL (xw_s Ds) (xw_c Df) ad V 0 0 (pc + 3) lv (.int (xd_isOf V n a) :: st)) : gW X nL (xw_s Ds) (xw_c Df) ad V 0 0 pc lv (.int a :: .ref (ad n) :: st) := by
  obtain ⟨h90, h | h | h⟩ := hn
  · exact gu_callU (ci := 15) (As := [.int a]) (rest := st) (nA := 1) hX (c_x16_isOf_Wa ⟨h90, h⟩ rfl) (lw_U hl q1224 q1227 q1223 q174 q1228) (Or.inr rfl) rfl rfl (by decide +kernel) ⟨hR.1, Nat.le_trans (Nat.le_of_ble_eq_true rfl) hR.2⟩ ⟨Nat.zero_le _, Nat.zero_le _⟩ (by decide) rfl (xs_dyn ⟨h90, h⟩) rfl rfl h8 hdg rfl k
  · exact gu_callU (ci := 16) (As := [.int a]) (rest := st) (nA := 1) hX (c_x16_isOf_Co ⟨h90, h⟩ rfl) (lw_U hl q1224 q1225 q1223 q174 q1228) (Or.inr rfl) rfl rfl (by decide +kernel) ⟨hR.1, Nat.le_trans (Nat.le_of_ble_eq_true rfl) hR.2⟩ ⟨Nat.zero_le _, Nat.zero_le _⟩ (by decide) rfl (xs_dyn ⟨h90, h⟩) rfl rfl h8 hdg rfl k
  · exact gu_callU (ci := 17) (As := [.int a]) (rest := st) (nA := 1) hX (c_x16_isOf_Sl ⟨h90, h⟩ rfl) (lw_U hl q1224 q1226 q1223 q174 q1228) (Or.inr rfl) rfl rfl (by decide +kernel) ⟨hR.1, Nat.le_trans (Nat.le_of_ble_eq_true rfl) hR.2⟩ ⟨Nat.zero_le _, Nat.zero_le _⟩ (by decide) rfl (xs_dyn ⟨h90, h⟩) rfl rfl h8 hdg rfl k
theorem gu_person (hX : gz_ok X cc RX1 mn nL rm ret) (hl : Cond.methodLink RX1 idx ⟨"ClaspedFair$Habit", "person", "()I"⟩ ∈ lw_all) (hn : xd_isHb Ds n) (h8 : (st.map fun v => v.category).sum ≤ 8) (hdg : decode cc pc = .ok (.invokevirtual idx, 3)) (hR : 1 ≤ rm.frames ∧ 21 ≤ rm.locals) (k : gW X nL (xw_s Ds) (xw_c Df) ad V 0 0 (pc + 3) lv (.int (V n 1) :: st)) : gW X nL (xw_s Ds) (xw_c Df) ad V 0 0 pc lv (.ref (ad n) :: st) := by
  obtain ⟨h90, h | h | h⟩ := hn
  · exact gu_callU (ci := 15) (As := []) (rest := st) (nA := 0) hX (c_x16_person_Wa ⟨h90, h⟩ rfl) (lw_U hl q1231 q1234 q1230 q174 q1235) (Or.inr rfl) rfl rfl (by decide +kernel) ⟨hR.1, Nat.le_trans (Nat.le_of_ble_eq_true rfl) hR.2⟩ ⟨Nat.zero_le _, Nat.zero_le _⟩ (by decide) rfl (xs_dyn ⟨h90, h⟩) rfl rfl h8 hdg rfl k
  · exact gu_callU (ci := 16) (As := []) (rest := st) (nA := 0) hX (c_x16_person_Co ⟨h90, h⟩ rfl) (lw_U hl q1231 q1232 q1230 q174 q1235) (Or.inr rfl) rfl rfl (by decide +kernel) ⟨hR.1, Nat.le_trans (Nat.le_of_ble_eq_true rfl) hR.2⟩ ⟨Nat.zero_le _, Nat.zero_le _⟩ (by decide) rfl (xs_dyn ⟨h90, h⟩) rfl rfl h8 hdg rfl k
  · exact gu_callU (ci := 17) (As := []) (rest := st) (nA := 0) hX (c_x16_person_Sl ⟨h90, h⟩ rfl) (lw_U hl q1231 q1233 q1230 q174 q1235) (Or.inr rfl) rfl rfl (by decide +kernel) ⟨hR.1, Nat.le_trans (Nat.le_of_ble_eq_true rfl) hR.2⟩ ⟨Nat.zero_le _, Nat.zero_le _⟩ (by decide) rfl (xs_dyn ⟨h90, h⟩) rfl rfl h8 hdg rfl k
theorem gu_does (hX : gz_ok X cc RX1 mn nL rm ret) {k p : Nat} (hl : Cond.methodLink RX1 idx ⟨"ClaspedFair$Habit", "does", "(LClaspedFair$Person;)V"⟩ ∈ lw_all) (e : xd_does Ds V n k p = some V2) (hk : k < 9) (hp : p < 12) (h8 : (st.map fun v => v.category).sum ≤ 8) (hdg : decode cc pc = .ok (.invokevirtual idx, 3)) (hR : 2 ≤ rm.frames ∧ 60 ≤ rm.locals) (kk : gW X nL (xw_s Ds) (xw_c Df) ad V2 0 0 (pc + 3) lv st) : gW X nL (xw_s Ds) (xw_c Df) ad V 0 0 pc lv (.ref (ad (40, k, p)) :: .ref (ad n) :: st) := by
  unfold xd_does at e
  by_cases h90 : n.1 < 90
  · rw [if_pos h90] at e; cases e
  rw [if_neg h90] at e
  have h9 : 90 ≤ n.1 := Nat.not_lt.mp h90
  by_cases c15 : Ds n = some (15, 3)
  · rw [if_pos c15] at e
    exact gu_callU (ci := 15) (As := [.ref (ad (40, k, p))]) (rest := st) (nA := 1) hX (c_x17_does ⟨h9, c15⟩ hk hp e) (lw_U hl q1238 q1246 q1247 q175 q1248) (Or.inl q1237) rfl rfl (by decide +kernel) ⟨Nat.le_trans (Nat.le_of_ble_eq_true rfl) hR.1, Nat.le_trans (Nat.le_of_ble_eq_true rfl) hR.2⟩ ⟨Nat.zero_le _, Nat.zero_le _⟩ (by decide) rfl (xs_dyn ⟨h9, c15⟩) rfl rfl h8 hdg rfl kk
  rw [if_neg c15] at e
  by_cases c16 : Ds n = some (16, 4)
  · rw [if_pos c16] at e
    exact gu_callU (ci := 16) (As := [.ref (ad (40, k, p))]) (rest := st) (nA := 1) hX (c_x18_does ⟨h9, c16⟩ hk hp e) (lw_U hl q1238 q1239 q1240 q176 q1241) (Or.inl q1237) rfl rfl (by decide +kernel) ⟨Nat.le_trans (Nat.le_of_ble_eq_true rfl) hR.1, Nat.le_trans (Nat.le_of_ble_eq_true rfl) hR.2⟩ ⟨Nat.zero_le _, Nat.zero_le _⟩ (by decide) rfl (xs_dyn ⟨h9, c16⟩) rfl rfl h8 hdg rfl kk
  rw [if_neg c16] at e
  by_cases c17 : Ds n = some (17, 3)
  · rw [if_pos c17] at e
    exact gu_callU (ci := 17) (As := [.ref (ad (40, k, p))]) (rest := st) (nA := 1) hX (c_x19_does ⟨h9, c17⟩ hk hp e) (lw_U hl q1238 q1243 q1244 q177 q1245) (Or.inl q1237) rfl rfl (by decide +kernel) ⟨Nat.le_trans (Nat.le_of_ble_eq_true rfl) hR.1, Nat.le_trans (Nat.le_of_ble_eq_true rfl) hR.2⟩ ⟨Nat.zero_le _, Nat.zero_le _⟩ (by decide) rfl (xs_dyn ⟨h9, c17⟩) rfl rfl h8 hdg rfl kk
  rw [if_neg c17] at e
  cases e
end XD1
