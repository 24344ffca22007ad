/-! TERMS: what a term's 'of' asks, by its class; calls of it -/
set_option maxRecDepth 100000
/-- the room of a term that is at most d deep -/
def rm_xd (d : Nat) : Room := { frames := d + 2, cells := 0, slots := 0, locals := d * 23 + 60 }
def gz_yT : MethodName := ⟨"ClaspedFair$Term", "of", "(LClaspedFair$Asker;)I"⟩
/-- the term n, asked of market k, answers r: by its class -/
def xd_met (l : Launch) (D : va_G) (aC : Nat → ClassId) (ad : gz_A0) (Ds : gz_S) (Df : gz_R) (V : gz_V) (k : Nat) (rm : Room) (n : gz_N) (r : Int32) : Prop :=
  90 ≤ n.1 ∧ ((Ds n = some (9, 1) ∧ gz_Met l yX10_of cX10_of 2 (some .int) rm D aC ad (xw_s Ds) V (xw_c Df) [.ref (ad n), .ref (ad (20, k, 0))] (gz_F1 (xw_s Ds) (xw_c Df) ad V (some (.int r))) 0 0)
    ∨ (Ds n = some (10, 1) ∧ gz_Met l yX11_of cX11_of 2 (some .int) rm D aC ad (xw_s Ds) V (xw_c Df) [.ref (ad n), .ref (ad (20, k, 0))] (gz_F1 (xw_s Ds) (xw_c Df) ad V (some (.int r))) 0 0)
    ∨ (Ds n = some (11, 3) ∧ gz_Met l yX12_of cX12_of 4 (some .int) rm D aC ad (xw_s Ds) V (xw_c Df) [.ref (ad n), .ref (ad (20, k, 0))] (gz_F1 (xw_s Ds) (xw_c Df) ad V (some (.int r))) 0 0)
    ∨ (Ds n = some (12, 1) ∧ gz_Met l yX13_of cX13_of 2 (some .int) rm D aC ad (xw_s Ds) V (xw_c Df) [.ref (ad n), .ref (ad (20, k, 0))] (gz_F1 (xw_s Ds) (xw_c Df) ad V (some (.int r))) 0 0))
theorem lw_U {own : String} {idx : Nat} {C owner : String} {x y : MethodName} {b : ByteArray} {L : Nat} {r : Option FieldType} (h1 : Cond.methodLink own idx x ∈ lw_all) (h2 : Cond.sameMethod x.cls owner x.name x.desc ∈ lw_all) (h3 : Cond.selects C x y ∈ lw_all) (h4 : Cond.instanceMethod y ∈ lw_all) (h5 : Cond.initialized y.cls ∈ lw_all) (h6 : Cond.code y b L r ∈ lw_all) : GoodIn lw_all (va_wsU own idx C owner x y (ws_ y b L r)) := by
  refine lw_app ?_ (lw_meth h6)
  intro w hw
  simp only [List.mem_cons, List.not_mem_nil, or_false] at hw
  rcases hw with e | e | e | e | e
  · rw [e]; exact h1
  · rw [e]; exact h2
  · rw [e]; exact h3
  · rw [e]; exact h4
  · rw [e]; exact h5
theorem lw_F {own : String} {idx : Nat} {C : String} {x y : MethodName} {b : ByteArray} {L : Nat} {r : Option FieldType} (h1 : Cond.methodLink own idx x ∈ lw_all) (h3 : Cond.selects C x y ∈ lw_all) (h4 : Cond.instanceMethod y ∈ lw_all) (h5 : Cond.initialized y.cls ∈ lw_all) (h6 : Cond.code y b L r ∈ lw_all) : GoodIn lw_all (va_wsF own idx C x y (ws_ y b L r)) := by
  refine lw_app ?_ (lw_meth h6)
  intro w hw
  simp only [List.mem_cons, List.not_mem_nil, or_false] at hw
  rcases hw with e | e | e | e
  · rw [e]; exact h1
  · rw [e]; exact h3
  · rw [e]; exact h4
  · rw [e]; exact h5
section XD0
variable {X : gz_X} {cc : ByteArray} {own mn : String} {nL : Nat} {rm : Room} {ret : Option FieldType} {Ds : gz_S} {Df : gz_R} {ad : gz_A0} {V : gz_V} {pc : Nat} {lv : List (Nat × Value)} {st : List Value}
theorem gu_of (hX : gz_ok X cc own mn nL rm ret) {idx k d : Nat} {n : gz_N} {r : Int32} (hl : Cond.methodLink own idx gz_yT ∈ lw_all) (h : xd_met (gx_l X) (gx_D X) (gx_C X) ad Ds Df V k (rm_xd d) n r) (hR : (rm_xd d).frames + 1 ≤ rm.frames ∧ 8 + (4 + 11) + (rm_xd d).locals ≤ rm.locals) (h8 : (st.map fun v => v.category).sum ≤ 8) (hdg : decode cc pc = .ok (.invokevirtual idx, 3))
    (kk : gW X nL (xw_s Ds) (xw_c Df) ad V 0 0 (pc + 3) lv (.int r :: st)) : gW X nL (xw_s Ds) (xw_c Df) ad V 0 0 pc lv (.ref (ad (20, k, 0)) :: .ref (ad n) :: st) := by
  obtain ⟨h90, ⟨hn, hM⟩ | ⟨hn, hM⟩ | ⟨hn, hM⟩ | ⟨hn, hM⟩⟩ := h
  · exact gu_callU (ci := 9) (As := [.ref (ad (20, k, 0))]) (rest := st) (nA := 1) hX hM (lw_U hl q1123 q1124 q1125 q165 q1126) (Or.inl q1122) rfl rfl (by decide +kernel) ⟨hR.1, by have := hR.2; omega⟩ ⟨Nat.zero_le _, Nat.zero_le _⟩ (by decide) rfl (xs_dyn ⟨h90, hn⟩) rfl rfl h8 hdg rfl kk
  · exact gu_callU (ci := 10) (As := [.ref (ad (20, k, 0))]) (rest := st) (nA := 1) hX hM (lw_U hl q1123 q1147 q1131 q166 q1132) (Or.inl q1122) rfl rfl (by decide +kernel) ⟨hR.1, by have := hR.2; omega⟩ ⟨Nat.zero_le _, Nat.zero_le _⟩ (by decide) rfl (xs_dyn ⟨h90, hn⟩) rfl rfl h8 hdg rfl kk
  · exact gu_callU (ci := 11) (As := [.ref (ad (20, k, 0))]) (rest := st) (nA := 1) hX hM (lw_U hl q1123 q1127 q1128 q167 q1129) (Or.inl q1122) rfl rfl (by decide +kernel) hR ⟨Nat.zero_le _, Nat.zero_le _⟩ (by decide) rfl (xs_dyn ⟨h90, hn⟩) rfl rfl h8 hdg rfl kk
  · exact gu_callU (ci := 12) (As := [.ref (ad (20, k, 0))]) (rest := st) (nA := 1) hX hM (lw_U hl q1123 q1148 q1144 q168 q1145) (Or.inl q1122) rfl rfl (by decide +kernel) ⟨hR.1, by have := hR.2; omega⟩ ⟨Nat.zero_le _, Nat.zero_le _⟩ (by decide) rfl (xs_dyn ⟨h90, hn⟩) rfl rfl h8 hdg rfl kk
theorem gu_fact (hX : gz_ok X cc "ClaspedFair$Known" mn nL rm ret) {k : Nat} {w r : Int32} (e : x1_fact Ds Df V k w = some r) (hk : k < 9) (hR : rm_x1_fact.frames + 1 ≤ rm.frames ∧ 8 + (3 + 11) + rm_x1_fact.locals ≤ rm.locals) (hdg : decode cc pc = .ok (.invokeinterface 13 2, 5))
    (kk : gW X nL (xw_s Ds) (xw_c Df) ad V 0 0 (pc + 5) lv [.int r]) : gW X nL (xw_s Ds) (xw_c Df) ad V 0 0 pc lv [.int w, .ref (ad (20, k, 0))] :=
  gu_callF (ci := 1) (As := [.int w]) (rest := []) (nA := 1) hX (c_x1_fact hk e) (lw_F q1134 q1138 q1140 q145 q1142) rfl rfl (by decide +kernel) hR ⟨Nat.zero_le _, Nat.zero_le _⟩ (by decide) rfl (xs_M hk) rfl rfl (Nat.le_of_ble_eq_true rfl) hdg rfl kk
end XD0
