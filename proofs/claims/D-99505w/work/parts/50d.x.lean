/-! CLASPEDFAIR, walked (static part). Printed by wip/D-99505w/gen/mkx.py -/
set_option maxRecDepth 100000
def rm_x19_does : Room := { frames := 0, cells := 0, slots := 0, locals := 0 }
noncomputable def x19_does (V : gz_V) (u1 : gz_N) (u2 : Nat) (u3 : Nat) : Option (gz_V) := gz_let (gz_up V (40, u2, u3) 2 (V u1 2)) (fun V1 => some V1)
theorem c_x19_does {l : Launch} {D : va_G} {aC : Nat → ClassId} {ad : gz_A0} {Ds : gz_S} {Df : gz_R} {V : gz_V} {u1 : gz_N} {u2 : Nat} {u3 : Nat} {W1 : gz_V} (hu1 : 90 ≤ u1.1 ∧ Ds u1 = some (17, 3)) (hu2 : u2 < 9) (hu3 : u3 < 12) (h : x19_does V u1 u2 u3 = some W1) : gz_Met l yX19_does cX19_does 2 none rm_x19_does D aC ad (xw_s Ds) V (xw_c Df) [.ref (ad u1), .ref (ad (40, u2, u3))] (gz_F1 (xw_s Ds) (xw_c Df) ad W1 none) 0 0 := by
  refine gu_ofW (own := RX19) (mn := "does") (lv := [(0, .ref (ad u1)), (1, .ref (ad (40, u2, u3)))]) (by decide) rfl rfl (Nat.le_of_ble_eq_true rfl) rfl ?_
  intro X hX hZ hF
  rw [x19_does] at h
  refine gz_aload_n (q := 1) hX dX19_does_0 rfl rfl ?_
  refine gz_aload_n (q := 0) hX dX19_does_1 rfl rfl ?_
  refine xg_X19_7 hX (xs_dyn hu1) dX19_does_2 ?_
  obtain ⟨V1, e2, h⟩ := gz_let_o h
  refine xp_X19_13 hX (xs_P hu2 hu3) (gz_ne0 39 rfl) dX19_does_5 e2 ?_
  exact gu_vret hX hZ hF (gz_in1 h) rfl dX19_does_8
