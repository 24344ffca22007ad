/-! Reader.is(String) on the constants -/
set_option maxRecDepth 100000
noncomputable def x7_is_L (Df : gz_R) (V : gz_V) (u1 : gz_N) (i : Nat) : Nat → Int32 → Int32 → Option Int32
  | 0, _, _ => none
  | n + 1, b, k => if Int32.ofNat (gzLn.getD i 0) ≤ k then some b else if b = 0 then some b else gz_gd (Df u1 8 = some (10, 0, 0)) (gz_gd (gz_inb (V u1 3 + k) 400 = true) (gz_gd (¬ k < 0 ∧ k < Int32.ofNat (gzLn.getD i 0) ∧ k.toNatClampNeg < gzLn.getD i 0) (if V (11, 0, 0) (V u1 3 + k).toNatClampNeg = gs_ch i k then x7_is_L Df V u1 i n 1 (k + 1) else x7_is_L Df V u1 i n 0 (k + 1))))
noncomputable def x7_is (Ds : gz_S) (Df : gz_R) (V : gz_V) (u1 : gz_N) (i : Nat) : Option Int32 := if V u1 2 - V u1 3 = Int32.ofNat (gzLn.getD i 0) then x7_is_L Df V u1 i 8 1 0 else x7_is_L Df V u1 i 8 0 0
theorem x7_is_01 {Df : gz_R} {V : gz_V} {u1 : gz_N} {i : Nat} {r : Int32} : ∀ (n : Nat) {b k : Int32}, (b = 0 ∨ b = 1) → x7_is_L Df V u1 i n b k = some r → r = 0 ∨ r = 1
  | 0, b, k, hb, h => by rw [x7_is_L] at h; cases h
  | n + 1, b, k, hb, h => by
    rw [x7_is_L] at h
    by_cases c : Int32.ofNat (gzLn.getD i 0) ≤ k
    · have h := gz_ifp c h
      cases h
      exact hb
    · have h := gz_ifn c h
      by_cases c2 : b = 0
      · have h := gz_ifp c2 h
        cases h
        exact hb
      · have h := gz_ifn c2 h
        obtain ⟨b1, h⟩ := gz_gd_o h
        obtain ⟨b2, h⟩ := gz_gd_o h
        obtain ⟨b3, h⟩ := gz_gd_o h
        by_cases c3 : V (11, 0, 0) (V u1 3 + k).toNatClampNeg = gs_ch i k
        · exact x7_is_01 n (Or.inr rfl) (gz_ifp c3 h)
        · exact x7_is_01 n (Or.inl rfl) (gz_ifn c3 h)
def rm_x7_is : Room := { frames := 4, cells := 0, slots := 0, locals := 85 }
theorem w_x7_is {X : gz_X} {ad : gz_A0} {Ds : gz_S} {Df : gz_R} {V : gz_V} {u1 : gz_N} {i : Nat} {r : Int32} (hX : gz_ok X cX7_is RX7 "is" 4 rm_x7_is (some .boolean)) (hZ : gz_Z X) (hF : gx_F X (xw_s Ds) V (xw_c Df) ad (some (.int r))) (hu1 : 90 ≤ u1.1 ∧ Ds u1 = some (7, 9)) (hi : i < 27) (h01 : r = 0 ∨ r = 1) : ∀ (n : Nat) {b k : Int32}, x7_is_L Df V u1 i n b k = some r → gW X 4 (xw_s Ds) (xw_c Df) ad V 0 0 24 [(0, .ref (ad u1)), (1, .ref (gx_C X (2000 + i))), (2, .int b), (3, .int k)] [] := by
  intro n
  induction n with
  | zero => intro b k h; rw [x7_is_L] at h; cases h
  | succ n ih =>
    intro b k h
    rw [x7_is_L] at h
    have fin : gW X 4 (xw_s Ds) (xw_c Df) ad V 0 0 70 [(0, .ref (ad u1)), (1, .ref (gx_C X (2000 + i))), (2, .int r), (3, .int k)] [] := by
      refine gz_iload_n (q := 2) hX dX7_is_70 rfl rfl ?_
      exact gs_nret hX hZ (gz_nb h01) hF dX7_is_71
    refine gz_iload_n (q := 3) hX dX7_is_24 rfl rfl ?_
    refine gz_aload_n (q := 1) hX dX7_is_25 rfl rfl ?_
    refine gs_callV hX hi (As := []) (c_j6_length hi) (lw_V q581 q582 q583 q158 q584) rfl rfl (by decide +kernel) ⟨Nat.le_of_ble_eq_true rfl, Nat.le_of_ble_eq_true rfl⟩ ⟨Nat.zero_le _, Nat.zero_le _⟩ rfl rfl (Nat.le_of_ble_eq_true rfl) dX7_is_26 rfl ?_
    refine gz_icmp_ge (tgt := 70) hX dX7_is_29 (by decide) (fun c => ?_) (fun c => ?_)
    · have h := gz_ifp c h
      cases h
      exact fin
    · have h := gz_ifn c h
      refine gz_iload_n (q := 2) hX dX7_is_32 rfl rfl ?_
      refine gz_if_eq (tgt := 70) hX dX7_is_33 (by decide) (fun c2 => ?_) (fun c2 => ?_)
      · have h := gz_ifp c2 h
        cases h
        exact fin
      · have h := gz_ifn c2 h
        obtain ⟨b1, h⟩ := gz_gd_o h
        obtain ⟨b2, h⟩ := gz_gd_o h
        obtain ⟨b3, h⟩ := gz_gd_o h
        refine gz_aload_n (q := 0) hX dX7_is_36 rfl rfl ?_
        refine xg_X7_3 (n2 := (10, 0, 0)) hX (xs_dyn hu1) ((xr_dyn (hu1).1).trans b1) dX7_is_37 ?_
        refine xg_X7_29 (n2 := (11, 0, 0)) hX xs_main rfl dX7_is_40 ?_
        refine gz_aload_n (q := 0) hX dX7_is_43 rfl rfl ?_
        refine xg_X7_41 hX (xs_dyn hu1) dX7_is_44 ?_
        refine gz_iload_n (q := 3) hX dX7_is_47 rfl rfl ?_
        refine gz_iadd hX dX7_is_48 ?_
        refine gz_bald hX xs_tape (gz_inb_o b2) dX7_is_49 ?_
        refine gz_aload_n (q := 1) hX dX7_is_50 rfl rfl ?_
        refine gz_iload_n (q := 3) hX dX7_is_51 rfl rfl ?_
        refine gs_callV (nA := 1) hX hi (As := [.int k]) (c_j6_charAt hi b3.1 b3.2.1 b3.2.2) (lw_V q591 q592 q593 q158 q594) rfl rfl (by decide +kernel) ⟨Nat.le_of_ble_eq_true rfl, Nat.le_of_ble_eq_true rfl⟩ ⟨Nat.zero_le _, Nat.zero_le _⟩ rfl rfl (Nat.le_of_ble_eq_true rfl) dX7_is_52 rfl ?_
        have go : ∀ b2 : Int32, x7_is_L Df V u1 i n b2 (k + 1) = some r → gW X 4 (xw_s Ds) (xw_c Df) ad V 0 0 63 [(0, .ref (ad u1)), (1, .ref (gx_C X (2000 + i))), (2, .int b), (3, .int k)] [.int b2] := by
          intro b2 h2
          refine gz_istore_n (i := 2) (lv2 := [(2, .int b2), (0, .ref (ad u1)), (1, .ref (gx_C X (2000 + i))), (3, .int k)]) hX dX7_is_63 rfl (by decide) rfl ?_
          refine gz_iinc (q := 3) (lv2 := [(3, .int (k + 1)), (2, .int b2), (0, .ref (ad u1)), (1, .ref (gx_C X (2000 + i)))]) hX dX7_is_64 rfl gl_c_1 (by decide) rfl ?_
          refine gz_goto (tgt := 24) hX dX7_is_67 (by decide) ?_
          exact gz_lv [2, 3, 1, 0] rfl (ih h2)
        refine gz_icmp_ne (tgt := 62) hX dX7_is_55 (by decide) (fun c3 => ?_) (fun c3 => ?_)
        · refine gz_iconst (v := 0) hX dX7_is_62 (by decide) ?_
          exact go 0 (gz_ifn c3 h)
        · refine gz_iconst (v := 1) hX dX7_is_58 (by decide) ?_
          refine gz_goto (tgt := 63) hX dX7_is_59 (by decide) ?_
          exact go 1 (gz_ifp c3 h)
theorem c_x7_is {l : Launch} {D : va_G} {aC : Nat → ClassId} {ad : gz_A0} {Ds : gz_S} {Df : gz_R} {V : gz_V} {u1 : gz_N} {i : Nat} {r : Int32} (hu1 : 90 ≤ u1.1 ∧ Ds u1 = some (7, 9)) (hi : i < 27) (h : x7_is Ds Df V u1 i = some r) : gz_Met l yX7_is cX7_is 4 (some .boolean) rm_x7_is D aC ad (xw_s Ds) V (xw_c Df) [.ref (ad u1), .ref (aC (2000 + i))] (gz_F1 (xw_s Ds) (xw_c Df) ad V (some (.int r))) 0 0 := by
  refine gz_ofW (own := RX7) (mn := "is") (lv := [(0, .ref (ad u1)), (1, .ref (aC (2000 + i)))]) (by decide) rfl rfl (Nat.le_of_ble_eq_true rfl) rfl ?_
  intro X hX e1 e2 e3 h5 h6 h7 hE
  subst e3
  have hF : gx_F X (xw_s Ds) V (xw_c Df) ad (some (.int r)) := by rw [h5]; exact ⟨rfl, rfl, rfl, rfl, rfl⟩
  rw [x7_is] at h
  refine gz_aload_n (q := 0) hX dX7_is_0 rfl rfl ?_
  refine xg_X7_23 hX (xs_dyn hu1) dX7_is_1 ?_
  refine gz_aload_n (q := 0) hX dX7_is_4 rfl rfl ?_
  refine xg_X7_41 hX (xs_dyn hu1) dX7_is_5 ?_
  refine gz_isub hX dX7_is_8 ?_
  refine gz_aload_n (q := 1) hX dX7_is_9 rfl rfl ?_
  refine gs_callV hX hi (As := []) (c_j6_length hi) (lw_V q581 q582 q583 q158 q584) rfl rfl (by decide +kernel) ⟨Nat.le_of_ble_eq_true rfl, Nat.le_of_ble_eq_true rfl⟩ ⟨Nat.zero_le _, Nat.zero_le _⟩ rfl rfl (Nat.le_of_ble_eq_true rfl) dX7_is_10 rfl ?_
  have go : ∀ b : Int32, (b = 0 ∨ b = 1) → x7_is_L Df V u1 i 8 b 0 = some r → gW X 4 (xw_s Ds) (xw_c Df) ad V 0 0 21 [(0, .ref (ad u1)), (1, .ref (gx_C X (2000 + i)))] [.int b] := by
    intro b hb h2
    refine gz_istore_n (i := 2) (lv2 := [(2, .int b), (0, .ref (ad u1)), (1, .ref (gx_C X (2000 + i)))]) hX dX7_is_21 rfl (by decide) rfl ?_
    refine gz_iconst (v := 0) hX dX7_is_22 (by decide) ?_
    refine gz_istore_n (i := 3) (lv2 := [(3, .int 0), (2, .int b), (0, .ref (ad u1)), (1, .ref (gx_C X (2000 + i)))]) hX dX7_is_23 rfl (by decide) rfl ?_
    exact gz_lv [2, 3, 1, 0] rfl (w_x7_is hX ⟨hE, h6, h7⟩ hF hu1 hi (x7_is_01 8 hb h2) 8 h2)
  refine gz_icmp_ne (tgt := 20) hX dX7_is_13 (by decide) (fun c3 => ?_) (fun c3 => ?_)
  · refine gz_iconst (v := 0) hX dX7_is_20 (by decide) ?_
    exact go 0 (Or.inl rfl) (gz_ifn c3 h)
  · refine gz_iconst (v := 1) hX dX7_is_16 (by decide) ?_
    refine gz_goto (tgt := 21) hX dX7_is_17 (by decide) ?_
    exact go 1 (Or.inr rfl) (gz_ifp c3 h)
theorem lw_x7_is_ {o : String} {i : Nat} (hl : Cond.methodLink o i yX7_is ∈ lw_all) : GoodIn lw_all (wsV o i RX7 yX7_is (ws_ yX7_is cX7_is 4 (some .boolean))) := lw_V hl q579 qs7 q157 q580
theorem nn_x7_is : yX7_is.cls = RX7 ∧ yX7_is.cls ≠ "java/lang/invoke/MethodHandle" ∧ yX7_is.cls ≠ "java/lang/invoke/VarHandle" ∧ (parseMethodDescriptor yX7_is.desc).map (fun d => d.parameters.length) = some 1 := by decide +kernel
