/-! String.length and charAt on the constants -/
set_option maxRecDepth 100000
theorem gs_nret {X : gz_X} {cc : ByteArray} {own mn : String} {nL : Nat} {rm : Room} {sh : gz_S} {Rf : gz_R} {ad : gz_A0} {V : gz_V} {pc : Nat} {lv : List (Nat × Value)} {ty : FieldType} (hX : gz_ok X cc own mn nL rm (some ty)) (hZ : gz_Z X) {x : Int32} (hn : narrow ty (.int x) = .int x) (hF : gx_F X sh V Rf ad (some (.int x))) (hdg : decode cc pc = .ok (.ireturn, 1)) : gW X nL sh Rf ad V 0 0 pc lv [.int x] := by
  have h : gW X nL sh Rf ad V (gx_mc X) (gx_ms X) pc lv [.int x] := by
    unfold gW
    rw [hZ.1]
    exact fun H locs ls hw hS hl => W.zret hX.1 hX.2.1 hX.2.2.2.2.2.2.2.2.2.1 hn (gz_q hX hF hw hS) hS.2.2 hdg hX.2.2.2.2.2.2.2.1
  rw [hZ.2.1, hZ.2.2] at h
  exact h
def rm_j6_coder : Room := { frames := 0, cells := 0, slots := 0, locals := 0 }
theorem c_j6_coder {l : Launch} {D : va_G} {aC : Nat → ClassId} {ad : gz_A0} {sh : gz_S} {Rf : gz_R} {V : gz_V} {i : Nat} (hi : i < 27) : gz_Met l yJ6_coder cJ6_coder 1 (some .byte) rm_j6_coder D aC ad sh V Rf [.ref (aC (2000 + i))] (gz_F1 sh Rf ad V (some (.int 0))) 0 0 := by
  refine gz_ofW (own := RJ6) (mn := "coder") (lv := [(0, .ref (aC (2000 + i)))]) (by decide) rfl rfl (Nat.le_of_ble_eq_true rfl) rfl ?_
  intro X hX h1 h2 h3 h5 h6 h7 hE
  subst h3
  refine gs_compact hX q589 dJ6_coder_0 ?_
  refine gz_if_eq (tgt := 13) hX dJ6_coder_3 (by decide) (fun c => absurd c (by decide)) (fun _ => ?_)
  refine gz_aload_n (q := 0) hX dJ6_coder_6 rfl rfl ?_
  refine gs_coder hX hi q2245 dJ6_coder_7 ?_
  refine gz_goto (tgt := 14) hX dJ6_coder_10 (by decide) ?_
  exact gs_nret hX ⟨hE, h6, h7⟩ rfl (by rw [h5]; exact ⟨rfl, rfl, rfl, rfl, rfl⟩) dJ6_coder_14
def rm_j6_isLatin1 : Room := { frames := 0, cells := 0, slots := 0, locals := 0 }
theorem c_j6_isLatin1 {l : Launch} {D : va_G} {aC : Nat → ClassId} {ad : gz_A0} {sh : gz_S} {Rf : gz_R} {V : gz_V} {i : Nat} (hi : i < 27) : gz_Met l yJ6_isLatin1 cJ6_isLatin1 1 (some .boolean) rm_j6_isLatin1 D aC ad sh V Rf [.ref (aC (2000 + i))] (gz_F1 sh Rf ad V (some (.int 1))) 0 0 := by
  refine gz_ofW (own := RJ6) (mn := "isLatin1") (lv := [(0, .ref (aC (2000 + i)))]) (by decide) rfl rfl (Nat.le_of_ble_eq_true rfl) rfl ?_
  intro X hX h1 h2 h3 h5 h6 h7 hE
  subst h3
  refine gs_compact hX q589 dJ6_isLatin1_0 ?_
  refine gz_if_eq (tgt := 17) hX dJ6_isLatin1_3 (by decide) (fun c => absurd c (by decide)) (fun _ => ?_)
  refine gz_aload_n (q := 0) hX dJ6_isLatin1_6 rfl rfl ?_
  refine gs_coder hX hi q2245 dJ6_isLatin1_7 ?_
  refine gz_if_ne (tgt := 17) hX dJ6_isLatin1_10 (by decide) (fun c => absurd rfl c) (fun _ => ?_)
  refine gz_iconst (v := 1) hX dJ6_isLatin1_13 (by decide) ?_
  refine gz_goto (tgt := 18) hX dJ6_isLatin1_14 (by decide) ?_
  exact gs_nret hX ⟨hE, h6, h7⟩ rfl (by rw [h5]; exact ⟨rfl, rfl, rfl, rfl, rfl⟩) dJ6_isLatin1_18
def rm_j6_length : Room := { frames := 1, cells := 0, slots := 0, locals := 20 }
theorem gs_sh0 : ∀ i, i < 27 → Int32.ofNat (gzLn.getD i 0) >>> ((0 : Int32) &&& 31) = Int32.ofNat (gzLn.getD i 0) := by decide +kernel
theorem c_j6_length {l : Launch} {D : va_G} {aC : Nat → ClassId} {ad : gz_A0} {sh : gz_S} {Rf : gz_R} {V : gz_V} {i : Nat} (hi : i < 27) : gz_Met l yJ6_length cJ6_length 1 (some .int) rm_j6_length D aC ad sh V Rf [.ref (aC (2000 + i))] (gz_F1 sh Rf ad V (some (.int (Int32.ofNat (gzLn.getD i 0))))) 0 0 := by
  refine gz_ofW (own := RJ6) (mn := "length") (lv := [(0, .ref (aC (2000 + i)))]) (by decide) rfl rfl (Nat.le_of_ble_eq_true rfl) rfl ?_
  intro X hX h1 h2 h3 h5 h6 h7 hE
  subst h3
  refine gz_aload_n (q := 0) hX dJ6_length_0 rfl rfl ?_
  refine gs_val hX hi q2244 dJ6_length_1 ?_
  refine gs_len hX hi dJ6_length_4 ?_
  refine gz_aload_n (q := 0) hX dJ6_length_5 rfl rfl ?_
  refine gs_callV hX hi (As := []) (c_j6_coder hi) (lw_V q585 q586 q587 q158 q588) rfl rfl (by decide +kernel) ⟨Nat.le_of_ble_eq_true rfl, Nat.le_of_ble_eq_true rfl⟩ ⟨Nat.zero_le _, Nat.zero_le _⟩ rfl rfl (Nat.le_of_ble_eq_true rfl) dJ6_length_6 rfl ?_
  refine gz_ishr hX dJ6_length_9 ?_
  refine gz_nm (gs_sh0 i hi) ?_
  exact gs_nret hX ⟨hE, h6, h7⟩ rfl (by rw [h5]; exact ⟨rfl, rfl, rfl, rfl, rfl⟩) dJ6_length_10
theorem c_j4_checkIndex_r {l : Launch} {D : va_G} {aC : Nat → ClassId} {ad : gz_A0} {sh : gz_S} {Rf : gz_R} {V : gz_V} {a1 a2 : Int32} {x : Nat} (h1 : ¬ a1 < 0) (h2 : a1 < a2) : gz_Met l yJ4_checkIndex cJ4_checkIndex 3 (some .int) rm_j4_checkIndex D aC ad sh V Rf [.int a1, .int a2, .ref x] (gz_F1 sh Rf ad V (some (.int a1))) 0 0 := by
  refine gu_ofW (own := RJ4) (mn := "checkIndex") (lv := [(0, .int a1), (1, .int a2), (2, .ref x)]) (by decide) rfl rfl (Nat.le_of_ble_eq_true rfl) rfl ?_
  intro X hX hZ hF
  refine gz_iload_n (q := 0) hX dJ4_checkIndex_0 rfl rfl ?_
  refine gz_if_lt (tgt := 9) hX dJ4_checkIndex_1 (by decide) (fun c1 => absurd c1 h1) (fun c1 => ?_)
  refine gz_iload_n (q := 0) hX dJ4_checkIndex_4 rfl rfl ?_
  refine gz_iload_n (q := 1) hX dJ4_checkIndex_5 rfl rfl ?_
  refine gz_icmp_lt (tgt := 16) hX dJ4_checkIndex_6 (by decide) (fun c2 => ?_) (fun c2 => absurd h2 c2)
  refine gz_iload_n (q := 0) hX dJ4_checkIndex_16 rfl rfl ?_
  exact gu_iret hX hZ hF rfl rfl rfl dJ4_checkIndex_17
theorem c_j4_checkIndex_n {l : Launch} {D : va_G} {aC : Nat → ClassId} {ad : gz_A0} {sh : gz_S} {Rf : gz_R} {V : gz_V} {a1 a2 : Int32} (h1 : ¬ a1 < 0) (h2 : a1 < a2) : gz_Met l yJ4_checkIndex cJ4_checkIndex 3 (some .int) rm_j4_checkIndex D aC ad sh V Rf [.int a1, .int a2, .null] (gz_F1 sh Rf ad V (some (.int a1))) 0 0 := by
  refine gu_ofW (own := RJ4) (mn := "checkIndex") (lv := [(0, .int a1), (1, .int a2), (2, .null)]) (by decide) rfl rfl (Nat.le_of_ble_eq_true rfl) rfl ?_
  intro X hX hZ hF
  refine gz_iload_n (q := 0) hX dJ4_checkIndex_0 rfl rfl ?_
  refine gz_if_lt (tgt := 9) hX dJ4_checkIndex_1 (by decide) (fun c1 => absurd c1 h1) (fun c1 => ?_)
  refine gz_iload_n (q := 0) hX dJ4_checkIndex_4 rfl rfl ?_
  refine gz_iload_n (q := 1) hX dJ4_checkIndex_5 rfl rfl ?_
  refine gz_icmp_lt (tgt := 16) hX dJ4_checkIndex_6 (by decide) (fun c2 => ?_) (fun c2 => absurd h2 c2)
  refine gz_iload_n (q := 0) hX dJ4_checkIndex_16 rfl rfl ?_
  exact gu_iret hX hZ hF rfl rfl rfl dJ4_checkIndex_17
def rm_j6_checkIndex : Room := { frames := 1, cells := 0, slots := 0, locals := 22 }
theorem c_j6_checkIndex {l : Launch} {D : va_G} {aC : Nat → ClassId} {ad : gz_A0} {sh : gz_S} {Rf : gz_R} {V : gz_V} {a1 a2 : Int32} (h1 : ¬ a1 < 0) (h2 : a1 < a2) : gz_Met l yJ6_checkIndex cJ6_checkIndex 2 none rm_j6_checkIndex D aC ad sh V Rf [.int a1, .int a2] (gz_F1 sh Rf ad V none) 0 0 := by
  refine gu_ofW (own := RJ6) (mn := "checkIndex") (lv := [(0, .int a1), (1, .int a2)]) (by decide) rfl rfl (Nat.le_of_ble_eq_true rfl) rfl ?_
  intro X hX hZ hF
  refine gz_iload_n (q := 0) hX dJ6_checkIndex_0 rfl rfl ?_
  refine gz_iload_n (q := 1) hX dJ6_checkIndex_1 rfl rfl ?_
  refine gs_form hX q605 dJ6_checkIndex_2 ?_ (fun t => ?_)
  · refine gu_callS (As := [.int a1, .int a2, .null]) hX (c_j4_checkIndex_n h1 h2) (lw_j4_checkIndex_ q607) rfl rfl nn_j4_checkIndex ⟨Nat.le_of_ble_eq_true rfl, Nat.le_of_ble_eq_true rfl⟩ ⟨Nat.zero_le _, Nat.zero_le _⟩ rfl rfl (Nat.le_of_ble_eq_true rfl) dJ6_checkIndex_5 rfl ?_
    refine gz_pop hX dJ6_checkIndex_8 rfl ?_
    exact gu_vret hX hZ hF rfl rfl dJ6_checkIndex_9
  · refine gu_callS (As := [.int a1, .int a2, .ref t]) hX (c_j4_checkIndex_r h1 h2) (lw_j4_checkIndex_ q607) rfl rfl nn_j4_checkIndex ⟨Nat.le_of_ble_eq_true rfl, Nat.le_of_ble_eq_true rfl⟩ ⟨Nat.zero_le _, Nat.zero_le _⟩ rfl rfl (Nat.le_of_ble_eq_true rfl) dJ6_checkIndex_5 rfl ?_
    refine gz_pop hX dJ6_checkIndex_8 rfl ?_
    exact gu_vret hX hZ hF rfl rfl dJ6_checkIndex_9
/-- the char at k of string i -/
def gs_ch (i : Nat) (k : Int32) : Int32 := (gzBy.getD i []).getD k.toNatClampNeg 0
theorem gs_chk : ∀ i, i < 27 → ∀ k, k < gzLn.getD i 0 → ((((gzBy.getD i []).getD k 0) &&& 255).toUInt32 % 65536).toInt32 = (gzBy.getD i []).getD k 0 ∧ narrow .char (.int ((gzBy.getD i []).getD k 0)) = .int ((gzBy.getD i []).getD k 0) := by decide +kernel
def rm_j7_charAt : Room := { frames := 2, cells := 0, slots := 0, locals := 43 }
theorem c_j7_charAt {l : Launch} {D : va_G} {aC : Nat → ClassId} {ad : gz_A0} {sh : gz_S} {Rf : gz_R} {V : gz_V} {i : Nat} {a1 : Int32} (hi : i < 27) (h1 : ¬ a1 < 0) (h2 : a1 < Int32.ofNat (gzLn.getD i 0)) (h3 : a1.toNatClampNeg < gzLn.getD i 0) : gz_Met l yJ7_charAt cJ7_charAt 2 (some .char) rm_j7_charAt D aC ad sh V Rf [.ref (aC (3000 + i)), .int a1] (gz_F1 sh Rf ad V (some (.int (gs_ch i a1)))) 0 0 := by
  refine gz_ofW (own := RJ7) (mn := "charAt") (lv := [(0, .ref (aC (3000 + i))), (1, .int a1)]) (by decide) rfl rfl (Nat.le_of_ble_eq_true rfl) rfl ?_
  intro X hX e1 e2 e3 h5 h6 h7 hE
  subst e3
  refine gz_iload_n (q := 1) hX dJ7_charAt_0 rfl rfl ?_
  refine gz_aload_n (q := 0) hX dJ7_charAt_1 rfl rfl ?_
  refine gs_len hX hi dJ7_charAt_2 ?_
  refine gu_callS (nA := 2) (As := [.int a1, .int (Int32.ofNat (gzLn.getD i 0))]) hX (c_j6_checkIndex h1 h2) (lw_S q602 q603 q158 q604) rfl rfl (by decide +kernel) ⟨Nat.le_of_ble_eq_true rfl, Nat.le_of_ble_eq_true rfl⟩ ⟨Nat.zero_le _, Nat.zero_le _⟩ rfl rfl (Nat.le_of_ble_eq_true rfl) dJ7_charAt_3 rfl ?_
  refine gz_aload_n (q := 0) hX dJ7_charAt_6 rfl rfl ?_
  refine gz_iload_n (q := 1) hX dJ7_charAt_7 rfl rfl ?_
  refine gs_bald hX hi (fun q => q.elim h1 (fun z => absurd h3 (Nat.not_lt.mpr z))) dJ7_charAt_8 ?_
  refine gz_sipush (v := 255) hX dJ7_charAt_9 (by decide) ?_
  refine gz_iand hX dJ7_charAt_12 ?_
  have hch := gs_chk i hi _ h3
  have k : gW X 2 sh Rf ad V 0 0 14 [(0, .ref (gx_C X (3000 + i))), (1, .int a1)] [.int (gs_ch i a1)] := gs_nret hX ⟨hE, h6, h7⟩ hch.2 (by rw [h5]; exact ⟨rfl, rfl, rfl, rfl, rfl⟩) dJ7_charAt_14
  exact fun H locs ls hw hS hl => lv_i2c hX.1 hX.2.1 dJ7_charAt_13 hch.1 (k H locs ls hw hS hl)
def rm_j6_charAt : Room := { frames := 3, cells := 0, slots := 0, locals := 64 }
theorem c_j6_charAt {l : Launch} {D : va_G} {aC : Nat → ClassId} {ad : gz_A0} {sh : gz_S} {Rf : gz_R} {V : gz_V} {i : Nat} {a1 : Int32} (hi : i < 27) (h1 : ¬ a1 < 0) (h2 : a1 < Int32.ofNat (gzLn.getD i 0)) (h3 : a1.toNatClampNeg < gzLn.getD i 0) : gz_Met l yJ6_charAt cJ6_charAt 2 (some .char) rm_j6_charAt D aC ad sh V Rf [.ref (aC (2000 + i)), .int a1] (gz_F1 sh Rf ad V (some (.int (gs_ch i a1)))) 0 0 := by
  refine gz_ofW (own := RJ6) (mn := "charAt") (lv := [(0, .ref (aC (2000 + i))), (1, .int a1)]) (by decide) rfl rfl (Nat.le_of_ble_eq_true rfl) rfl ?_
  intro X hX e1 e2 e3 h5 h6 h7 hE
  subst e3
  refine gz_aload_n (q := 0) hX dJ6_charAt_0 rfl rfl ?_
  refine gs_callV hX hi (As := []) (c_j6_isLatin1 hi) (lw_V q595 q596 q597 q158 q598) rfl rfl (by decide +kernel) ⟨Nat.le_of_ble_eq_true rfl, Nat.le_of_ble_eq_true rfl⟩ ⟨Nat.zero_le _, Nat.zero_le _⟩ rfl rfl (Nat.le_of_ble_eq_true rfl) dJ6_charAt_1 rfl ?_
  refine gz_if_eq (tgt := 16) hX dJ6_charAt_4 (by decide) (fun c => absurd c (by decide)) (fun _ => ?_)
  refine gz_aload_n (q := 0) hX dJ6_charAt_7 rfl rfl ?_
  refine gs_val hX hi q2244 dJ6_charAt_8 ?_
  refine gz_iload_n (q := 1) hX dJ6_charAt_11 rfl rfl ?_
  refine gu_callS (nA := 2) (As := [.ref (gx_C X (3000 + i)), .int a1]) hX (c_j7_charAt hi h1 h2 h3) (lw_S q599 q600 q159 q601) rfl rfl (by decide +kernel) ⟨Nat.le_of_ble_eq_true rfl, Nat.le_of_ble_eq_true rfl⟩ ⟨Nat.zero_le _, Nat.zero_le _⟩ rfl rfl (Nat.le_of_ble_eq_true rfl) dJ6_charAt_12 rfl ?_
  exact gs_nret hX ⟨hE, h6, h7⟩ (gs_chk i hi _ h3).2 (by rw [h5]; exact ⟨rfl, rfl, rfl, rfl, rfl⟩) dJ6_charAt_15
