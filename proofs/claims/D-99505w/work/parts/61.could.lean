/-! ClaspedFair.could: it makes arrays, (95, 0, 0) and in each round (96, 0, 0); at the end they are let go -/
set_option maxRecDepth 100000
section CLD
variable {X : gz_X} {nL : Nat} {sh sh2 : gz_S} {Rf Rf2 : gz_R} {ad ad2 : gz_A0} {V V2 : gz_V} {ce sl pc : Nat} {lv : List (Nat × Value)} {st : List Value}
theorem gz_lessW (hs : ∀ n t, sh2 n = some t → sh n = some t) (hv : ∀ n, sh2 n ≠ none → V2 n = V n) (hr : ∀ n, sh2 n ≠ none → Rf2 n = Rf n) (ha : ∀ n, sh2 n ≠ none ∨ n.1 = 0 → ad2 n = ad n) (hcl : ∀ (n : gz_N) (f : Nat) (b : gz_N), sh2 n ≠ none → Rf2 n f = some b → b.1 ≠ 0 → sh2 b ≠ none) (k : gW X nL sh2 Rf2 ad2 V2 ce sl pc lv st) : gW X nL sh Rf ad V ce sl pc lv st := fun H locs ls hw hS hl => k H locs ls (hw.less hs hv hr ha hcl) hS hl
theorem gz_clW (k : (∀ (n : gz_N) (f : Nat) (b : gz_N), sh n ≠ none → Rf n f = some b → b.1 ≠ 0 → sh b ≠ none) → gW X nL sh Rf ad V ce sl pc lv st) : gW X nL sh Rf ad V ce sl pc lv st := fun H locs ls hw hS hl => k hw.2.2.2.1 H locs ls hw hS hl
end CLD
noncomputable def could_i (V : gz_V) (n : Int32) : Nat → Int32 → Int32 → Option Int32
  | 0, _, _ => none
  | k + 1, nx, i => if n ≤ i then some nx else gz_gd (gz_inb i n.toNatClampNeg = true) (if V (96, 0, 0) i.toNatClampNeg = 0 then (if V (95, 0, 0) i.toNatClampNeg ≤ 0 then could_i V n k nx (i + 1) else if nx = -1 then could_i V n k i (i + 1) else gz_gd (gz_inb nx n.toNatClampNeg = true) (if V (95, 0, 0) i.toNatClampNeg ≤ V (95, 0, 0) nx.toNatClampNeg then could_i V n k nx (i + 1) else could_i V n k i (i + 1))) else could_i V n k nx (i + 1))
noncomputable def could_k (N : Nat) (n many : Int32) : Nat → gz_V → Int32 → Option (gz_V × Bool)
  | 0, _, _ => none
  | k + 1, V, j => if many ≤ j then some (V, false) else gz_bd (could_i V n N (-1) 0) (fun nx => if nx = -1 then some (V, true) else gz_gd (gz_inb nx n.toNatClampNeg = true) (could_k N n many k (gz_up (gz_up V (96, 0, 0) nx.toNatClampNeg 1) (95, 0, 0) nx.toNatClampNeg (gz_up V (96, 0, 0) nx.toNatClampNeg 1 (95, 0, 0) nx.toNatClampNeg - 1)) (j + 1)))
noncomputable def could_g (V : gz_V) (n : Int32) : Nat → Int32 → Int32 → Option Int32
  | 0, _, _ => none
  | k + 1, g, i => if n ≤ i then some g else gz_gd (gz_inb i n.toNatClampNeg = true) (gz_gd (gz_inb g n.toNatClampNeg = true) (if V (95, 0, 0) i.toNatClampNeg ≤ V (95, 0, 0) g.toNatClampNeg then could_g V n k g (i + 1) else could_g V n k i (i + 1)))
noncomputable def could_1 (n : Int32) : Nat → gz_V → Int32 → Option gz_V
  | 0, _, _ => none
  | k + 1, V, i => if n ≤ i then some V else gz_bd (x3_first V 0 1 i) (fun r => gz_gd (gz_inb i n.toNatClampNeg = true) (could_1 n k (gz_up V (95, 0, 0) i.toNatClampNeg r) (i + 1)))
noncomputable def could_r (N : Nat) (n : Int32) : Nat → gz_V → Int32 → Option Int32
  | 0, _, _ => none
  | k + 1, V, rd => if n ≤ rd then some 1 else gz_bd (could_g V n N 0 1) (fun g => gz_gd (gz_inb g n.toNatClampNeg = true) (gz_bd (could_k N n (V (95, 0, 0) g.toNatClampNeg) N (gz_up (gz_uz (gz_up V (95, 0, 0) g.toNatClampNeg 0) (96, 0, 0)) (96, 0, 0) g.toNatClampNeg 1) 0) (fun q => if q.2 = true then some 0 else could_r N n k q.1 (rd + 1))))
noncomputable def x0_could (N : Nat) (V : gz_V) : Option Int32 := gz_gd (¬ V (27, 0, 1) 1 < 0 ∧ (V (27, 0, 1) 1).toNatClampNeg ≤ 9) (gz_bd (could_1 (V (27, 0, 1) 1) N (gz_uz V (95, 0, 0)) 0) (fun V1 => could_r N (V (27, 0, 1) 1) N V1 0))
def rm_x0_could : Room := { frames := 1, cells := 10, slots := 90, locals := 21 }
section CLW
variable {X : gz_X} {S : gz_S} {Rf : gz_R} {ad : gz_A0} {V : gz_V} {ce sl t : Nat} {n rd g many j : Int32}
theorem w_could_i (hX : gz_ok X cX0_could RX0 "could" 10 rm_x0_could (some .int)) (h95 : S (95, 0, 0) = some (100, n.toNatClampNeg)) (h96 : S (96, 0, 0) = some (102, n.toNatClampNeg)) {W1 : Int32} (k : gW X 10 S Rf ad V ce sl 173 [(0, .ref t), (1, .int n), (2, .ref (ad (95, 0, 0))), (3, .int rd), (4, .int g), (5, .int many), (6, .ref (ad (96, 0, 0))), (7, .int j), (8, .int W1)] []) : ∀ (N : Nat) {nx i : Int32}, could_i V n N nx i = some W1 → gW X 10 S Rf ad V ce sl 125 [(0, .ref t), (1, .int n), (2, .ref (ad (95, 0, 0))), (3, .int rd), (4, .int g), (5, .int many), (6, .ref (ad (96, 0, 0))), (7, .int j), (8, .int nx), (9, .int i)] [] := by
  intro N
  induction N with
  | zero => intro nx i h; rw [could_i] at h; cases h
  | succ N ih =>
    intro nx i h
    rw [could_i] at h
    refine gz_iload (q := 9) hX dX0_could_125 rfl ?_
    refine gz_iload_n (q := 1) hX dX0_could_127 rfl rfl ?_
    refine gz_icmp_ge (tgt := 173) hX dX0_could_128 (by decide) (fun c => ?_) (fun c => ?_)
    · have h := gz_ifp c h
      obtain rfl := gz_in1 h
      exact gz_lv [0, 1, 2, 3, 4, 5, 6, 7, 8] rfl k
    · have h := gz_ifn c h
      obtain ⟨b1, h⟩ := gz_gd_o h
      have go : ∀ nx2 : Int32, could_i V n N nx2 (i + 1) = some W1 → gW X 10 S Rf ad V ce sl 167 [(0, .ref t), (1, .int n), (2, .ref (ad (95, 0, 0))), (3, .int rd), (4, .int g), (5, .int many), (6, .ref (ad (96, 0, 0))), (7, .int j), (8, .int nx2), (9, .int i)] [] := by
        intro nx2 h2
        refine gz_iinc (q := 9) (lv2 := [(9, .int (i + 1)), (0, .ref t), (1, .int n), (2, .ref (ad (95, 0, 0))), (3, .int rd), (4, .int g), (5, .int many), (6, .ref (ad (96, 0, 0))), (7, .int j), (8, .int nx2)]) hX dX0_could_167 rfl gl_c_1 (by decide) rfl ?_
        refine gz_goto (tgt := 125) hX dX0_could_170 (by decide) ?_
        exact gz_lv [1, 2, 3, 4, 5, 6, 7, 8, 9, 0] rfl (ih h2)
      have st8 : could_i V n N i (i + 1) = some W1 → gW X 10 S Rf ad V ce sl 163 [(0, .ref t), (1, .int n), (2, .ref (ad (95, 0, 0))), (3, .int rd), (4, .int g), (5, .int many), (6, .ref (ad (96, 0, 0))), (7, .int j), (8, .int nx), (9, .int i)] [] := by
        intro h2
        refine gz_iload (q := 9) hX dX0_could_163 rfl ?_
        refine gz_istore (lv2 := [(8, .int i), (0, .ref t), (1, .int n), (2, .ref (ad (95, 0, 0))), (3, .int rd), (4, .int g), (5, .int many), (6, .ref (ad (96, 0, 0))), (7, .int j), (9, .int i)]) hX dX0_could_165 (by decide) rfl ?_
        exact gz_lv [1, 2, 3, 4, 5, 6, 7, 8, 0, 9] rfl (go i h2)
      refine gz_aload (q := 6) hX dX0_could_131 rfl ?_
      refine gz_iload (q := 9) hX dX0_could_133 rfl ?_
      refine gz_zald hX h96 (gz_inb_o b1) dX0_could_135 ?_
      refine gz_if_ne (tgt := 167) hX dX0_could_136 (by decide) (fun c2 => ?_) (fun c2 => ?_)
      · exact go nx (gz_ifn c2 h)
      · have h := gz_ifp c2 h
        refine gz_aload_n (q := 2) hX dX0_could_139 rfl rfl ?_
        refine gz_iload (q := 9) hX dX0_could_140 rfl ?_
        refine gz_iald hX h95 (gz_inb_o b1) dX0_could_142 ?_
        refine gz_if_le (tgt := 167) hX dX0_could_143 (by decide) (fun c3 => ?_) (fun c3 => ?_)
        · exact go nx (gz_ifp c3 h)
        · have h := gz_ifn c3 h
          refine gz_iload (q := 8) hX dX0_could_146 rfl ?_
          refine gz_iconst (v := (-1)) hX dX0_could_148 (by decide) ?_
          refine gz_icmp_eq (tgt := 163) hX dX0_could_149 (by decide) (fun c4 => ?_) (fun c4 => ?_)
          · exact st8 (gz_ifp c4 h)
          · have h := gz_ifn c4 h
            obtain ⟨b2, h⟩ := gz_gd_o h
            refine gz_aload_n (q := 2) hX dX0_could_152 rfl rfl ?_
            refine gz_iload (q := 9) hX dX0_could_153 rfl ?_
            refine gz_iald hX h95 (gz_inb_o b1) dX0_could_155 ?_
            refine gz_aload_n (q := 2) hX dX0_could_156 rfl rfl ?_
            refine gz_iload (q := 8) hX dX0_could_157 rfl ?_
            refine gz_iald hX h95 (gz_inb_o b2) dX0_could_159 ?_
            refine gz_icmp_le (tgt := 167) hX dX0_could_160 (by decide) (fun c5 => ?_) (fun c5 => ?_)
            · exact go nx (gz_ifp c5 h)
            · exact st8 (gz_ifn c5 h)
theorem w_could_g (hX : gz_ok X cX0_could RX0 "could" 10 rm_x0_could (some .int)) (h95 : S (95, 0, 0) = some (100, n.toNatClampNeg)) {W1 : Int32} (k : gW X 10 S Rf ad V ce sl 87 [(0, .ref t), (1, .int n), (2, .ref (ad (95, 0, 0))), (3, .int rd), (4, .int W1)] []) : ∀ (N : Nat) {g i : Int32}, could_g V n N g i = some W1 → gW X 10 S Rf ad V ce sl 55 [(0, .ref t), (1, .int n), (2, .ref (ad (95, 0, 0))), (3, .int rd), (4, .int g), (5, .int i)] [] := by
  intro N
  induction N with
  | zero => intro g i h; rw [could_g] at h; cases h
  | succ N ih =>
    intro g i h
    rw [could_g] at h
    refine gz_iload (q := 5) hX dX0_could_55 rfl ?_
    refine gz_iload_n (q := 1) hX dX0_could_57 rfl rfl ?_
    refine gz_icmp_ge (tgt := 87) hX dX0_could_58 (by decide) (fun c => ?_) (fun c => ?_)
    · have h := gz_ifp c h
      obtain rfl := gz_in1 h
      exact gz_lv [0, 1, 2, 3, 4] rfl k
    · have h := gz_ifn c h
      obtain ⟨b1, h⟩ := gz_gd_o h
      obtain ⟨b2, h⟩ := gz_gd_o h
      have go : ∀ g2 : Int32, could_g V n N g2 (i + 1) = some W1 → gW X 10 S Rf ad V ce sl 79 [(0, .ref t), (1, .int n), (2, .ref (ad (95, 0, 0))), (3, .int rd), (4, .int g), (5, .int i)] [.int g2] := by
        intro g2 h2
        refine gz_istore (lv2 := [(4, .int g2), (0, .ref t), (1, .int n), (2, .ref (ad (95, 0, 0))), (3, .int rd), (5, .int i)]) hX dX0_could_79 (by decide) rfl ?_
        refine gz_iinc (q := 5) (lv2 := [(5, .int (i + 1)), (4, .int g2), (0, .ref t), (1, .int n), (2, .ref (ad (95, 0, 0))), (3, .int rd)]) hX dX0_could_81 rfl gl_c_1 (by decide) rfl ?_
        refine gz_goto (tgt := 55) hX dX0_could_84 (by decide) ?_
        exact gz_lv [2, 3, 4, 5, 1, 0] rfl (ih h2)
      refine gz_aload_n (q := 2) hX dX0_could_61 rfl rfl ?_
      refine gz_iload (q := 5) hX dX0_could_62 rfl ?_
      refine gz_iald hX h95 (gz_inb_o b1) dX0_could_64 ?_
      refine gz_aload_n (q := 2) hX dX0_could_65 rfl rfl ?_
      refine gz_iload (q := 4) hX dX0_could_66 rfl ?_
      refine gz_iald hX h95 (gz_inb_o b2) dX0_could_68 ?_
      refine gz_icmp_le (tgt := 77) hX dX0_could_69 (by decide) (fun c5 => ?_) (fun c5 => ?_)
      · refine gz_iload (q := 4) hX dX0_could_77 rfl ?_
        exact go g (gz_ifp c5 h)
      · refine gz_iload (q := 5) hX dX0_could_72 rfl ?_
        refine gz_goto (tgt := 79) hX dX0_could_74 (by decide) ?_
        exact go i (gz_ifn c5 h)
theorem w_could_k (hX : gz_ok X cX0_could RX0 "could" 10 rm_x0_could (some .int)) (h95 : S (95, 0, 0) = some (100, n.toNatClampNeg)) (h96 : S (96, 0, 0) = some (102, n.toNatClampNeg)) {N : Nat} {W1 : gz_V} {b : Bool} (k1 : b = false → gW X 10 S Rf ad W1 ce sl 201 [(0, .ref t), (1, .int n), (2, .ref (ad (95, 0, 0))), (3, .int rd)] []) (k2 : b = true → ∀ lv, gW X 10 S Rf ad W1 ce sl 180 lv [.int 0]) : ∀ (M : Nat) {V : gz_V} {j : Int32}, could_k N n many M V j = some (W1, b) → gW X 10 S Rf ad V ce sl 112 [(0, .ref t), (1, .int n), (2, .ref (ad (95, 0, 0))), (3, .int rd), (4, .int g), (5, .int many), (6, .ref (ad (96, 0, 0))), (7, .int j)] [] := by
  intro M
  induction M with
  | zero => intro V j h; rw [could_k] at h; cases h
  | succ M ih =>
    intro V j h
    rw [could_k] at h
    refine gz_iload (q := 7) hX dX0_could_112 rfl ?_
    refine gz_iload (q := 5) hX dX0_could_114 rfl ?_
    refine gz_icmp_ge (tgt := 201) hX dX0_could_116 (by decide) (fun c => ?_) (fun c => ?_)
    · have h := gz_ifp c h
      cases h
      exact gz_lv [0, 1, 2, 3] rfl (k1 rfl)
    · have h := gz_ifn c h
      obtain ⟨nx, e1, h⟩ := gz_bd_o h
      refine gz_iconst (v := (-1)) hX dX0_could_119 (by decide) ?_
      refine gz_istore (lv2 := [(8, .int (-1)), (0, .ref t), (1, .int n), (2, .ref (ad (95, 0, 0))), (3, .int rd), (4, .int g), (5, .int many), (6, .ref (ad (96, 0, 0))), (7, .int j)]) hX dX0_could_120 (by decide) rfl ?_
      refine gz_iconst (v := 0) hX dX0_could_122 (by decide) ?_
      refine gz_istore (lv2 := [(9, .int 0), (8, .int (-1)), (0, .ref t), (1, .int n), (2, .ref (ad (95, 0, 0))), (3, .int rd), (4, .int g), (5, .int many), (6, .ref (ad (96, 0, 0))), (7, .int j)]) hX dX0_could_123 (by decide) rfl ?_
      refine gz_lv [2, 3, 4, 5, 6, 7, 8, 9, 1, 0] rfl ?_
      refine w_could_i hX h95 h96 ?_ N e1
      refine gz_iload (q := 8) hX dX0_could_173 rfl ?_
      refine gz_iconst (v := (-1)) hX dX0_could_175 (by decide) ?_
      refine gz_icmp_ne (tgt := 181) hX dX0_could_176 (by decide) (fun c2 => ?_) (fun c2 => ?_)
      · have h := gz_ifn c2 h
        obtain ⟨b2, h⟩ := gz_gd_o h
        refine gz_aload (q := 6) hX dX0_could_181 rfl ?_
        refine gz_iload (q := 8) hX dX0_could_183 rfl ?_
        refine gz_iconst (v := 1) hX dX0_could_185 (by decide) ?_
        refine gz_zast hX h96 (gz_ne0 95 rfl) (Or.inr rfl) (gz_inb_o b2) dX0_could_186 rfl ?_
        refine gz_aload_n (q := 2) hX dX0_could_187 rfl rfl ?_
        refine gz_iload (q := 8) hX dX0_could_188 rfl ?_
        refine gz_dup2 hX dX0_could_190 rfl rfl ?_
        refine gz_iald hX h95 (gz_inb_o b2) dX0_could_191 ?_
        refine gz_iconst (v := 1) hX dX0_could_192 (by decide) ?_
        refine gz_isub hX dX0_could_193 ?_
        refine gz_iast hX h95 (gz_ne0 94 rfl) (gz_inb_o b2) dX0_could_194 rfl ?_
        refine gz_iinc (q := 7) (lv2 := [(7, .int (j + 1)), (0, .ref t), (1, .int n), (2, .ref (ad (95, 0, 0))), (3, .int rd), (4, .int g), (5, .int many), (6, .ref (ad (96, 0, 0))), (8, .int nx)]) hX dX0_could_195 rfl gl_c_1 (by decide) rfl ?_
        refine gz_goto (tgt := 112) hX dX0_could_198 (by decide) ?_
        exact gz_lv [1, 2, 3, 4, 5, 6, 7, 0] rfl (ih h)
      · have h := gz_ifp c2 h
        cases h
        refine gz_iconst (v := 0) hX dX0_could_179 (by decide) ?_
        exact k2 rfl _
end CLW
theorem cd_us {Ds : gz_S} {b c : Nat} {t : Nat × Nat} {a : Nat} (ha : 90 ≤ a) : gz_us (xw_s Ds) (a, b, c) t = xw_s (gz_us Ds (a, b, c) t) := by
  funext n
  unfold gz_us
  by_cases e : n = (a, b, c)
  · rw [if_pos e, e]
    exact (xs_dyn (Ds := fun x => if x = (a, b, c) then some t else Ds x) ⟨ha, if_pos rfl⟩).symm
  · rw [if_neg e]
    unfold xw_s
    dsimp only
    rw [if_neg e]
theorem cd_un {Df : gz_R} {b c : Nat} {a : Nat} (ha : 90 ≤ a) : gz_un (xw_c Df) (a, b, c) = xw_c (gz_un Df (a, b, c)) := by
  funext n f
  unfold gz_un
  by_cases e : n = (a, b, c)
  · subst e
    rw [if_pos rfl]
    unfold xw_c
    dsimp only
    rw [if_neg (by omega), if_neg (by omega), if_neg (by omega), if_neg (by omega), if_neg (by omega), if_neg (by omega), if_neg (by omega), if_neg (by omega), if_neg (by omega), if_pos rfl]
  · rw [if_neg e]
    unfold xw_c
    dsimp only
    rw [if_neg e]
section CLX
variable {X : gz_X} {Ds : gz_S} {Df : gz_R} {ad : gz_A0} {V : gz_V} {ce sl : Nat} {n : Int32}
theorem w_could_1 (hX : gz_ok X cX0_could RX0 "could" 10 rm_x0_could (some .int)) (hc : ce ≤ 10) (hs : sl ≤ 90) (h95 : Ds (95, 0, 0) = some (100, n.toNatClampNeg)) {W1 : gz_V} (k : gW X 10 (xw_s Ds) (xw_c Df) ad W1 ce sl 42 [(0, .ref (ad (10, 0, 0))), (1, .int n), (2, .ref (ad (95, 0, 0)))] []) : ∀ (N : Nat) {V : gz_V} {i : Int32}, could_1 n N V i = some W1 → gW X 10 (xw_s Ds) (xw_c Df) ad V ce sl 17 [(0, .ref (ad (10, 0, 0))), (1, .int n), (2, .ref (ad (95, 0, 0))), (3, .int i)] [] := by
  intro N
  induction N with
  | zero => intro V i h; rw [could_1] at h; cases h
  | succ N ih =>
    intro V i h
    rw [could_1] at h
    refine gz_iload_n (q := 3) hX dX0_could_17 rfl rfl ?_
    refine gz_iload_n (q := 1) hX dX0_could_18 rfl rfl ?_
    refine gz_icmp_ge (tgt := 42) hX dX0_could_19 (by decide) (fun c => ?_) (fun c => ?_)
    · have h := gz_ifp c h
      obtain rfl := gz_in1 h
      exact gz_lv [0, 1, 2] rfl k
    · have h := gz_ifn c h
      obtain ⟨r, e1, h⟩ := gz_bd_o h
      obtain ⟨b1, h⟩ := gz_gd_o h
      refine gz_aload_n (q := 2) hX dX0_could_22 rfl rfl ?_
      refine gz_iload_n (q := 3) hX dX0_could_23 rfl rfl ?_
      refine gz_aload_n (q := 0) hX dX0_could_24 rfl rfl ?_
      refine xg_X0_20 (n2 := (20, 0, 0)) hX xs_main rfl dX0_could_25 ?_
      refine xg_X0_289 (n2 := (27, 0, 1)) hX (xs_M (by decide)) rfl dX0_could_28 ?_
      refine gz_iload_n (q := 3) hX dX0_could_31 rfl rfl ?_
      refine gu_callV (ci := 3) (n := (27, 0, 1)) (As := [.int i]) hX (c_x3_first (by decide) (by decide) e1) (lw_x3_first_ q1326) rfl rfl nn_x3_first ⟨Nat.le_of_ble_eq_true rfl, Nat.le_of_ble_eq_true rfl⟩ ⟨hc, hs⟩ (by decide) rfl (xs_RO (by decide) (by decide)) rfl rfl (Nat.le_of_ble_eq_true rfl) dX0_could_32 rfl ?_
      refine gz_iast hX (xs_dyn ⟨by decide, h95⟩) (gz_ne0 94 rfl) (gz_inb_o b1) dX0_could_35 rfl ?_
      refine gz_iinc (q := 3) (lv2 := [(3, .int (i + 1)), (0, .ref (ad (10, 0, 0))), (1, .int n), (2, .ref (ad (95, 0, 0)))]) hX dX0_could_36 rfl gl_c_1 (by decide) rfl ?_
      refine gz_goto (tgt := 17) hX dX0_could_39 (by decide) ?_
      exact gz_lv [1, 2, 3, 0] rfl (ih h)
def cd_V (V0 V : gz_V) : Prop := ∀ m : gz_N, m ≠ (95, 0, 0) → m ≠ (96, 0, 0) → V m = V0 m
theorem cd_V.up95 {V0 V : gz_V} {j : Nat} {x : Int32} (h : cd_V V0 V) : cd_V V0 (gz_up V (95, 0, 0) j x) := fun m h1 h2 => by rw [gz_up_ne h1]; exact h m h1 h2
theorem cd_V.up96 {V0 V : gz_V} {j : Nat} {x : Int32} (h : cd_V V0 V) : cd_V V0 (gz_up V (96, 0, 0) j x) := fun m h1 h2 => by rw [gz_up_ne h2]; exact h m h1 h2
theorem cd_V.uz95 {V0 V : gz_V} (h : cd_V V0 V) : cd_V V0 (gz_uz V (95, 0, 0)) := fun m h1 h2 => by rw [gz_uz_ne h1]; exact h m h1 h2
theorem cd_V.uz96 {V0 V : gz_V} (h : cd_V V0 V) : cd_V V0 (gz_uz V (96, 0, 0)) := fun m h1 h2 => by rw [gz_uz_ne h2]; exact h m h1 h2
theorem could_1_V {V0 W1 : gz_V} {n : Int32} : ∀ (N : Nat) {V : gz_V} {i : Int32}, could_1 n N V i = some W1 → cd_V V0 V → cd_V V0 W1
  | 0, V, i, h, _ => by rw [could_1] at h; cases h
  | N + 1, V, i, h, hV => by
    rw [could_1] at h
    by_cases c : n ≤ i
    · have h := gz_ifp c h
      obtain rfl := gz_in1 h
      exact hV
    · have h := gz_ifn c h
      obtain ⟨r, e1, h⟩ := gz_bd_o h
      obtain ⟨b1, h⟩ := gz_gd_o h
      exact could_1_V N h hV.up95
theorem could_k_V {V0 W1 : gz_V} {n many : Int32} {N : Nat} {b : Bool} : ∀ (M : Nat) {V : gz_V} {j : Int32}, could_k N n many M V j = some (W1, b) → cd_V V0 V → cd_V V0 W1
  | 0, V, i, h, _ => by rw [could_k] at h; cases h
  | M + 1, V, j, h, hV => by
    rw [could_k] at h
    by_cases c : many ≤ j
    · have h := gz_ifp c h
      cases h
      exact hV
    · have h := gz_ifn c h
      obtain ⟨nx, e1, h⟩ := gz_bd_o h
      by_cases c2 : nx = -1
      · have h := gz_ifp c2 h
        cases h
        exact hV
      · have h := gz_ifn c2 h
        obtain ⟨b1, h⟩ := gz_gd_o h
        exact could_k_V M h hV.up96.up95
/-- the rounds; Ds holds (95, 0, 0), not (96, 0, 0) -/
theorem w_could_r (hX : gz_ok X cX0_could RX0 "could" 10 rm_x0_could (some .int)) {N L : Nat} (hL : n.toNatClampNeg = L) (hn : ¬ n < 0) (hL9 : L ≤ 9) (h95 : Ds (95, 0, 0) = some (100, L)) (h96 : Ds (96, 0, 0) = none) (hcl : ∀ (n : gz_N) (f : Nat) (b : gz_N), xw_s Ds n ≠ none → xw_c Df n f = some b → b.1 ≠ 0 → xw_s Ds b ≠ none) {r : Int32} {ad0 : gz_A0} {V0 : gz_V}
    (k : ∀ (V : gz_V) (ad2 : gz_A0) (lv : List (Nat × Value)) (pc : Nat), cd_V V0 V → pc = 180 ∨ pc = 208 → gz_ag (xw_s Ds) ad0 ad2 → gW X 10 (xw_s Ds) (xw_c Df) ad2 V 10 90 pc lv [.int r]) : ∀ (M : Nat) (q : Nat) {V : gz_V} (ad : gz_A0), cd_V V0 V → q ≤ L → gz_ag (xw_s Ds) ad0 ad → could_r N n M V (Int32.ofNat q) = some r → gW X 10 (xw_s Ds) (xw_c Df) ad V (1 + q) (L + q * L) 44 [(0, .ref (ad (10, 0, 0))), (1, .int n), (2, .ref (ad (95, 0, 0))), (3, .int (Int32.ofNat q))] [] := by
  intro M
  induction M with
  | zero => intro q V ad hV hq hag h; rw [could_r] at h; cases h
  | succ M ih =>
    intro q V ad hV hq hag h
    rw [could_r] at h
    have s95 : xw_s Ds (95, 0, 0) = some (100, n.toNatClampNeg) := by rw [hL]; exact xs_dyn ⟨by decide, h95⟩
    have hnat : ∀ q : Nat, q ≤ 9 → (Int32.ofNat q).toNatClampNeg = q := by decide
    have hinc : ∀ q : Nat, q ≤ 9 → Int32.ofNat q + 1 = Int32.ofNat (q + 1) := by decide
    have hqL : ¬ n ≤ Int32.ofNat q → q < L := by
      intro c
      refine Nat.not_le.mp fun z => c ?_
      have e : q = L := by omega
      have hz : (0 : Int) ≤ n.toInt := by
        have := Int32.not_lt.mp hn
        simpa using Int32.le_iff_toInt_le.mp this
      rw [Int32.le_iff_toInt_le]
      have e1 : (Int32.ofNat q).toInt = (q : Int) := (by decide : ∀ q : Nat, q ≤ 9 → (Int32.ofNat q).toInt = (q : Int)) q (by omega)
      rw [e1, e, ← hL]
      show n.toInt ≤ ((n.toInt.toNat : Nat) : Int)
      omega
    have qL : q * L ≤ L * L := Nat.mul_le_mul_right L hq
    have LL : L * L ≤ 9 * L := Nat.mul_le_mul_right L hL9
    refine gz_iload_n (q := 3) hX dX0_could_44 rfl rfl ?_
    refine gz_iload_n (q := 1) hX dX0_could_45 rfl rfl ?_
    refine gz_icmp_ge (tgt := 207) hX dX0_could_46 (by decide) (fun c => ?_) (fun c => ?_)
    · have h := gz_ifp c h
      obtain rfl := gz_in1 h
      refine gz_iconst (v := 1) hX dX0_could_207 (by decide) ?_
      exact gz_widen (by omega) (by omega) (k V ad _ 208 hV (Or.inr rfl) hag)
    · have h := gz_ifn c h
      have hqL := hqL c
      have qL2 : q * L + L ≤ L * L := by
        have := Nat.mul_le_mul_right L (show q + 1 ≤ L from hqL)
        rw [Nat.succ_mul] at this
        exact this
      obtain ⟨g, e1, h⟩ := gz_bd_o h
      obtain ⟨b1, h⟩ := gz_gd_o h
      obtain ⟨⟨V4, b⟩, e2, h⟩ := gz_bd_o h
      have hV4 : cd_V V0 V4 := could_k_V N e2 hV.up95.uz96.up96
      refine gz_iconst (v := 0) hX dX0_could_49 (by decide) ?_
      refine gz_istore (lv2 := [(4, .int 0), (0, .ref (ad (10, 0, 0))), (1, .int n), (2, .ref (ad (95, 0, 0))), (3, .int (Int32.ofNat q))]) hX dX0_could_50 (by decide) rfl ?_
      refine gz_iconst (v := 1) hX dX0_could_52 (by decide) ?_
      refine gz_istore (lv2 := [(5, .int 1), (4, .int 0), (0, .ref (ad (10, 0, 0))), (1, .int n), (2, .ref (ad (95, 0, 0))), (3, .int (Int32.ofNat q))]) hX dX0_could_53 (by decide) rfl ?_
      refine gz_lv [2, 3, 4, 5, 1, 0] rfl ?_
      refine w_could_g hX s95 ?_ N e1
      refine gz_aload_n (q := 2) hX dX0_could_87 rfl rfl ?_
      refine gz_iload (q := 4) hX dX0_could_88 rfl ?_
      refine gz_iald hX s95 (gz_inb_o b1) dX0_could_90 ?_
      refine gz_istore (lv2 := [(5, .int (V (95, 0, 0) g.toNatClampNeg)), (0, .ref (ad (10, 0, 0))), (1, .int n), (2, .ref (ad (95, 0, 0))), (3, .int (Int32.ofNat q)), (4, .int g)]) hX dX0_could_91 (by decide) rfl ?_
      refine gz_aload_n (q := 3) hX dX0_could_93 rfl rfl ?_
      refine gz_iload (q := 5) hX dX0_could_94 rfl ?_
      refine gz_iconst (v := 0) hX dX0_could_96 (by decide) ?_
      refine gz_iast hX s95 (gz_ne0 94 rfl) (gz_inb_o b1) dX0_could_97 rfl ?_
      refine gz_iload_n (q := 2) hX dX0_could_98 rfl rfl ?_
      have s96 : xw_s Ds (96, 0, 0) = none := by
        unfold xw_s
        simp
        exact h96
      have agn : ∀ ad2 : gz_A0, (∀ a, a ≠ ((96, 0, 0) : gz_N) → ad2 a = ad a) → gz_ag (xw_s Ds) ad ad2 := fun ad2 z a ha => z a (fun e => by
        subst e
        rcases ha with y | y
        · exact y s96
        · cases y)
      refine gz_newa (ad := ad) (lvF := fun ad => [(5, .int (V (95, 0, 0) g.toNatClampNeg)), (0, .ref (ad (10, 0, 0))), (1, .int n), (2, .ref (ad (95, 0, 0))), (3, .int (Int32.ofNat q)), (4, .int g)]) (stF := fun _ => []) (nm := (96, 0, 0)) (L := L) (t := 102) (t0 := 2) (atype := .boolean) hX q1330 (fun _ => rfl) (by decide) (by decide) (fun U cA h => va_nm_boolean h) rfl hn hL (by show L * 1 ≤ _; omega) (by show 1 + q + 1 ≤ 10; omega) (by show L + q * L + L ≤ 90; omega) s96 (gz_ne0 95 rfl) (fun ad2 z => by rw [z _ (by decide), z _ (by decide)]; exact ⟨rfl, rfl⟩) dX0_could_99 (fun ad2 z => ?_)
      rw [cd_us (by decide), cd_un (by decide)]
      have t95 : xw_s (gz_us Ds (96, 0, 0) (102, L)) (95, 0, 0) = some (100, n.toNatClampNeg) := by rw [hL]; exact xs_dyn ⟨by decide, by rw [gz_us_ne (by decide)]; exact h95⟩
      have t96 : xw_s (gz_us Ds (96, 0, 0) (102, L)) (96, 0, 0) = some (102, n.toNatClampNeg) := by rw [hL]; exact xs_dyn ⟨by decide, gz_us_eq⟩
      refine gz_astore (i := 6) (lv2 := [(6, .ref (ad2 (96, 0, 0))), (5, .int (V (95, 0, 0) g.toNatClampNeg)), (0, .ref (ad2 (10, 0, 0))), (1, .int n), (2, .ref (ad2 (95, 0, 0))), (3, .int (Int32.ofNat q)), (4, .int g)]) hX dX0_could_101 (by decide) rfl ?_
      refine gz_aload (q := 0) hX dX0_could_103 rfl ?_
      refine gz_iload (q := 6) hX dX0_could_105 rfl ?_
      refine gz_iconst (v := 1) hX dX0_could_107 (by decide) ?_
      refine gz_zast hX t96 (gz_ne0 95 rfl) (Or.inr rfl) (gz_inb_o b1) dX0_could_108 rfl ?_
      refine gz_iconst (v := 0) hX dX0_could_109 (by decide) ?_
      refine gz_istore (lv2 := [(7, .int 0), (6, .ref (ad2 (96, 0, 0))), (5, .int (V (95, 0, 0) g.toNatClampNeg)), (0, .ref (ad2 (10, 0, 0))), (1, .int n), (2, .ref (ad2 (95, 0, 0))), (3, .int (Int32.ofNat q)), (4, .int g)]) hX dX0_could_110 (by decide) rfl ?_
      refine gz_lv [3, 4, 5, 6, 7, 2, 1, 0] rfl ?_
      have ag2 : gz_ag (xw_s Ds) ad0 ad2 := hag.trans (fun _ y => y) (agn ad2 z)
      have drop : ∀ {pc ce sl : Nat} {lv : List (Nat × Value)} {st : List Value}, gW X 10 (xw_s Ds) (xw_c Df) ad2 V4 ce sl pc lv st → gW X 10 (xw_s (gz_us Ds (96, 0, 0) (102, L))) (xw_c (gz_un Df (96, 0, 0))) ad2 V4 ce sl pc lv st := by
        intro pc ce sl lv st kk
        have ne : ∀ m, xw_s Ds m ≠ none → m ≠ (96, 0, 0) := fun m y e => by subst e; exact y s96
        refine gz_lessW (fun m t y => ?_) (fun _ _ => rfl) (fun m y => ?_) (fun _ _ => rfl) hcl kk
        · rw [← cd_us (by decide), gz_us_ne (ne m (by rw [y]; exact fun z => by cases z))]
          exact y
        · rw [← cd_un (by decide), gz_un_ne (ne m y)]
      refine w_could_k (b := b) hX t95 t96 (fun hb => drop ?_) (fun hb lv => drop ?_) N e2
      · subst hb
        have h := gz_ifn (show ¬ (false = true) by decide) h
        refine gz_iinc (q := 3) (lv2 := [(3, .int (Int32.ofNat q + 1)), (0, .ref (ad2 (10, 0, 0))), (1, .int n), (2, .ref (ad2 (95, 0, 0)))]) hX dX0_could_201 rfl gl_c_1 (by decide) rfl ?_
        refine gz_goto (tgt := 44) hX dX0_could_204 (by decide) ?_
        rw [hinc q (by omega)] at h ⊢
        refine gz_lv [1, 2, 3, 0] rfl (gz_widen (k := 1 + (q + 1)) (n := L + (q + 1) * L) (by omega) (by rw [Nat.succ_mul]; omega) (ih (q + 1) ad2 hV4 (by omega) ag2 h))
      · subst hb
        have h := gz_ifp rfl h
        obtain rfl := gz_in1 h
        exact gz_widen (by omega) (by omega) (k V4 ad2 lv 180 hV4 (Or.inl rfl) ag2)
end CLX
theorem c_x0_could {l : Launch} {D : va_G} {aC : Nat → ClassId} {ad : gz_A0} {Ds : gz_S} {Df : gz_R} {V : gz_V} {N : Nat} {r : Int32} (h95 : Ds (95, 0, 0) = none) (h96 : Ds (96, 0, 0) = none) (h : x0_could N V = some r) : gz_Met l yX0_could cX0_could 10 (some .int) rm_x0_could D aC ad (xw_s Ds) V (xw_c Df) [.ref (ad (10, 0, 0))] (gz_F1 (xw_s Ds) (xw_c Df) ad V (some (.int r))) 10 90 := by
  refine gz_ofW (own := RX0) (mn := "could") (lv := [(0, .ref (ad (10, 0, 0)))]) (by decide) rfl rfl (Nat.le_of_ble_eq_true rfl) rfl ?_
  intro X hX _ _ _ h5 h6 h7 hE
  rw [x0_could] at h
  obtain ⟨⟨hn, hL9⟩, h⟩ := gz_gd_o h
  obtain ⟨V1, e1, h⟩ := gz_bd_o h
  refine gz_clW (fun hcl => ?_)
  refine gz_aload_n (q := 0) hX dX0_could_0 rfl rfl ?_
  refine xg_X0_20 (n2 := (20, 0, 0)) hX xs_main rfl dX0_could_1 ?_
  refine xg_X0_289 (n2 := (27, 0, 1)) hX (xs_M (by decide)) rfl dX0_could_4 ?_
  refine xg_X0_280 hX (xs_RO (by decide) (by decide)) dX0_could_7 ?_
  refine gz_istore_n (i := 1) (lv2 := [(1, .int (V (27, 0, 1) 1)), (0, .ref (ad (10, 0, 0)))]) hX dX0_could_10 rfl (by decide) rfl ?_
  refine gz_iload_n (q := 0) hX dX0_could_11 rfl rfl ?_
  have s95 : xw_s Ds (95, 0, 0) = none := by
    unfold xw_s
    simp
    exact h95
  have s96 : xw_s Ds (96, 0, 0) = none := by
    unfold xw_s
    simp
    exact h96
  refine gz_newa (ad := ad) (lvF := fun ad => [(1, .int (V (27, 0, 1) 1)), (0, .ref (ad (10, 0, 0)))]) (stF := fun _ => []) (nm := (95, 0, 0)) (L := (V (27, 0, 1) 1).toNatClampNeg) (t := 100) (t0 := 0) (atype := .int) hX q237 (fun _ => rfl) (by decide) (by decide) (fun U cA h => va_nm_int h) rfl hn rfl (by show _ * 4 ≤ _; omega) (by decide) (by show 0 + _ ≤ 90; omega) s95 (gz_ne0 94 rfl) (fun ad2 z => by rw [z _ (by decide)]; exact ⟨rfl, rfl⟩) dX0_could_12 (fun ad2 z => ?_)
  rw [cd_us (by decide), cd_un (by decide)]
  generalize hDs : gz_us Ds (95, 0, 0) (100, (V (27, 0, 1) 1).toNatClampNeg) = Ds1
  generalize hDf : gz_un Df (95, 0, 0) = Df1
  have t95 : Ds1 (95, 0, 0) = some (100, (V (27, 0, 1) 1).toNatClampNeg) := by rw [← hDs]; exact gz_us_eq
  have t96 : Ds1 (96, 0, 0) = none := by rw [← hDs, gz_us_ne (by decide)]; exact h96
  have up : ∀ m, xw_s Ds m ≠ none → m ≠ (95, 0, 0) := fun m y e => by subst e; exact y s95
  have old : ∀ m, m ≠ (95, 0, 0) → xw_s Ds1 m = xw_s Ds m := fun m e => by rw [← hDs, ← cd_us (by decide), gz_us_ne e]
  have oldR : ∀ m, m ≠ (95, 0, 0) → xw_c Df1 m = xw_c Df m := fun m e => by rw [← hDf, ← cd_un (by decide), gz_un_ne e]
  have hcl1 : ∀ (n : gz_N) (f : Nat) (b : gz_N), xw_s Ds1 n ≠ none → xw_c Df1 n f = some b → b.1 ≠ 0 → xw_s Ds1 b ≠ none := by
    intro m f b y1 y2 y3
    by_cases e : m = (95, 0, 0)
    · rw [e, ← hDf, ← cd_un (by decide), gz_un_eq] at y2
      cases y2
    · rw [old m e] at y1
      rw [oldR m e] at y2
      have y4 := hcl m f b y1 y2 y3
      rw [old b (up b y4)]
      exact y4
  refine gz_astore_n (i := 2) (lv2 := [(2, .ref (ad2 (95, 0, 0))), (1, .int (V (27, 0, 1) 1)), (0, .ref (ad2 (10, 0, 0)))]) hX dX0_could_14 rfl (by decide) rfl ?_
  refine gz_iconst (v := 0) hX dX0_could_15 (by decide) ?_
  refine gz_istore_n (i := 3) (lv2 := [(3, .int 0), (2, .ref (ad2 (95, 0, 0))), (1, .int (V (27, 0, 1) 1)), (0, .ref (ad2 (10, 0, 0)))]) hX dX0_could_16 rfl (by decide) rfl ?_
  refine gz_lv [3, 2, 1, 0] rfl ?_
  refine w_could_1 hX (by decide) (by omega) t95 ?_ N e1
  refine gz_iconst (v := 0) hX dX0_could_42 (by decide) ?_
  refine gz_istore_n (i := 3) (lv2 := [(3, .int 0), (0, .ref (ad2 (10, 0, 0))), (1, .int (V (27, 0, 1) 1)), (2, .ref (ad2 (95, 0, 0)))]) hX dX0_could_43 rfl (by decide) rfl ?_
  refine gz_lv [1, 2, 3, 0] rfl ?_
  refine gz_widen (k := 1 + 0) (n := (V (27, 0, 1) 1).toNatClampNeg + 0 * (V (27, 0, 1) 1).toNatClampNeg) (by decide) (by omega) ?_
  refine w_could_r (ad0 := ad2) hX rfl hn hL9 t95 t96 hcl1 (fun V5 ad3 lv pc hV5 hpc ag => ?_) N 0 ad2 (could_1_V (V0 := V) N e1 (cd_V.uz95 (fun _ _ _ => rfl))) (Nat.zero_le _) gz_ag.rf h
  have hF : gx_F X (xw_s Ds) V (xw_c Df) ad (some (.int r)) := by rw [h5]; exact ⟨rfl, rfl, rfl, rfl, rfl⟩
  have hd : decode cX0_could pc = .ok (.ireturn, 1) := by
    rcases hpc with e | e
    · rw [e]; exact dX0_could_180
    · rw [e]; exact dX0_could_208
  have hfin := gz_iret (pc := pc) (lv := lv) hX hE hF hd
  rw [h6, h7] at hfin
  have ne96 : ∀ m, xw_s Ds m ≠ none → m ≠ (96, 0, 0) := fun m y e => by subst e; exact y s96
  refine gz_lessW (fun m t y => ?_) (fun m y => (hV5 m (up m y) (ne96 m y)).symm) (fun m y => (oldR m (up m y)).symm) (fun m y => ?_) hcl hfin
  · rw [old m (up m (by rw [y]; exact fun z => by cases z))]
    exact y
  · have e1 : ad2 m = ad m := z m (fun e => by
      subst e
      rcases y with y | y
      · exact y s95
      · cases y)
    have e2 : ad3 m = ad2 m := ag m (by
      rcases y with y | y
      · exact Or.inl (by rw [old m (up m y)]; exact y)
      · exact Or.inr y)
    rw [e2, e1]
theorem lw_x0_could_ {o : String} {i : Nat} (hl : Cond.methodLink o i yX0_could ∈ lw_all) : GoodIn lw_all (wsV o i RX0 yX0_could (ws_ yX0_could cX0_could 10 (some .int))) := lw_V hl q1323 q1324 q144 q1325
theorem nn_x0_could : yX0_could.cls = RX0 ∧ yX0_could.cls ≠ "java/lang/invoke/MethodHandle" ∧ yX0_could.cls ≠ "java/lang/invoke/VarHandle" ∧ (parseMethodDescriptor yX0_could.desc).map (fun d => d.parameters.length) = some 0 := by decide +kernel
