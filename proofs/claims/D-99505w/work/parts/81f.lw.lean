/-! THE LAW's cases. Printed by wip/D-99505w/gen/mklaw.py -/
set_option maxRecDepth 100000
theorem ll_flag {X : gz_X} {b L : Nat} {xs : Nat → Int32} {px pm : Nat} {Ds : gz_S} {Df : gz_R} {Vx Vm : gz_V} {ce sl pc : Nat} {lv : List (Nat × Value)} {st : List Value} {a z : Int32} (hX : lw_ok X b L xs) (hz : (if a = 0 then (0 : Int32) else 1) = z) (d0 : decode code pc = .ok (.ifCond .eq 7, 3)) (h0 : (pc : Int) + 7 = ((pc + 7 : Nat) : Int)) (d3 : decode code (pc + 3) = .ok (.iconst 1, 1)) (d4 : decode code (pc + 4) = .ok (.goto 4, 3)) (h4 : ((pc + 4 : Nat) : Int) + 4 = ((pc + 8 : Nat) : Int)) (d7 : decode code (pc + 7) = .ok (.iconst 0, 1)) (k : lW X px pm Ds Df Vx Vm ce sl (pc + 8) lv (.int z :: st)) : lW X px pm Ds Df Vx Vm ce sl pc lv (.int a :: st) := by
  refine ll_if_eq (tgt := pc + 7) hX d0 h0 (fun c1 => ?_) (fun c1 => ?_)
  · rw [if_pos c1] at hz
    subst hz
    exact ll_iconst (v := 0) hX d7 (by decide) k
  · rw [if_neg c1] at hz
    subst hz
    refine ll_iconst (v := 1) hX d3 (by decide) ?_
    exact ll_goto (tgt := pc + 8) hX d4 h4 k
theorem lw_case_weight {J : gz_S → gz_R → gz_V → Nat → gz_V → Prop} {X : gz_X} {b L N : Nat} {xs : Nat → Int32} {px pm : Nat} {Ds : gz_S} {Df : gz_R} {Vx Vm : gz_V} {c ce sl : Nat} {i : Int32} (hX : lw_ok X b L xs) (htr : (gx_l X).stackTraces = false) (jS : lo_S J) (hop : lo_weight J N) (hJ : J Ds Df Vx c Vm) (hin : ∀ j : Int32, j = 1 ∨ j = 2 ∨ j = 3 ∨ j = 4 ∨ j = 5 → vp_in (i + j) L) (hf : ce + 1000 ≤ 601024 ∧ sl + 24000 ≤ 7293034) (kk : ∀ (Ds2 : gz_S) (Df2 : gz_R) (Vx2 : gz_V) (c2 : Nat) (Vm2 : gz_V), J Ds2 Df2 Vx2 c2 Vm2 → lW X px pm Ds2 Df2 Vx2 Vm2 (ce + 1000) (sl + 24000) 1531 [(3, .int i), (2, .ref pm), (1, .ref px), (0, .ref b)] []) : lW X px pm Ds Df Vx Vm ce sl 1176 [(3, .int i), (2, .ref pm), (1, .ref px), (0, .ref b)] [] := by
  obtain ⟨j97, j95, j96, jfr, jz⟩ := jS _ _ _ _ _ hJ
  obtain ⟨Vx2, Vm2, r, e1, e2, hJ2⟩ := hop Ds Df Vx c Vm (xs (i + 1).toNatClampNeg) hJ
  refine ll_aload_n (q := 2) hX dL_law_1176 rfl rfl ?_
  refine ll_aload_n (q := 3) hX dL_law_1177 rfl rfl ?_
  refine ll_iload_n (q := 0) hX dL_law_1178 rfl rfl ?_
  refine ll_iconst (v := 1) hX dL_law_1179 gl_c_1 ?_
  refine ll_iadd hX dL_law_1180 ?_
  refine ll_sld hX (hin 1 (by decide)) dL_law_1181 ?_
  refine ll_callX (mc := 0) (ms := 0) (As := [.int (xs (i + 1).toNatClampNeg)]) hX (fun ad => c_x0_weight e1) (lw_x0_weight_ q1385) rfl rfl nn_x0_weight ⟨Nat.le_of_ble_eq_true rfl, Nat.le_of_ble_eq_true rfl⟩ ⟨by omega, by omega⟩ rfl rfl (Nat.le_of_ble_eq_true rfl) dL_law_1182 ?_
  refine ll_aload_n (q := 1) hX dL_law_1185 rfl rfl ?_
  refine ll_aload_n (q := 3) hX dL_law_1186 rfl rfl ?_
  refine ll_iload_n (q := 0) hX dL_law_1187 rfl rfl ?_
  refine ll_iconst (v := 1) hX dL_law_1188 gl_c_1 ?_
  refine ll_iadd hX dL_law_1189 ?_
  refine ll_sld hX (hin 1 (by decide)) dL_law_1190 ?_
  refine ll_callM (As := [.int (xs (i + 1).toNatClampNeg)]) hX (jS _ _ _ _ _ hJ2).2.2.2.2 (fun ad => c_weight e2) (lw_V q2115 q2116 q2117 q153 q2118) rfl rfl nn_weight ⟨Nat.le_of_ble_eq_true rfl, Nat.le_of_ble_eq_true rfl⟩ ⟨by omega, by omega⟩ rfl rfl (Nat.le_of_ble_eq_true rfl) dL_law_1191 ?_
  refine ll_icmp_eqT (tgt := 1531) hX dL_law_1194 (by decide) ?_
  exact ll_widen (by omega) (by omega) (kk Ds Df Vx2 c Vm2 hJ2)
theorem lw_case_balance {J : gz_S → gz_R → gz_V → Nat → gz_V → Prop} {X : gz_X} {b L N : Nat} {xs : Nat → Int32} {px pm : Nat} {Ds : gz_S} {Df : gz_R} {Vx Vm : gz_V} {c ce sl : Nat} {i : Int32} (hX : lw_ok X b L xs) (htr : (gx_l X).stackTraces = false) (jS : lo_S J) (hop : lo_balance J N) (hJ : J Ds Df Vx c Vm) (hin : ∀ j : Int32, j = 1 ∨ j = 2 ∨ j = 3 ∨ j = 4 ∨ j = 5 → vp_in (i + j) L) (hf : ce + 1000 ≤ 601024 ∧ sl + 24000 ≤ 7293034) (kk : ∀ (Ds2 : gz_S) (Df2 : gz_R) (Vx2 : gz_V) (c2 : Nat) (Vm2 : gz_V), J Ds2 Df2 Vx2 c2 Vm2 → lW X px pm Ds2 Df2 Vx2 Vm2 (ce + 1000) (sl + 24000) 1531 [(3, .int i), (2, .ref pm), (1, .ref px), (0, .ref b)] []) : lW X px pm Ds Df Vx Vm ce sl 1199 [(3, .int i), (2, .ref pm), (1, .ref px), (0, .ref b)] [] := by
  obtain ⟨j97, j95, j96, jfr, jz⟩ := jS _ _ _ _ _ hJ
  obtain ⟨Vm2, r, e1, e2, hJ2⟩ := hop Ds Df Vx c Vm (xs (i + 1).toNatClampNeg) (xs (i + 2).toNatClampNeg) hJ
  refine ll_aload_n (q := 2) hX dL_law_1199 rfl rfl ?_
  refine ll_aload_n (q := 3) hX dL_law_1200 rfl rfl ?_
  refine ll_iload_n (q := 0) hX dL_law_1201 rfl rfl ?_
  refine ll_iconst (v := 1) hX dL_law_1202 gl_c_1 ?_
  refine ll_iadd hX dL_law_1203 ?_
  refine ll_sld hX (hin 1 (by decide)) dL_law_1204 ?_
  refine ll_aload_n (q := 3) hX dL_law_1205 rfl rfl ?_
  refine ll_iload_n (q := 0) hX dL_law_1206 rfl rfl ?_
  refine ll_iconst (v := 2) hX dL_law_1207 gl_c_2 ?_
  refine ll_iadd hX dL_law_1208 ?_
  refine ll_sld hX (hin 2 (by decide)) dL_law_1209 ?_
  refine ll_callX (mc := 0) (ms := 0) (As := [.int (xs (i + 1).toNatClampNeg), .int (xs (i + 2).toNatClampNeg)]) hX (fun ad => c_x0_balance e1) (lw_x0_balance_ q1389) rfl rfl nn_x0_balance ⟨Nat.le_of_ble_eq_true rfl, Nat.le_of_ble_eq_true rfl⟩ ⟨by omega, by omega⟩ rfl rfl (Nat.le_of_ble_eq_true rfl) dL_law_1210 ?_
  refine ll_aload_n (q := 1) hX dL_law_1213 rfl rfl ?_
  refine ll_aload_n (q := 3) hX dL_law_1214 rfl rfl ?_
  refine ll_iload_n (q := 0) hX dL_law_1215 rfl rfl ?_
  refine ll_iconst (v := 1) hX dL_law_1216 gl_c_1 ?_
  refine ll_iadd hX dL_law_1217 ?_
  refine ll_sld hX (hin 1 (by decide)) dL_law_1218 ?_
  refine ll_aload_n (q := 3) hX dL_law_1219 rfl rfl ?_
  refine ll_iload_n (q := 0) hX dL_law_1220 rfl rfl ?_
  refine ll_iconst (v := 2) hX dL_law_1221 gl_c_2 ?_
  refine ll_iadd hX dL_law_1222 ?_
  refine ll_sld hX (hin 2 (by decide)) dL_law_1223 ?_
  refine ll_callM (As := [.int (xs (i + 1).toNatClampNeg), .int (xs (i + 2).toNatClampNeg)]) hX (jS _ _ _ _ _ hJ2).2.2.2.2 (fun ad => c_balance e2) (lw_V q2119 q2120 q2121 q153 q2122) rfl rfl nn_balance ⟨Nat.le_of_ble_eq_true rfl, Nat.le_of_ble_eq_true rfl⟩ ⟨by omega, by omega⟩ rfl rfl (Nat.le_of_ble_eq_true rfl) dL_law_1224 ?_
  refine ll_icmp_eqT (tgt := 1531) hX dL_law_1227 (by decide) ?_
  exact ll_widen (by omega) (by omega) (kk Ds Df Vx c Vm2 hJ2)
theorem lw_case_cold {J : gz_S → gz_R → gz_V → Nat → gz_V → Prop} {X : gz_X} {b L N : Nat} {xs : Nat → Int32} {px pm : Nat} {Ds : gz_S} {Df : gz_R} {Vx Vm : gz_V} {c ce sl : Nat} {i : Int32} (hX : lw_ok X b L xs) (htr : (gx_l X).stackTraces = false) (jS : lo_S J) (hop : lo_cold J N) (hJ : J Ds Df Vx c Vm) (hin : ∀ j : Int32, j = 1 ∨ j = 2 ∨ j = 3 ∨ j = 4 ∨ j = 5 → vp_in (i + j) L) (hf : ce + 1000 ≤ 601024 ∧ sl + 24000 ≤ 7293034) (kk : ∀ (Ds2 : gz_S) (Df2 : gz_R) (Vx2 : gz_V) (c2 : Nat) (Vm2 : gz_V), J Ds2 Df2 Vx2 c2 Vm2 → lW X px pm Ds2 Df2 Vx2 Vm2 (ce + 1000) (sl + 24000) 1531 [(3, .int i), (2, .ref pm), (1, .ref px), (0, .ref b)] []) : lW X px pm Ds Df Vx Vm ce sl 1232 [(3, .int i), (2, .ref pm), (1, .ref px), (0, .ref b)] [] := by
  obtain ⟨j97, j95, j96, jfr, jz⟩ := jS _ _ _ _ _ hJ
  obtain ⟨Vm2, r, e1, e2, hJ2⟩ := hop Ds Df Vx c Vm (xs (i + 1).toNatClampNeg) (xs (i + 2).toNatClampNeg) hJ
  refine ll_aload_n (q := 2) hX dL_law_1232 rfl rfl ?_
  refine ll_aload_n (q := 3) hX dL_law_1233 rfl rfl ?_
  refine ll_iload_n (q := 0) hX dL_law_1234 rfl rfl ?_
  refine ll_iconst (v := 1) hX dL_law_1235 gl_c_1 ?_
  refine ll_iadd hX dL_law_1236 ?_
  refine ll_sld hX (hin 1 (by decide)) dL_law_1237 ?_
  refine ll_aload_n (q := 3) hX dL_law_1238 rfl rfl ?_
  refine ll_iload_n (q := 0) hX dL_law_1239 rfl rfl ?_
  refine ll_iconst (v := 2) hX dL_law_1240 gl_c_2 ?_
  refine ll_iadd hX dL_law_1241 ?_
  refine ll_sld hX (hin 2 (by decide)) dL_law_1242 ?_
  refine ll_callX (mc := 0) (ms := 0) (As := [.int (xs (i + 1).toNatClampNeg), .int (xs (i + 2).toNatClampNeg)]) hX (fun ad => c_x0_cold e1) (lw_x0_cold_ q1374) rfl rfl nn_x0_cold ⟨Nat.le_of_ble_eq_true rfl, Nat.le_of_ble_eq_true rfl⟩ ⟨by omega, by omega⟩ rfl rfl (Nat.le_of_ble_eq_true rfl) dL_law_1243 ?_
  refine ll_aload_n (q := 1) hX dL_law_1246 rfl rfl ?_
  refine ll_aload_n (q := 3) hX dL_law_1247 rfl rfl ?_
  refine ll_iload_n (q := 0) hX dL_law_1248 rfl rfl ?_
  refine ll_iconst (v := 1) hX dL_law_1249 gl_c_1 ?_
  refine ll_iadd hX dL_law_1250 ?_
  refine ll_sld hX (hin 1 (by decide)) dL_law_1251 ?_
  refine ll_aload_n (q := 3) hX dL_law_1252 rfl rfl ?_
  refine ll_iload_n (q := 0) hX dL_law_1253 rfl rfl ?_
  refine ll_iconst (v := 2) hX dL_law_1254 gl_c_2 ?_
  refine ll_iadd hX dL_law_1255 ?_
  refine ll_sld hX (hin 2 (by decide)) dL_law_1256 ?_
  refine ll_callM (As := [.int (xs (i + 1).toNatClampNeg), .int (xs (i + 2).toNatClampNeg)]) hX (jS _ _ _ _ _ hJ2).2.2.2.2 (fun ad => c_cold e2) (lw_V q2128 q2129 q2130 q153 q2131) rfl rfl nn_cold ⟨Nat.le_of_ble_eq_true rfl, Nat.le_of_ble_eq_true rfl⟩ ⟨by omega, by omega⟩ rfl rfl (Nat.le_of_ble_eq_true rfl) dL_law_1257 ?_
  refine ll_icmp_eqT (tgt := 1531) hX dL_law_1260 (by decide) ?_
  exact ll_widen (by omega) (by omega) (kk Ds Df Vx c Vm2 hJ2)
theorem lw_case_alike {J : gz_S → gz_R → gz_V → Nat → gz_V → Prop} {X : gz_X} {b L N : Nat} {xs : Nat → Int32} {px pm : Nat} {Ds : gz_S} {Df : gz_R} {Vx Vm : gz_V} {c ce sl : Nat} {i : Int32} (hX : lw_ok X b L xs) (htr : (gx_l X).stackTraces = false) (jS : lo_S J) (hop : lo_alike J N) (hJ : J Ds Df Vx c Vm) (hin : ∀ j : Int32, j = 1 ∨ j = 2 ∨ j = 3 ∨ j = 4 ∨ j = 5 → vp_in (i + j) L) (hf : ce + 1000 ≤ 601024 ∧ sl + 24000 ≤ 7293034) (kk : ∀ (Ds2 : gz_S) (Df2 : gz_R) (Vx2 : gz_V) (c2 : Nat) (Vm2 : gz_V), J Ds2 Df2 Vx2 c2 Vm2 → lW X px pm Ds2 Df2 Vx2 Vm2 (ce + 1000) (sl + 24000) 1531 [(3, .int i), (2, .ref pm), (1, .ref px), (0, .ref b)] []) : lW X px pm Ds Df Vx Vm ce sl 1265 [(3, .int i), (2, .ref pm), (1, .ref px), (0, .ref b)] [] := by
  obtain ⟨j97, j95, j96, jfr, jz⟩ := jS _ _ _ _ _ hJ
  obtain ⟨Vm2, r, e1, e2, hJ2⟩ := hop Ds Df Vx c Vm (xs (i + 1).toNatClampNeg) (xs (i + 2).toNatClampNeg) hJ
  refine ll_aload_n (q := 2) hX dL_law_1265 rfl rfl ?_
  refine ll_aload_n (q := 3) hX dL_law_1266 rfl rfl ?_
  refine ll_iload_n (q := 0) hX dL_law_1267 rfl rfl ?_
  refine ll_iconst (v := 1) hX dL_law_1268 gl_c_1 ?_
  refine ll_iadd hX dL_law_1269 ?_
  refine ll_sld hX (hin 1 (by decide)) dL_law_1270 ?_
  refine ll_aload_n (q := 3) hX dL_law_1271 rfl rfl ?_
  refine ll_iload_n (q := 0) hX dL_law_1272 rfl rfl ?_
  refine ll_iconst (v := 2) hX dL_law_1273 gl_c_2 ?_
  refine ll_iadd hX dL_law_1274 ?_
  refine ll_sld hX (hin 2 (by decide)) dL_law_1275 ?_
  refine ll_callX (mc := 0) (ms := 0) (As := [.int (xs (i + 1).toNatClampNeg), .int (xs (i + 2).toNatClampNeg)]) hX (fun ad => c_x0_alike e1) (lw_x0_alike_ q1397) rfl rfl nn_x0_alike ⟨Nat.le_of_ble_eq_true rfl, Nat.le_of_ble_eq_true rfl⟩ ⟨by omega, by omega⟩ rfl rfl (Nat.le_of_ble_eq_true rfl) dL_law_1276 ?_
  refine ll_aload_n (q := 1) hX dL_law_1279 rfl rfl ?_
  refine ll_aload_n (q := 3) hX dL_law_1280 rfl rfl ?_
  refine ll_iload_n (q := 0) hX dL_law_1281 rfl rfl ?_
  refine ll_iconst (v := 1) hX dL_law_1282 gl_c_1 ?_
  refine ll_iadd hX dL_law_1283 ?_
  refine ll_sld hX (hin 1 (by decide)) dL_law_1284 ?_
  refine ll_aload_n (q := 3) hX dL_law_1285 rfl rfl ?_
  refine ll_iload_n (q := 0) hX dL_law_1286 rfl rfl ?_
  refine ll_iconst (v := 2) hX dL_law_1287 gl_c_2 ?_
  refine ll_iadd hX dL_law_1288 ?_
  refine ll_sld hX (hin 2 (by decide)) dL_law_1289 ?_
  refine ll_callM (As := [.int (xs (i + 1).toNatClampNeg), .int (xs (i + 2).toNatClampNeg)]) hX (jS _ _ _ _ _ hJ2).2.2.2.2 (fun ad => c_alike e2) (lw_V q2136 q2137 q2138 q153 q2139) rfl rfl nn_alike ⟨Nat.le_of_ble_eq_true rfl, Nat.le_of_ble_eq_true rfl⟩ ⟨by omega, by omega⟩ rfl rfl (Nat.le_of_ble_eq_true rfl) dL_law_1290 ?_
  refine ll_icmp_eqT (tgt := 1531) hX dL_law_1293 (by decide) ?_
  exact ll_widen (by omega) (by omega) (kk Ds Df Vx c Vm2 hJ2)
theorem lw_case_herd {J : gz_S → gz_R → gz_V → Nat → gz_V → Prop} {X : gz_X} {b L N : Nat} {xs : Nat → Int32} {px pm : Nat} {Ds : gz_S} {Df : gz_R} {Vx Vm : gz_V} {c ce sl : Nat} {i : Int32} (hX : lw_ok X b L xs) (htr : (gx_l X).stackTraces = false) (jS : lo_S J) (hop : lo_herd J N) (hJ : J Ds Df Vx c Vm) (hin : ∀ j : Int32, j = 1 ∨ j = 2 ∨ j = 3 ∨ j = 4 ∨ j = 5 → vp_in (i + j) L) (hf : ce + 1000 ≤ 601024 ∧ sl + 24000 ≤ 7293034) (kk : ∀ (Ds2 : gz_S) (Df2 : gz_R) (Vx2 : gz_V) (c2 : Nat) (Vm2 : gz_V), J Ds2 Df2 Vx2 c2 Vm2 → lW X px pm Ds2 Df2 Vx2 Vm2 (ce + 1000) (sl + 24000) 1531 [(3, .int i), (2, .ref pm), (1, .ref px), (0, .ref b)] []) : lW X px pm Ds Df Vx Vm ce sl 1298 [(3, .int i), (2, .ref pm), (1, .ref px), (0, .ref b)] [] := by
  obtain ⟨j97, j95, j96, jfr, jz⟩ := jS _ _ _ _ _ hJ
  obtain ⟨Vx2, Vm2, r, e1, e2, hJ2⟩ := hop Ds Df Vx c Vm (xs (i + 1).toNatClampNeg) hJ
  refine ll_aload_n (q := 2) hX dL_law_1298 rfl rfl ?_
  refine ll_aload_n (q := 3) hX dL_law_1299 rfl rfl ?_
  refine ll_iload_n (q := 0) hX dL_law_1300 rfl rfl ?_
  refine ll_iconst (v := 1) hX dL_law_1301 gl_c_1 ?_
  refine ll_iadd hX dL_law_1302 ?_
  refine ll_sld hX (hin 1 (by decide)) dL_law_1303 ?_
  refine ll_callX (mc := 0) (ms := 0) (As := [.int (xs (i + 1).toNatClampNeg)]) hX (fun ad => c_x0_herd e1) (lw_x0_herd_ q1420) rfl rfl nn_x0_herd ⟨Nat.le_of_ble_eq_true rfl, Nat.le_of_ble_eq_true rfl⟩ ⟨by omega, by omega⟩ rfl rfl (Nat.le_of_ble_eq_true rfl) dL_law_1304 ?_
  refine ll_aload_n (q := 1) hX dL_law_1307 rfl rfl ?_
  refine ll_aload_n (q := 3) hX dL_law_1308 rfl rfl ?_
  refine ll_iload_n (q := 0) hX dL_law_1309 rfl rfl ?_
  refine ll_iconst (v := 1) hX dL_law_1310 gl_c_1 ?_
  refine ll_iadd hX dL_law_1311 ?_
  refine ll_sld hX (hin 1 (by decide)) dL_law_1312 ?_
  refine ll_callM (As := [.int (xs (i + 1).toNatClampNeg)]) hX (jS _ _ _ _ _ hJ2).2.2.2.2 (fun ad => c_herd e2) (lw_V q2148 q2149 q2150 q153 q2151) rfl rfl nn_herd ⟨Nat.le_of_ble_eq_true rfl, Nat.le_of_ble_eq_true rfl⟩ ⟨by omega, by omega⟩ rfl rfl (Nat.le_of_ble_eq_true rfl) dL_law_1313 ?_
  refine ll_icmp_eqT (tgt := 1531) hX dL_law_1316 (by decide) ?_
  exact ll_widen (by omega) (by omega) (kk Ds Df Vx2 c Vm2 hJ2)
theorem lw_case_pens {J : gz_S → gz_R → gz_V → Nat → gz_V → Prop} {X : gz_X} {b L N : Nat} {xs : Nat → Int32} {px pm : Nat} {Ds : gz_S} {Df : gz_R} {Vx Vm : gz_V} {c ce sl : Nat} {i : Int32} (hX : lw_ok X b L xs) (htr : (gx_l X).stackTraces = false) (jS : lo_S J) (hop : lo_pens J N) (hJ : J Ds Df Vx c Vm) (hin : ∀ j : Int32, j = 1 ∨ j = 2 ∨ j = 3 ∨ j = 4 ∨ j = 5 → vp_in (i + j) L) (hf : ce + 1000 ≤ 601024 ∧ sl + 24000 ≤ 7293034) (kk : ∀ (Ds2 : gz_S) (Df2 : gz_R) (Vx2 : gz_V) (c2 : Nat) (Vm2 : gz_V), J Ds2 Df2 Vx2 c2 Vm2 → lW X px pm Ds2 Df2 Vx2 Vm2 (ce + 1000) (sl + 24000) 1531 [(3, .int i), (2, .ref pm), (1, .ref px), (0, .ref b)] []) : lW X px pm Ds Df Vx Vm ce sl 1321 [(3, .int i), (2, .ref pm), (1, .ref px), (0, .ref b)] [] := by
  obtain ⟨j97, j95, j96, jfr, jz⟩ := jS _ _ _ _ _ hJ
  obtain ⟨Vx2, Vm2, r, e1, e2, hJ2⟩ := hop Ds Df Vx c Vm (xs (i + 1).toNatClampNeg) (xs (i + 2).toNatClampNeg) hJ
  refine ll_aload_n (q := 2) hX dL_law_1321 rfl rfl ?_
  refine ll_aload_n (q := 3) hX dL_law_1322 rfl rfl ?_
  refine ll_iload_n (q := 0) hX dL_law_1323 rfl rfl ?_
  refine ll_iconst (v := 1) hX dL_law_1324 gl_c_1 ?_
  refine ll_iadd hX dL_law_1325 ?_
  refine ll_sld hX (hin 1 (by decide)) dL_law_1326 ?_
  refine ll_aload_n (q := 3) hX dL_law_1327 rfl rfl ?_
  refine ll_iload_n (q := 0) hX dL_law_1328 rfl rfl ?_
  refine ll_iconst (v := 2) hX dL_law_1329 gl_c_2 ?_
  refine ll_iadd hX dL_law_1330 ?_
  refine ll_sld hX (hin 2 (by decide)) dL_law_1331 ?_
  refine ll_callX (mc := 0) (ms := 0) (As := [.int (xs (i + 1).toNatClampNeg), .int (xs (i + 2).toNatClampNeg)]) hX (fun ad => c_x0_pens e1) (lw_x0_pens_ q1424) rfl rfl nn_x0_pens ⟨Nat.le_of_ble_eq_true rfl, Nat.le_of_ble_eq_true rfl⟩ ⟨by omega, by omega⟩ rfl rfl (Nat.le_of_ble_eq_true rfl) dL_law_1332 ?_
  refine ll_aload_n (q := 1) hX dL_law_1335 rfl rfl ?_
  refine ll_aload_n (q := 3) hX dL_law_1336 rfl rfl ?_
  refine ll_iload_n (q := 0) hX dL_law_1337 rfl rfl ?_
  refine ll_iconst (v := 1) hX dL_law_1338 gl_c_1 ?_
  refine ll_iadd hX dL_law_1339 ?_
  refine ll_sld hX (hin 1 (by decide)) dL_law_1340 ?_
  refine ll_aload_n (q := 3) hX dL_law_1341 rfl rfl ?_
  refine ll_iload_n (q := 0) hX dL_law_1342 rfl rfl ?_
  refine ll_iconst (v := 2) hX dL_law_1343 gl_c_2 ?_
  refine ll_iadd hX dL_law_1344 ?_
  refine ll_sld hX (hin 2 (by decide)) dL_law_1345 ?_
  refine ll_callM (As := [.int (xs (i + 1).toNatClampNeg), .int (xs (i + 2).toNatClampNeg)]) hX (jS _ _ _ _ _ hJ2).2.2.2.2 (fun ad => c_pens e2) (lw_V q2152 q2153 q2154 q153 q2155) rfl rfl nn_pens ⟨Nat.le_of_ble_eq_true rfl, Nat.le_of_ble_eq_true rfl⟩ ⟨by omega, by omega⟩ rfl rfl (Nat.le_of_ble_eq_true rfl) dL_law_1346 ?_
  refine ll_icmp_eqT (tgt := 1531) hX dL_law_1349 (by decide) ?_
  exact ll_widen (by omega) (by omega) (kk Ds Df Vx2 c Vm2 hJ2)
theorem lw_case_left {J : gz_S → gz_R → gz_V → Nat → gz_V → Prop} {X : gz_X} {b L N : Nat} {xs : Nat → Int32} {px pm : Nat} {Ds : gz_S} {Df : gz_R} {Vx Vm : gz_V} {c ce sl : Nat} {i : Int32} (hX : lw_ok X b L xs) (htr : (gx_l X).stackTraces = false) (jS : lo_S J) (hop : lo_left J N) (hJ : J Ds Df Vx c Vm) (hin : ∀ j : Int32, j = 1 ∨ j = 2 ∨ j = 3 ∨ j = 4 ∨ j = 5 → vp_in (i + j) L) (hf : ce + 1000 ≤ 601024 ∧ sl + 24000 ≤ 7293034) (kk : ∀ (Ds2 : gz_S) (Df2 : gz_R) (Vx2 : gz_V) (c2 : Nat) (Vm2 : gz_V), J Ds2 Df2 Vx2 c2 Vm2 → lW X px pm Ds2 Df2 Vx2 Vm2 (ce + 1000) (sl + 24000) 1531 [(3, .int i), (2, .ref pm), (1, .ref px), (0, .ref b)] []) : lW X px pm Ds Df Vx Vm ce sl 1354 [(3, .int i), (2, .ref pm), (1, .ref px), (0, .ref b)] [] := by
  obtain ⟨j97, j95, j96, jfr, jz⟩ := jS _ _ _ _ _ hJ
  obtain ⟨Vm2, r, e1, e2, hJ2⟩ := hop Ds Df Vx c Vm (xs (i + 1).toNatClampNeg) (xs (i + 2).toNatClampNeg) hJ
  refine ll_aload_n (q := 2) hX dL_law_1354 rfl rfl ?_
  refine ll_aload_n (q := 3) hX dL_law_1355 rfl rfl ?_
  refine ll_iload_n (q := 0) hX dL_law_1356 rfl rfl ?_
  refine ll_iconst (v := 1) hX dL_law_1357 gl_c_1 ?_
  refine ll_iadd hX dL_law_1358 ?_
  refine ll_sld hX (hin 1 (by decide)) dL_law_1359 ?_
  refine ll_aload_n (q := 3) hX dL_law_1360 rfl rfl ?_
  refine ll_iload_n (q := 0) hX dL_law_1361 rfl rfl ?_
  refine ll_iconst (v := 2) hX dL_law_1362 gl_c_2 ?_
  refine ll_iadd hX dL_law_1363 ?_
  refine ll_sld hX (hin 2 (by decide)) dL_law_1364 ?_
  refine ll_callX (mc := 0) (ms := 0) (As := [.int (xs (i + 1).toNatClampNeg), .int (xs (i + 2).toNatClampNeg)]) hX (fun ad => c_x0_left e1) (lw_x0_left_ q1408) rfl rfl nn_x0_left ⟨Nat.le_of_ble_eq_true rfl, Nat.le_of_ble_eq_true rfl⟩ ⟨by omega, by omega⟩ rfl rfl (Nat.le_of_ble_eq_true rfl) dL_law_1365 ?_
  refine ll_aload_n (q := 1) hX dL_law_1368 rfl rfl ?_
  refine ll_aload_n (q := 3) hX dL_law_1369 rfl rfl ?_
  refine ll_iload_n (q := 0) hX dL_law_1370 rfl rfl ?_
  refine ll_iconst (v := 1) hX dL_law_1371 gl_c_1 ?_
  refine ll_iadd hX dL_law_1372 ?_
  refine ll_sld hX (hin 1 (by decide)) dL_law_1373 ?_
  refine ll_aload_n (q := 3) hX dL_law_1374 rfl rfl ?_
  refine ll_iload_n (q := 0) hX dL_law_1375 rfl rfl ?_
  refine ll_iconst (v := 2) hX dL_law_1376 gl_c_2 ?_
  refine ll_iadd hX dL_law_1377 ?_
  refine ll_sld hX (hin 2 (by decide)) dL_law_1378 ?_
  refine ll_callM (As := [.int (xs (i + 1).toNatClampNeg), .int (xs (i + 2).toNatClampNeg)]) hX (jS _ _ _ _ _ hJ2).2.2.2.2 (fun ad => c_left e2) (lw_V q2160 q2161 q2162 q153 q2163) rfl rfl nn_left ⟨Nat.le_of_ble_eq_true rfl, Nat.le_of_ble_eq_true rfl⟩ ⟨by omega, by omega⟩ rfl rfl (Nat.le_of_ble_eq_true rfl) dL_law_1379 ?_
  refine ll_icmp_eqT (tgt := 1531) hX dL_law_1382 (by decide) ?_
  exact ll_widen (by omega) (by omega) (kk Ds Df Vx c Vm2 hJ2)
theorem lw_case_signs {J : gz_S → gz_R → gz_V → Nat → gz_V → Prop} {X : gz_X} {b L N : Nat} {xs : Nat → Int32} {px pm : Nat} {Ds : gz_S} {Df : gz_R} {Vx Vm : gz_V} {c ce sl : Nat} {i : Int32} (hX : lw_ok X b L xs) (htr : (gx_l X).stackTraces = false) (jS : lo_S J) (hop : lo_signs J N) (hJ : J Ds Df Vx c Vm) (hin : ∀ j : Int32, j = 1 ∨ j = 2 ∨ j = 3 ∨ j = 4 ∨ j = 5 → vp_in (i + j) L) (hf : ce + 1000 ≤ 601024 ∧ sl + 24000 ≤ 7293034) (kk : ∀ (Ds2 : gz_S) (Df2 : gz_R) (Vx2 : gz_V) (c2 : Nat) (Vm2 : gz_V), J Ds2 Df2 Vx2 c2 Vm2 → lW X px pm Ds2 Df2 Vx2 Vm2 (ce + 1000) (sl + 24000) 1531 [(3, .int i), (2, .ref pm), (1, .ref px), (0, .ref b)] []) : lW X px pm Ds Df Vx Vm ce sl 1387 [(3, .int i), (2, .ref pm), (1, .ref px), (0, .ref b)] [] := by
  obtain ⟨j97, j95, j96, jfr, jz⟩ := jS _ _ _ _ _ hJ
  obtain ⟨Vm2, r, e1, e2, hJ2⟩ := hop Ds Df Vx c Vm (xs (i + 1).toNatClampNeg) hJ
  refine ll_aload_n (q := 2) hX dL_law_1387 rfl rfl ?_
  refine ll_aload_n (q := 3) hX dL_law_1388 rfl rfl ?_
  refine ll_iload_n (q := 0) hX dL_law_1389 rfl rfl ?_
  refine ll_iconst (v := 1) hX dL_law_1390 gl_c_1 ?_
  refine ll_iadd hX dL_law_1391 ?_
  refine ll_sld hX (hin 1 (by decide)) dL_law_1392 ?_
  refine ll_callX (mc := 0) (ms := 0) (As := [.int (xs (i + 1).toNatClampNeg)]) hX (fun ad => c_x0_signs e1) (lw_x0_signs_ q1433) rfl rfl nn_x0_signs ⟨Nat.le_of_ble_eq_true rfl, Nat.le_of_ble_eq_true rfl⟩ ⟨by omega, by omega⟩ rfl rfl (Nat.le_of_ble_eq_true rfl) dL_law_1393 ?_
  refine ll_aload_n (q := 1) hX dL_law_1396 rfl rfl ?_
  refine ll_aload_n (q := 3) hX dL_law_1397 rfl rfl ?_
  refine ll_iload_n (q := 0) hX dL_law_1398 rfl rfl ?_
  refine ll_iconst (v := 1) hX dL_law_1399 gl_c_1 ?_
  refine ll_iadd hX dL_law_1400 ?_
  refine ll_sld hX (hin 1 (by decide)) dL_law_1401 ?_
  refine ll_callM (As := [.int (xs (i + 1).toNatClampNeg)]) hX (jS _ _ _ _ _ hJ2).2.2.2.2 (fun ad => c_signs e2) (lw_V q2168 q2169 q2170 q153 q2171) rfl rfl nn_signs ⟨Nat.le_of_ble_eq_true rfl, Nat.le_of_ble_eq_true rfl⟩ ⟨by omega, by omega⟩ rfl rfl (Nat.le_of_ble_eq_true rfl) dL_law_1402 ?_
  refine ll_icmp_eqT (tgt := 1531) hX dL_law_1405 (by decide) ?_
  exact ll_widen (by omega) (by omega) (kk Ds Df Vx c Vm2 hJ2)
theorem lw_case_row {J : gz_S → gz_R → gz_V → Nat → gz_V → Prop} {X : gz_X} {b L N : Nat} {xs : Nat → Int32} {px pm : Nat} {Ds : gz_S} {Df : gz_R} {Vx Vm : gz_V} {c ce sl : Nat} {i : Int32} (hX : lw_ok X b L xs) (htr : (gx_l X).stackTraces = false) (jS : lo_S J) (hop : lo_row J N) (hJ : J Ds Df Vx c Vm) (hin : ∀ j : Int32, j = 1 ∨ j = 2 ∨ j = 3 ∨ j = 4 ∨ j = 5 → vp_in (i + j) L) (hf : ce + 1000 ≤ 601024 ∧ sl + 24000 ≤ 7293034) (kk : ∀ (Ds2 : gz_S) (Df2 : gz_R) (Vx2 : gz_V) (c2 : Nat) (Vm2 : gz_V), J Ds2 Df2 Vx2 c2 Vm2 → lW X px pm Ds2 Df2 Vx2 Vm2 (ce + 1000) (sl + 24000) 1531 [(3, .int i), (2, .ref pm), (1, .ref px), (0, .ref b)] []) : lW X px pm Ds Df Vx Vm ce sl 1410 [(3, .int i), (2, .ref pm), (1, .ref px), (0, .ref b)] [] := by
  obtain ⟨j97, j95, j96, jfr, jz⟩ := jS _ _ _ _ _ hJ
  obtain ⟨Vx2, Vm2, r, e1, e2, hJ2⟩ := hop Ds Df Vx c Vm (xs (i + 1).toNatClampNeg) hJ
  refine ll_aload_n (q := 2) hX dL_law_1410 rfl rfl ?_
  refine ll_aload_n (q := 3) hX dL_law_1411 rfl rfl ?_
  refine ll_iload_n (q := 0) hX dL_law_1412 rfl rfl ?_
  refine ll_iconst (v := 1) hX dL_law_1413 gl_c_1 ?_
  refine ll_iadd hX dL_law_1414 ?_
  refine ll_sld hX (hin 1 (by decide)) dL_law_1415 ?_
  refine ll_callX (mc := 0) (ms := 0) (As := [.int (xs (i + 1).toNatClampNeg)]) hX (fun ad => c_x0_row e1) (lw_x0_row_ q1437) rfl rfl nn_x0_row ⟨Nat.le_of_ble_eq_true rfl, Nat.le_of_ble_eq_true rfl⟩ ⟨by omega, by omega⟩ rfl rfl (Nat.le_of_ble_eq_true rfl) dL_law_1416 ?_
  refine ll_aload_n (q := 1) hX dL_law_1419 rfl rfl ?_
  refine ll_aload_n (q := 3) hX dL_law_1420 rfl rfl ?_
  refine ll_iload_n (q := 0) hX dL_law_1421 rfl rfl ?_
  refine ll_iconst (v := 1) hX dL_law_1422 gl_c_1 ?_
  refine ll_iadd hX dL_law_1423 ?_
  refine ll_sld hX (hin 1 (by decide)) dL_law_1424 ?_
  refine ll_callM (As := [.int (xs (i + 1).toNatClampNeg)]) hX (jS _ _ _ _ _ hJ2).2.2.2.2 (fun ad => c_row e2) (lw_V q2172 q2173 q2174 q153 q2175) rfl rfl nn_row ⟨Nat.le_of_ble_eq_true rfl, Nat.le_of_ble_eq_true rfl⟩ ⟨by omega, by omega⟩ rfl rfl (Nat.le_of_ble_eq_true rfl) dL_law_1425 ?_
  refine ll_icmp_eqT (tgt := 1531) hX dL_law_1428 (by decide) ?_
  exact ll_widen (by omega) (by omega) (kk Ds Df Vx2 c Vm2 hJ2)
theorem lw_case_game {J : gz_S → gz_R → gz_V → Nat → gz_V → Prop} {X : gz_X} {b L N : Nat} {xs : Nat → Int32} {px pm : Nat} {Ds : gz_S} {Df : gz_R} {Vx Vm : gz_V} {c ce sl : Nat} {i : Int32} (hX : lw_ok X b L xs) (htr : (gx_l X).stackTraces = false) (jS : lo_S J) (hop : lo_game J N) (hJ : J Ds Df Vx c Vm) (hin : ∀ j : Int32, j = 1 ∨ j = 2 ∨ j = 3 ∨ j = 4 ∨ j = 5 → vp_in (i + j) L) (hf : ce + 1000 ≤ 601024 ∧ sl + 24000 ≤ 7293034) (kk : ∀ (Ds2 : gz_S) (Df2 : gz_R) (Vx2 : gz_V) (c2 : Nat) (Vm2 : gz_V), J Ds2 Df2 Vx2 c2 Vm2 → lW X px pm Ds2 Df2 Vx2 Vm2 (ce + 1000) (sl + 24000) 1531 [(3, .int i), (2, .ref pm), (1, .ref px), (0, .ref b)] []) : lW X px pm Ds Df Vx Vm ce sl 1433 [(3, .int i), (2, .ref pm), (1, .ref px), (0, .ref b)] [] := by
  obtain ⟨j97, j95, j96, jfr, jz⟩ := jS _ _ _ _ _ hJ
  obtain ⟨Vx2, Vm2, r, e1, e2, hJ2⟩ := hop Ds Df Vx c Vm (xs (i + 1).toNatClampNeg) hJ
  refine ll_aload_n (q := 2) hX dL_law_1433 rfl rfl ?_
  refine ll_aload_n (q := 3) hX dL_law_1434 rfl rfl ?_
  refine ll_iload_n (q := 0) hX dL_law_1435 rfl rfl ?_
  refine ll_iconst (v := 1) hX dL_law_1436 gl_c_1 ?_
  refine ll_iadd hX dL_law_1437 ?_
  refine ll_sld hX (hin 1 (by decide)) dL_law_1438 ?_
  refine ll_callX (mc := 0) (ms := 0) (As := [.int (xs (i + 1).toNatClampNeg)]) hX (fun ad => c_x0_game e1) (lw_x0_game_ q1441) rfl rfl nn_x0_game ⟨Nat.le_of_ble_eq_true rfl, Nat.le_of_ble_eq_true rfl⟩ ⟨by omega, by omega⟩ rfl rfl (Nat.le_of_ble_eq_true rfl) dL_law_1439 ?_
  refine ll_aload_n (q := 1) hX dL_law_1442 rfl rfl ?_
  refine ll_aload_n (q := 3) hX dL_law_1443 rfl rfl ?_
  refine ll_iload_n (q := 0) hX dL_law_1444 rfl rfl ?_
  refine ll_iconst (v := 1) hX dL_law_1445 gl_c_1 ?_
  refine ll_iadd hX dL_law_1446 ?_
  refine ll_sld hX (hin 1 (by decide)) dL_law_1447 ?_
  refine ll_callM (As := [.int (xs (i + 1).toNatClampNeg)]) hX (jS _ _ _ _ _ hJ2).2.2.2.2 (fun ad => c_game e2) (lw_V q2176 q2177 q2178 q153 q2179) rfl rfl nn_game ⟨Nat.le_of_ble_eq_true rfl, Nat.le_of_ble_eq_true rfl⟩ ⟨by omega, by omega⟩ rfl rfl (Nat.le_of_ble_eq_true rfl) dL_law_1448 ?_
  refine ll_icmp_eqT (tgt := 1531) hX dL_law_1451 (by decide) ?_
  exact ll_widen (by omega) (by omega) (kk Ds Df Vx2 c Vm2 hJ2)
theorem lw_case_undo {J : gz_S → gz_R → gz_V → Nat → gz_V → Prop} {X : gz_X} {b L N : Nat} {xs : Nat → Int32} {px pm : Nat} {Ds : gz_S} {Df : gz_R} {Vx Vm : gz_V} {c ce sl : Nat} {i : Int32} (hX : lw_ok X b L xs) (htr : (gx_l X).stackTraces = false) (jS : lo_S J) (hop : lo_undo J N) (hJ : J Ds Df Vx c Vm) (hin : ∀ j : Int32, j = 1 ∨ j = 2 ∨ j = 3 ∨ j = 4 ∨ j = 5 → vp_in (i + j) L) (hf : ce + 1000 ≤ 601024 ∧ sl + 24000 ≤ 7293034) (kk : ∀ (Ds2 : gz_S) (Df2 : gz_R) (Vx2 : gz_V) (c2 : Nat) (Vm2 : gz_V), J Ds2 Df2 Vx2 c2 Vm2 → lW X px pm Ds2 Df2 Vx2 Vm2 (ce + 1000) (sl + 24000) 1531 [(3, .int i), (2, .ref pm), (1, .ref px), (0, .ref b)] []) : lW X px pm Ds Df Vx Vm ce sl 1456 [(3, .int i), (2, .ref pm), (1, .ref px), (0, .ref b)] [] := by
  obtain ⟨j97, j95, j96, jfr, jz⟩ := jS _ _ _ _ _ hJ
  obtain ⟨Vx2, Vm2, r, e1, e2, hJ2⟩ := hop Ds Df Vx c Vm  hJ
  refine ll_aload_n (q := 2) hX dL_law_1456 rfl rfl ?_
  refine ll_callX (mc := 0) (ms := 0) (As := []) hX (fun ad => c_x0_undo e1) (lw_x0_undo_ q1019) rfl rfl nn_x0_undo ⟨Nat.le_of_ble_eq_true rfl, Nat.le_of_ble_eq_true rfl⟩ ⟨by omega, by omega⟩ rfl rfl (Nat.le_of_ble_eq_true rfl) dL_law_1457 ?_
  refine ll_aload_n (q := 1) hX dL_law_1460 rfl rfl ?_
  refine ll_callM (As := []) hX (jS _ _ _ _ _ hJ2).2.2.2.2 (fun ad => c_undo e2) (lw_V q1680 q1681 q1682 q153 q1683) rfl rfl nn_undo ⟨Nat.le_of_ble_eq_true rfl, Nat.le_of_ble_eq_true rfl⟩ ⟨by omega, by omega⟩ rfl rfl (Nat.le_of_ble_eq_true rfl) dL_law_1461 ?_
  refine ll_icmp_eqT (tgt := 1531) hX dL_law_1464 (by decide) ?_
  exact ll_widen (by omega) (by omega) (kk Ds Df Vx2 c Vm2 hJ2)
theorem lw_case_image {J : gz_S → gz_R → gz_V → Nat → gz_V → Prop} {X : gz_X} {b L N : Nat} {xs : Nat → Int32} {px pm : Nat} {Ds : gz_S} {Df : gz_R} {Vx Vm : gz_V} {c ce sl : Nat} {i : Int32} (hX : lw_ok X b L xs) (htr : (gx_l X).stackTraces = false) (jS : lo_S J) (hop : lo_image J N) (hJ : J Ds Df Vx c Vm) (hin : ∀ j : Int32, j = 1 ∨ j = 2 ∨ j = 3 ∨ j = 4 ∨ j = 5 → vp_in (i + j) L) (hf : ce + 1000 ≤ 601024 ∧ sl + 24000 ≤ 7293034) (kk : ∀ (Ds2 : gz_S) (Df2 : gz_R) (Vx2 : gz_V) (c2 : Nat) (Vm2 : gz_V), J Ds2 Df2 Vx2 c2 Vm2 → lW X px pm Ds2 Df2 Vx2 Vm2 (ce + 1000) (sl + 24000) 1531 [(3, .int i), (2, .ref pm), (1, .ref px), (0, .ref b)] []) : lW X px pm Ds Df Vx Vm ce sl 1469 [(3, .int i), (2, .ref pm), (1, .ref px), (0, .ref b)] [] := by
  obtain ⟨j97, j95, j96, jfr, jz⟩ := jS _ _ _ _ _ hJ
  obtain ⟨z, hz⟩ : ∃ z : Int32, (if xs (i + 1).toNatClampNeg = 0 then (0 : Int32) else 1) = z := ⟨_, rfl⟩
  obtain ⟨Vx2, Df2, Vm2, r, e1, e2, hJ2⟩ := hop Ds Df Vx c Vm z (by rw [← hz]; split; exact Or.inl rfl; exact Or.inr rfl) hJ
  refine ll_aload_n (q := 2) hX dL_law_1469 rfl rfl ?_
  refine ll_aload_n (q := 3) hX dL_law_1470 rfl rfl ?_
  refine ll_iload_n (q := 0) hX dL_law_1471 rfl rfl ?_
  refine ll_iconst (v := 1) hX dL_law_1472 gl_c_1 ?_
  refine ll_iadd hX dL_law_1473 ?_
  refine ll_sld hX (hin 1 (by decide)) dL_law_1474 ?_
  refine ll_flag (z := z) hX hz dL_law_1475 (by decide) dL_law_1478 dL_law_1479 (by decide) dL_law_1482 ?_
  refine ll_callX (mc := 0) (ms := 0) (As := [.int z]) hX (fun ad => c_x0_image e1) (lw_x0_image_ q1449) rfl rfl nn_x0_image ⟨Nat.le_of_ble_eq_true rfl, Nat.le_of_ble_eq_true rfl⟩ ⟨by omega, by omega⟩ rfl rfl (Nat.le_of_ble_eq_true rfl) dL_law_1483 ?_
  refine ll_aload_n (q := 1) hX dL_law_1486 rfl rfl ?_
  refine ll_aload_n (q := 3) hX dL_law_1487 rfl rfl ?_
  refine ll_iload_n (q := 0) hX dL_law_1488 rfl rfl ?_
  refine ll_iconst (v := 1) hX dL_law_1489 gl_c_1 ?_
  refine ll_iadd hX dL_law_1490 ?_
  refine ll_sld hX (hin 1 (by decide)) dL_law_1491 ?_
  refine ll_flag (z := z) hX hz dL_law_1492 (by decide) dL_law_1495 dL_law_1496 (by decide) dL_law_1499 ?_
  refine ll_callM (As := [.int z]) hX (jS _ _ _ _ _ hJ2).2.2.2.2 (fun ad => c_image e2) (lw_V q2184 q2185 q2186 q153 q2187) rfl rfl nn_image ⟨Nat.le_of_ble_eq_true rfl, Nat.le_of_ble_eq_true rfl⟩ ⟨by omega, by omega⟩ rfl rfl (Nat.le_of_ble_eq_true rfl) dL_law_1500 ?_
  refine ll_icmp_eqT (tgt := 1531) hX dL_law_1503 (by decide) ?_
  exact ll_widen (by omega) (by omega) (kk Ds Df2 Vx2 c Vm2 hJ2)
theorem lw_case_look {J : gz_S → gz_R → gz_V → Nat → gz_V → Prop} {X : gz_X} {b L N : Nat} {xs : Nat → Int32} {px pm : Nat} {Ds : gz_S} {Df : gz_R} {Vx Vm : gz_V} {c ce sl : Nat} {i : Int32} (hX : lw_ok X b L xs) (htr : (gx_l X).stackTraces = false) (jS : lo_S J) (hop : lo_look J N) (hJ : J Ds Df Vx c Vm) (hin : ∀ j : Int32, j = 1 ∨ j = 2 ∨ j = 3 ∨ j = 4 ∨ j = 5 → vp_in (i + j) L) (hf : ce + 1000 ≤ 601024 ∧ sl + 24000 ≤ 7293034) (kk : ∀ (Ds2 : gz_S) (Df2 : gz_R) (Vx2 : gz_V) (c2 : Nat) (Vm2 : gz_V), J Ds2 Df2 Vx2 c2 Vm2 → lW X px pm Ds2 Df2 Vx2 Vm2 (ce + 1000) (sl + 24000) 1531 [(3, .int i), (2, .ref pm), (1, .ref px), (0, .ref b)] []) : lW X px pm Ds Df Vx Vm ce sl 1508 [(3, .int i), (2, .ref pm), (1, .ref px), (0, .ref b)] [] := by
  obtain ⟨j97, j95, j96, jfr, jz⟩ := jS _ _ _ _ _ hJ
  obtain ⟨Vm2, r, e1, e2, hJ2⟩ := hop Ds Df Vx c Vm (xs (i + 1).toNatClampNeg) hJ
  refine ll_aload_n (q := 2) hX dL_law_1508 rfl rfl ?_
  refine ll_aload_n (q := 3) hX dL_law_1509 rfl rfl ?_
  refine ll_iload_n (q := 0) hX dL_law_1510 rfl rfl ?_
  refine ll_iconst (v := 1) hX dL_law_1511 gl_c_1 ?_
  refine ll_iadd hX dL_law_1512 ?_
  refine ll_sld hX (hin 1 (by decide)) dL_law_1513 ?_
  refine ll_callX (mc := 0) (ms := 0) (As := [.int (xs (i + 1).toNatClampNeg)]) hX (fun ad => c_x0_look e1) (lw_x0_look_ q1462) rfl rfl nn_x0_look ⟨Nat.le_of_ble_eq_true rfl, Nat.le_of_ble_eq_true rfl⟩ ⟨by omega, by omega⟩ rfl rfl (Nat.le_of_ble_eq_true rfl) dL_law_1514 ?_
  refine ll_aload_n (q := 1) hX dL_law_1517 rfl rfl ?_
  refine ll_aload_n (q := 3) hX dL_law_1518 rfl rfl ?_
  refine ll_iload_n (q := 0) hX dL_law_1519 rfl rfl ?_
  refine ll_iconst (v := 1) hX dL_law_1520 gl_c_1 ?_
  refine ll_iadd hX dL_law_1521 ?_
  refine ll_sld hX (hin 1 (by decide)) dL_law_1522 ?_
  refine ll_callM (As := [.int (xs (i + 1).toNatClampNeg)]) hX (jS _ _ _ _ _ hJ2).2.2.2.2 (fun ad => c_look e2) (lw_V q2204 q2205 q2206 q153 q2207) rfl rfl nn_look ⟨Nat.le_of_ble_eq_true rfl, Nat.le_of_ble_eq_true rfl⟩ ⟨by omega, by omega⟩ rfl rfl (Nat.le_of_ble_eq_true rfl) dL_law_1523 ?_
  refine ll_icmp_eqT (tgt := 1531) hX dL_law_1526 (by decide) ?_
  exact ll_widen (by omega) (by omega) (kk Ds Df Vx c Vm2 hJ2)
