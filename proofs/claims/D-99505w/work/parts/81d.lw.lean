/-! THE LAW's cases. Printed by wip/D-99505w/gen/mklaw.py -/
set_option maxRecDepth 100000
theorem lw_case_state {J : gz_S → gz_R → gz_V → Nat → gz_V → Prop} {X : gz_X} {b L N : Nat} {xs : Nat → Int32} {px pm : Nat} {Ds : gz_S} {Df : gz_R} {Vx Vm : gz_V} {c ce sl : Nat} {i : Int32} (hX : lw_ok X b L xs) (htr : (gx_l X).stackTraces = false) (jS : lo_S J) (hop : lo_state J N) (hJ : J Ds Df Vx c Vm) (hin : ∀ j : Int32, j = 1 ∨ j = 2 ∨ j = 3 ∨ j = 4 ∨ j = 5 → vp_in (i + j) L) (hf : ce + 1000 ≤ 601024 ∧ sl + 24000 ≤ 7293034) (kk : ∀ (Ds2 : gz_S) (Df2 : gz_R) (Vx2 : gz_V) (c2 : Nat) (Vm2 : gz_V), J Ds2 Df2 Vx2 c2 Vm2 → lW X px pm Ds2 Df2 Vx2 Vm2 (ce + 1000) (sl + 24000) 1531 [(3, .int i), (2, .ref pm), (1, .ref px), (0, .ref b)] []) : lW X px pm Ds Df Vx Vm ce sl 212 [(3, .int i), (2, .ref pm), (1, .ref px), (0, .ref b)] [] := by
  obtain ⟨j97, j95, j96, jfr, jz⟩ := jS _ _ _ _ _ hJ
  obtain ⟨Vx2, Vm2, r, e1, e2, hJ2⟩ := hop Ds Df Vx c Vm (xs (i + 1).toNatClampNeg) hJ
  refine ll_aload_n (q := 2) hX dL_law_212 rfl rfl ?_
  refine ll_aload_n (q := 3) hX dL_law_213 rfl rfl ?_
  refine ll_iload_n (q := 0) hX dL_law_214 rfl rfl ?_
  refine ll_iconst (v := 1) hX dL_law_215 gl_c_1 ?_
  refine ll_iadd hX dL_law_216 ?_
  refine ll_sld hX (hin 1 (by decide)) dL_law_217 ?_
  refine ll_callX (mc := 0) (ms := 0) (As := [.int (xs (i + 1).toNatClampNeg)]) hX (fun ad => c_x0_state e1) (lw_x0_state_ q1039) rfl rfl nn_x0_state ⟨Nat.le_of_ble_eq_true rfl, Nat.le_of_ble_eq_true rfl⟩ ⟨by omega, by omega⟩ rfl rfl (Nat.le_of_ble_eq_true rfl) dL_law_218 ?_
  refine ll_aload_n (q := 1) hX dL_law_221 rfl rfl ?_
  refine ll_aload_n (q := 3) hX dL_law_222 rfl rfl ?_
  refine ll_iload_n (q := 0) hX dL_law_223 rfl rfl ?_
  refine ll_iconst (v := 1) hX dL_law_224 gl_c_1 ?_
  refine ll_iadd hX dL_law_225 ?_
  refine ll_sld hX (hin 1 (by decide)) dL_law_226 ?_
  refine ll_callM (As := [.int (xs (i + 1).toNatClampNeg)]) hX (jS _ _ _ _ _ hJ2).2.2.2.2 (fun ad => c_state e2) (lw_V q1684 q1685 q1686 q153 q1687) rfl rfl nn_state ⟨Nat.le_of_ble_eq_true rfl, Nat.le_of_ble_eq_true rfl⟩ ⟨by omega, by omega⟩ rfl rfl (Nat.le_of_ble_eq_true rfl) dL_law_227 ?_
  refine ll_icmp_eqT (tgt := 1531) hX dL_law_230 (by decide) ?_
  exact ll_widen (by omega) (by omega) (kk Ds Df Vx2 c Vm2 hJ2)
theorem lw_case_person {J : gz_S → gz_R → gz_V → Nat → gz_V → Prop} {X : gz_X} {b L N : Nat} {xs : Nat → Int32} {px pm : Nat} {Ds : gz_S} {Df : gz_R} {Vx Vm : gz_V} {c ce sl : Nat} {i : Int32} (hX : lw_ok X b L xs) (htr : (gx_l X).stackTraces = false) (jS : lo_S J) (hop : lo_person J N) (hJ : J Ds Df Vx c Vm) (hin : ∀ j : Int32, j = 1 ∨ j = 2 ∨ j = 3 ∨ j = 4 ∨ j = 5 → vp_in (i + j) L) (hf : ce + 1000 ≤ 601024 ∧ sl + 24000 ≤ 7293034) (kk : ∀ (Ds2 : gz_S) (Df2 : gz_R) (Vx2 : gz_V) (c2 : Nat) (Vm2 : gz_V), J Ds2 Df2 Vx2 c2 Vm2 → lW X px pm Ds2 Df2 Vx2 Vm2 (ce + 1000) (sl + 24000) 1531 [(3, .int i), (2, .ref pm), (1, .ref px), (0, .ref b)] []) : lW X px pm Ds Df Vx Vm ce sl 235 [(3, .int i), (2, .ref pm), (1, .ref px), (0, .ref b)] [] := by
  obtain ⟨j97, j95, j96, jfr, jz⟩ := jS _ _ _ _ _ hJ
  obtain ⟨Vx2, Vm2, r, e1, e2, hJ2⟩ := hop Ds Df Vx c Vm (xs (i + 1).toNatClampNeg) (xs (i + 2).toNatClampNeg) hJ
  refine ll_aload_n (q := 2) hX dL_law_235 rfl rfl ?_
  refine ll_aload_n (q := 3) hX dL_law_236 rfl rfl ?_
  refine ll_iload_n (q := 0) hX dL_law_237 rfl rfl ?_
  refine ll_iconst (v := 1) hX dL_law_238 gl_c_1 ?_
  refine ll_iadd hX dL_law_239 ?_
  refine ll_sld hX (hin 1 (by decide)) dL_law_240 ?_
  refine ll_aload_n (q := 3) hX dL_law_241 rfl rfl ?_
  refine ll_iload_n (q := 0) hX dL_law_242 rfl rfl ?_
  refine ll_iconst (v := 2) hX dL_law_243 gl_c_2 ?_
  refine ll_iadd hX dL_law_244 ?_
  refine ll_sld hX (hin 2 (by decide)) dL_law_245 ?_
  refine ll_callX (mc := 0) (ms := 0) (As := [.int (xs (i + 1).toNatClampNeg), .int (xs (i + 2).toNatClampNeg)]) hX (fun ad => c_x0_person e1) (lw_x0_person_ q1043) rfl rfl nn_x0_person ⟨Nat.le_of_ble_eq_true rfl, Nat.le_of_ble_eq_true rfl⟩ ⟨by omega, by omega⟩ rfl rfl (Nat.le_of_ble_eq_true rfl) dL_law_246 ?_
  refine ll_aload_n (q := 1) hX dL_law_249 rfl rfl ?_
  refine ll_aload_n (q := 3) hX dL_law_250 rfl rfl ?_
  refine ll_iload_n (q := 0) hX dL_law_251 rfl rfl ?_
  refine ll_iconst (v := 1) hX dL_law_252 gl_c_1 ?_
  refine ll_iadd hX dL_law_253 ?_
  refine ll_sld hX (hin 1 (by decide)) dL_law_254 ?_
  refine ll_aload_n (q := 3) hX dL_law_255 rfl rfl ?_
  refine ll_iload_n (q := 0) hX dL_law_256 rfl rfl ?_
  refine ll_iconst (v := 2) hX dL_law_257 gl_c_2 ?_
  refine ll_iadd hX dL_law_258 ?_
  refine ll_sld hX (hin 2 (by decide)) dL_law_259 ?_
  refine ll_callM (As := [.int (xs (i + 1).toNatClampNeg), .int (xs (i + 2).toNatClampNeg)]) hX (jS _ _ _ _ _ hJ2).2.2.2.2 (fun ad => c_person e2) (lw_V q1688 q1689 q1690 q153 q1691) rfl rfl nn_person ⟨Nat.le_of_ble_eq_true rfl, Nat.le_of_ble_eq_true rfl⟩ ⟨by omega, by omega⟩ rfl rfl (Nat.le_of_ble_eq_true rfl) dL_law_260 ?_
  refine ll_icmp_eqT (tgt := 1531) hX dL_law_263 (by decide) ?_
  exact ll_widen (by omega) (by omega) (kk Ds Df Vx2 c Vm2 hJ2)
theorem lw_case_horse {J : gz_S → gz_R → gz_V → Nat → gz_V → Prop} {X : gz_X} {b L N : Nat} {xs : Nat → Int32} {px pm : Nat} {Ds : gz_S} {Df : gz_R} {Vx Vm : gz_V} {c ce sl : Nat} {i : Int32} (hX : lw_ok X b L xs) (htr : (gx_l X).stackTraces = false) (jS : lo_S J) (hop : lo_horse J N) (hJ : J Ds Df Vx c Vm) (hin : ∀ j : Int32, j = 1 ∨ j = 2 ∨ j = 3 ∨ j = 4 ∨ j = 5 → vp_in (i + j) L) (hf : ce + 1000 ≤ 601024 ∧ sl + 24000 ≤ 7293034) (kk : ∀ (Ds2 : gz_S) (Df2 : gz_R) (Vx2 : gz_V) (c2 : Nat) (Vm2 : gz_V), J Ds2 Df2 Vx2 c2 Vm2 → lW X px pm Ds2 Df2 Vx2 Vm2 (ce + 1000) (sl + 24000) 1531 [(3, .int i), (2, .ref pm), (1, .ref px), (0, .ref b)] []) : lW X px pm Ds Df Vx Vm ce sl 268 [(3, .int i), (2, .ref pm), (1, .ref px), (0, .ref b)] [] := by
  obtain ⟨j97, j95, j96, jfr, jz⟩ := jS _ _ _ _ _ hJ
  obtain ⟨Vx2, Vm2, r, e1, e2, hJ2⟩ := hop Ds Df Vx c Vm (xs (i + 1).toNatClampNeg) (xs (i + 2).toNatClampNeg) (xs (i + 3).toNatClampNeg) hJ
  refine ll_aload_n (q := 2) hX dL_law_268 rfl rfl ?_
  refine ll_aload_n (q := 3) hX dL_law_269 rfl rfl ?_
  refine ll_iload_n (q := 0) hX dL_law_270 rfl rfl ?_
  refine ll_iconst (v := 1) hX dL_law_271 gl_c_1 ?_
  refine ll_iadd hX dL_law_272 ?_
  refine ll_sld hX (hin 1 (by decide)) dL_law_273 ?_
  refine ll_aload_n (q := 3) hX dL_law_274 rfl rfl ?_
  refine ll_iload_n (q := 0) hX dL_law_275 rfl rfl ?_
  refine ll_iconst (v := 2) hX dL_law_276 gl_c_2 ?_
  refine ll_iadd hX dL_law_277 ?_
  refine ll_sld hX (hin 2 (by decide)) dL_law_278 ?_
  refine ll_aload_n (q := 3) hX dL_law_279 rfl rfl ?_
  refine ll_iload_n (q := 0) hX dL_law_280 rfl rfl ?_
  refine ll_iconst (v := 3) hX dL_law_281 gl_c_3 ?_
  refine ll_iadd hX dL_law_282 ?_
  refine ll_sld hX (hin 3 (by decide)) dL_law_283 ?_
  refine ll_callX (mc := 0) (ms := 0) (As := [.int (xs (i + 1).toNatClampNeg), .int (xs (i + 2).toNatClampNeg), .int (xs (i + 3).toNatClampNeg)]) hX (fun ad => c_x0_horse e1) (lw_x0_horse_ q1055) rfl rfl nn_x0_horse ⟨Nat.le_of_ble_eq_true rfl, Nat.le_of_ble_eq_true rfl⟩ ⟨by omega, by omega⟩ rfl rfl (Nat.le_of_ble_eq_true rfl) dL_law_284 ?_
  refine ll_aload_n (q := 1) hX dL_law_287 rfl rfl ?_
  refine ll_aload_n (q := 3) hX dL_law_288 rfl rfl ?_
  refine ll_iload_n (q := 0) hX dL_law_289 rfl rfl ?_
  refine ll_iconst (v := 1) hX dL_law_290 gl_c_1 ?_
  refine ll_iadd hX dL_law_291 ?_
  refine ll_sld hX (hin 1 (by decide)) dL_law_292 ?_
  refine ll_aload_n (q := 3) hX dL_law_293 rfl rfl ?_
  refine ll_iload_n (q := 0) hX dL_law_294 rfl rfl ?_
  refine ll_iconst (v := 2) hX dL_law_295 gl_c_2 ?_
  refine ll_iadd hX dL_law_296 ?_
  refine ll_sld hX (hin 2 (by decide)) dL_law_297 ?_
  refine ll_aload_n (q := 3) hX dL_law_298 rfl rfl ?_
  refine ll_iload_n (q := 0) hX dL_law_299 rfl rfl ?_
  refine ll_iconst (v := 3) hX dL_law_300 gl_c_3 ?_
  refine ll_iadd hX dL_law_301 ?_
  refine ll_sld hX (hin 3 (by decide)) dL_law_302 ?_
  refine ll_callM (As := [.int (xs (i + 1).toNatClampNeg), .int (xs (i + 2).toNatClampNeg), .int (xs (i + 3).toNatClampNeg)]) hX (jS _ _ _ _ _ hJ2).2.2.2.2 (fun ad => c_horse e2) (lw_V q1704 q1705 q1706 q153 q1707) rfl rfl nn_horse ⟨Nat.le_of_ble_eq_true rfl, Nat.le_of_ble_eq_true rfl⟩ ⟨by omega, by omega⟩ rfl rfl (Nat.le_of_ble_eq_true rfl) dL_law_303 ?_
  refine ll_icmp_eqT (tgt := 1531) hX dL_law_306 (by decide) ?_
  exact ll_widen (by omega) (by omega) (kk Ds Df Vx2 c Vm2 hJ2)
theorem lw_case_set {J : gz_S → gz_R → gz_V → Nat → gz_V → Prop} {X : gz_X} {b L N : Nat} {xs : Nat → Int32} {px pm : Nat} {Ds : gz_S} {Df : gz_R} {Vx Vm : gz_V} {c ce sl : Nat} {i : Int32} (hX : lw_ok X b L xs) (htr : (gx_l X).stackTraces = false) (jS : lo_S J) (hop : lo_set J N) (hJ : J Ds Df Vx c Vm) (hin : ∀ j : Int32, j = 1 ∨ j = 2 ∨ j = 3 ∨ j = 4 ∨ j = 5 → vp_in (i + j) L) (hf : ce + 1000 ≤ 601024 ∧ sl + 24000 ≤ 7293034) (kk : ∀ (Ds2 : gz_S) (Df2 : gz_R) (Vx2 : gz_V) (c2 : Nat) (Vm2 : gz_V), J Ds2 Df2 Vx2 c2 Vm2 → lW X px pm Ds2 Df2 Vx2 Vm2 (ce + 1000) (sl + 24000) 1531 [(3, .int i), (2, .ref pm), (1, .ref px), (0, .ref b)] []) : lW X px pm Ds Df Vx Vm ce sl 311 [(3, .int i), (2, .ref pm), (1, .ref px), (0, .ref b)] [] := by
  obtain ⟨j97, j95, j96, jfr, jz⟩ := jS _ _ _ _ _ hJ
  obtain ⟨Vx2, Vm2, r, e1, e2, hJ2⟩ := hop Ds Df Vx c Vm (xs (i + 1).toNatClampNeg) (xs (i + 2).toNatClampNeg) (xs (i + 3).toNatClampNeg) hJ
  refine ll_aload_n (q := 2) hX dL_law_311 rfl rfl ?_
  refine ll_aload_n (q := 3) hX dL_law_312 rfl rfl ?_
  refine ll_iload_n (q := 0) hX dL_law_313 rfl rfl ?_
  refine ll_iconst (v := 1) hX dL_law_314 gl_c_1 ?_
  refine ll_iadd hX dL_law_315 ?_
  refine ll_sld hX (hin 1 (by decide)) dL_law_316 ?_
  refine ll_aload_n (q := 3) hX dL_law_317 rfl rfl ?_
  refine ll_iload_n (q := 0) hX dL_law_318 rfl rfl ?_
  refine ll_iconst (v := 2) hX dL_law_319 gl_c_2 ?_
  refine ll_iadd hX dL_law_320 ?_
  refine ll_sld hX (hin 2 (by decide)) dL_law_321 ?_
  refine ll_aload_n (q := 3) hX dL_law_322 rfl rfl ?_
  refine ll_iload_n (q := 0) hX dL_law_323 rfl rfl ?_
  refine ll_iconst (v := 3) hX dL_law_324 gl_c_3 ?_
  refine ll_iadd hX dL_law_325 ?_
  refine ll_sld hX (hin 3 (by decide)) dL_law_326 ?_
  refine ll_callX (mc := 0) (ms := 0) (As := [.int (xs (i + 1).toNatClampNeg), .int (xs (i + 2).toNatClampNeg), .int (xs (i + 3).toNatClampNeg)]) hX (fun ad => c_x0_set e1) (lw_x0_set_ q1064) rfl rfl nn_x0_set ⟨Nat.le_of_ble_eq_true rfl, Nat.le_of_ble_eq_true rfl⟩ ⟨by omega, by omega⟩ rfl rfl (Nat.le_of_ble_eq_true rfl) dL_law_327 ?_
  refine ll_aload_n (q := 1) hX dL_law_330 rfl rfl ?_
  refine ll_aload_n (q := 3) hX dL_law_331 rfl rfl ?_
  refine ll_iload_n (q := 0) hX dL_law_332 rfl rfl ?_
  refine ll_iconst (v := 1) hX dL_law_333 gl_c_1 ?_
  refine ll_iadd hX dL_law_334 ?_
  refine ll_sld hX (hin 1 (by decide)) dL_law_335 ?_
  refine ll_aload_n (q := 3) hX dL_law_336 rfl rfl ?_
  refine ll_iload_n (q := 0) hX dL_law_337 rfl rfl ?_
  refine ll_iconst (v := 2) hX dL_law_338 gl_c_2 ?_
  refine ll_iadd hX dL_law_339 ?_
  refine ll_sld hX (hin 2 (by decide)) dL_law_340 ?_
  refine ll_aload_n (q := 3) hX dL_law_341 rfl rfl ?_
  refine ll_iload_n (q := 0) hX dL_law_342 rfl rfl ?_
  refine ll_iconst (v := 3) hX dL_law_343 gl_c_3 ?_
  refine ll_iadd hX dL_law_344 ?_
  refine ll_sld hX (hin 3 (by decide)) dL_law_345 ?_
  refine ll_callM (As := [.int (xs (i + 1).toNatClampNeg), .int (xs (i + 2).toNatClampNeg), .int (xs (i + 3).toNatClampNeg)]) hX (jS _ _ _ _ _ hJ2).2.2.2.2 (fun ad => c_set e2) (lw_V q1712 q1713 q1714 q153 q1715) rfl rfl nn_set ⟨Nat.le_of_ble_eq_true rfl, Nat.le_of_ble_eq_true rfl⟩ ⟨by omega, by omega⟩ rfl rfl (Nat.le_of_ble_eq_true rfl) dL_law_346 ?_
  refine ll_icmp_eqT (tgt := 1531) hX dL_law_349 (by decide) ?_
  exact ll_widen (by omega) (by omega) (kk Ds Df Vx2 c Vm2 hJ2)
theorem lw_case_buys {J : gz_S → gz_R → gz_V → Nat → gz_V → Prop} {X : gz_X} {b L N : Nat} {xs : Nat → Int32} {px pm : Nat} {Ds : gz_S} {Df : gz_R} {Vx Vm : gz_V} {c ce sl : Nat} {i : Int32} (hX : lw_ok X b L xs) (htr : (gx_l X).stackTraces = false) (jS : lo_S J) (hop : lo_buys J N) (hJ : J Ds Df Vx c Vm) (hin : ∀ j : Int32, j = 1 ∨ j = 2 ∨ j = 3 ∨ j = 4 ∨ j = 5 → vp_in (i + j) L) (hf : ce + 1000 ≤ 601024 ∧ sl + 24000 ≤ 7293034) (kk : ∀ (Ds2 : gz_S) (Df2 : gz_R) (Vx2 : gz_V) (c2 : Nat) (Vm2 : gz_V), J Ds2 Df2 Vx2 c2 Vm2 → lW X px pm Ds2 Df2 Vx2 Vm2 (ce + 1000) (sl + 24000) 1531 [(3, .int i), (2, .ref pm), (1, .ref px), (0, .ref b)] []) : lW X px pm Ds Df Vx Vm ce sl 354 [(3, .int i), (2, .ref pm), (1, .ref px), (0, .ref b)] [] := by
  obtain ⟨j97, j95, j96, jfr, jz⟩ := jS _ _ _ _ _ hJ
  obtain ⟨Vx2, Df2, Vm2, r, e1, e2, hJ2⟩ := hop Ds Df Vx c Vm (xs (i + 1).toNatClampNeg) (xs (i + 2).toNatClampNeg) (xs (i + 3).toNatClampNeg) (xs (i + 4).toNatClampNeg) hJ
  refine ll_aload_n (q := 2) hX dL_law_354 rfl rfl ?_
  refine ll_aload_n (q := 3) hX dL_law_355 rfl rfl ?_
  refine ll_iload_n (q := 0) hX dL_law_356 rfl rfl ?_
  refine ll_iconst (v := 1) hX dL_law_357 gl_c_1 ?_
  refine ll_iadd hX dL_law_358 ?_
  refine ll_sld hX (hin 1 (by decide)) dL_law_359 ?_
  refine ll_aload_n (q := 3) hX dL_law_360 rfl rfl ?_
  refine ll_iload_n (q := 0) hX dL_law_361 rfl rfl ?_
  refine ll_iconst (v := 2) hX dL_law_362 gl_c_2 ?_
  refine ll_iadd hX dL_law_363 ?_
  refine ll_sld hX (hin 2 (by decide)) dL_law_364 ?_
  refine ll_aload_n (q := 3) hX dL_law_365 rfl rfl ?_
  refine ll_iload_n (q := 0) hX dL_law_366 rfl rfl ?_
  refine ll_iconst (v := 3) hX dL_law_367 gl_c_3 ?_
  refine ll_iadd hX dL_law_368 ?_
  refine ll_sld hX (hin 3 (by decide)) dL_law_369 ?_
  refine ll_aload_n (q := 3) hX dL_law_370 rfl rfl ?_
  refine ll_iload_n (q := 0) hX dL_law_371 rfl rfl ?_
  refine ll_iconst (v := 4) hX dL_law_372 gl_c_4 ?_
  refine ll_iadd hX dL_law_373 ?_
  refine ll_sld hX (hin 4 (by decide)) dL_law_374 ?_
  refine ll_callX (mc := 0) (ms := 0) (As := [.int (xs (i + 1).toNatClampNeg), .int (xs (i + 2).toNatClampNeg), .int (xs (i + 3).toNatClampNeg), .int (xs (i + 4).toNatClampNeg)]) hX (fun ad => c_x0_buys e1) (lw_x0_buys_ q1076) rfl rfl nn_x0_buys ⟨Nat.le_of_ble_eq_true rfl, Nat.le_of_ble_eq_true rfl⟩ ⟨by omega, by omega⟩ rfl rfl (Nat.le_of_ble_eq_true rfl) dL_law_375 ?_
  refine ll_aload_n (q := 1) hX dL_law_378 rfl rfl ?_
  refine ll_aload_n (q := 3) hX dL_law_379 rfl rfl ?_
  refine ll_iload_n (q := 0) hX dL_law_380 rfl rfl ?_
  refine ll_iconst (v := 1) hX dL_law_381 gl_c_1 ?_
  refine ll_iadd hX dL_law_382 ?_
  refine ll_sld hX (hin 1 (by decide)) dL_law_383 ?_
  refine ll_aload_n (q := 3) hX dL_law_384 rfl rfl ?_
  refine ll_iload_n (q := 0) hX dL_law_385 rfl rfl ?_
  refine ll_iconst (v := 2) hX dL_law_386 gl_c_2 ?_
  refine ll_iadd hX dL_law_387 ?_
  refine ll_sld hX (hin 2 (by decide)) dL_law_388 ?_
  refine ll_aload_n (q := 3) hX dL_law_389 rfl rfl ?_
  refine ll_iload_n (q := 0) hX dL_law_390 rfl rfl ?_
  refine ll_iconst (v := 3) hX dL_law_391 gl_c_3 ?_
  refine ll_iadd hX dL_law_392 ?_
  refine ll_sld hX (hin 3 (by decide)) dL_law_393 ?_
  refine ll_aload_n (q := 3) hX dL_law_394 rfl rfl ?_
  refine ll_iload_n (q := 0) hX dL_law_395 rfl rfl ?_
  refine ll_iconst (v := 4) hX dL_law_396 gl_c_4 ?_
  refine ll_iadd hX dL_law_397 ?_
  refine ll_sld hX (hin 4 (by decide)) dL_law_398 ?_
  refine ll_callM (As := [.int (xs (i + 1).toNatClampNeg), .int (xs (i + 2).toNatClampNeg), .int (xs (i + 3).toNatClampNeg), .int (xs (i + 4).toNatClampNeg)]) hX (jS _ _ _ _ _ hJ2).2.2.2.2 (fun ad => c_buys e2) (lw_V q1872 q1873 q1874 q153 q1875) rfl rfl nn_buys ⟨Nat.le_of_ble_eq_true rfl, Nat.le_of_ble_eq_true rfl⟩ ⟨by omega, by omega⟩ rfl rfl (Nat.le_of_ble_eq_true rfl) dL_law_399 ?_
  refine ll_icmp_eqT (tgt := 1531) hX dL_law_402 (by decide) ?_
  exact ll_widen (by omega) (by omega) (kk Ds Df2 Vx2 c Vm2 hJ2)
theorem lw_case_clasp {J : gz_S → gz_R → gz_V → Nat → gz_V → Prop} {X : gz_X} {b L N : Nat} {xs : Nat → Int32} {px pm : Nat} {Ds : gz_S} {Df : gz_R} {Vx Vm : gz_V} {c ce sl : Nat} {i : Int32} (hX : lw_ok X b L xs) (htr : (gx_l X).stackTraces = false) (jS : lo_S J) (hop : lo_clasp J N) (hJ : J Ds Df Vx c Vm) (hin : ∀ j : Int32, j = 1 ∨ j = 2 ∨ j = 3 ∨ j = 4 ∨ j = 5 → vp_in (i + j) L) (hf : ce + 1000 ≤ 601024 ∧ sl + 24000 ≤ 7293034) (kk : ∀ (Ds2 : gz_S) (Df2 : gz_R) (Vx2 : gz_V) (c2 : Nat) (Vm2 : gz_V), J Ds2 Df2 Vx2 c2 Vm2 → lW X px pm Ds2 Df2 Vx2 Vm2 (ce + 1000) (sl + 24000) 1531 [(3, .int i), (2, .ref pm), (1, .ref px), (0, .ref b)] []) : lW X px pm Ds Df Vx Vm ce sl 407 [(3, .int i), (2, .ref pm), (1, .ref px), (0, .ref b)] [] := by
  obtain ⟨j97, j95, j96, jfr, jz⟩ := jS _ _ _ _ _ hJ
  obtain ⟨Vx2, Df2, Vm2, r, e1, e2, hJ2⟩ := hop Ds Df Vx c Vm (xs (i + 1).toNatClampNeg) (xs (i + 2).toNatClampNeg) (xs (i + 3).toNatClampNeg) hJ
  refine ll_aload_n (q := 2) hX dL_law_407 rfl rfl ?_
  refine ll_aload_n (q := 3) hX dL_law_408 rfl rfl ?_
  refine ll_iload_n (q := 0) hX dL_law_409 rfl rfl ?_
  refine ll_iconst (v := 1) hX dL_law_410 gl_c_1 ?_
  refine ll_iadd hX dL_law_411 ?_
  refine ll_sld hX (hin 1 (by decide)) dL_law_412 ?_
  refine ll_aload_n (q := 3) hX dL_law_413 rfl rfl ?_
  refine ll_iload_n (q := 0) hX dL_law_414 rfl rfl ?_
  refine ll_iconst (v := 2) hX dL_law_415 gl_c_2 ?_
  refine ll_iadd hX dL_law_416 ?_
  refine ll_sld hX (hin 2 (by decide)) dL_law_417 ?_
  refine ll_aload_n (q := 3) hX dL_law_418 rfl rfl ?_
  refine ll_iload_n (q := 0) hX dL_law_419 rfl rfl ?_
  refine ll_iconst (v := 3) hX dL_law_420 gl_c_3 ?_
  refine ll_iadd hX dL_law_421 ?_
  refine ll_sld hX (hin 3 (by decide)) dL_law_422 ?_
  refine ll_callX (mc := 0) (ms := 0) (As := [.int (xs (i + 1).toNatClampNeg), .int (xs (i + 2).toNatClampNeg), .int (xs (i + 3).toNatClampNeg)]) hX (fun ad => c_x0_clasp e1) (lw_x0_clasp_ q1197) rfl rfl nn_x0_clasp ⟨Nat.le_of_ble_eq_true rfl, Nat.le_of_ble_eq_true rfl⟩ ⟨by omega, by omega⟩ rfl rfl (Nat.le_of_ble_eq_true rfl) dL_law_423 ?_
  refine ll_aload_n (q := 1) hX dL_law_426 rfl rfl ?_
  refine ll_aload_n (q := 3) hX dL_law_427 rfl rfl ?_
  refine ll_iload_n (q := 0) hX dL_law_428 rfl rfl ?_
  refine ll_iconst (v := 1) hX dL_law_429 gl_c_1 ?_
  refine ll_iadd hX dL_law_430 ?_
  refine ll_sld hX (hin 1 (by decide)) dL_law_431 ?_
  refine ll_aload_n (q := 3) hX dL_law_432 rfl rfl ?_
  refine ll_iload_n (q := 0) hX dL_law_433 rfl rfl ?_
  refine ll_iconst (v := 2) hX dL_law_434 gl_c_2 ?_
  refine ll_iadd hX dL_law_435 ?_
  refine ll_sld hX (hin 2 (by decide)) dL_law_436 ?_
  refine ll_aload_n (q := 3) hX dL_law_437 rfl rfl ?_
  refine ll_iload_n (q := 0) hX dL_law_438 rfl rfl ?_
  refine ll_iconst (v := 3) hX dL_law_439 gl_c_3 ?_
  refine ll_iadd hX dL_law_440 ?_
  refine ll_sld hX (hin 3 (by decide)) dL_law_441 ?_
  refine ll_callM (As := [.int (xs (i + 1).toNatClampNeg), .int (xs (i + 2).toNatClampNeg), .int (xs (i + 3).toNatClampNeg)]) hX (jS _ _ _ _ _ hJ2).2.2.2.2 (fun ad => c_clasp e2) (lw_V q1974 q1975 q1976 q153 q1977) rfl rfl nn_clasp ⟨Nat.le_of_ble_eq_true rfl, Nat.le_of_ble_eq_true rfl⟩ ⟨by omega, by omega⟩ rfl rfl (Nat.le_of_ble_eq_true rfl) dL_law_442 ?_
  refine ll_icmp_eqT (tgt := 1531) hX dL_law_445 (by decide) ?_
  exact ll_widen (by omega) (by omega) (kk Ds Df2 Vx2 c Vm2 hJ2)
theorem lw_case_hand {J : gz_S → gz_R → gz_V → Nat → gz_V → Prop} {X : gz_X} {b L N : Nat} {xs : Nat → Int32} {px pm : Nat} {Ds : gz_S} {Df : gz_R} {Vx Vm : gz_V} {c ce sl : Nat} {i : Int32} (hX : lw_ok X b L xs) (htr : (gx_l X).stackTraces = false) (jS : lo_S J) (hop : lo_hand J N) (hJ : J Ds Df Vx c Vm) (hin : ∀ j : Int32, j = 1 ∨ j = 2 ∨ j = 3 ∨ j = 4 ∨ j = 5 → vp_in (i + j) L) (hf : ce + 1000 ≤ 601024 ∧ sl + 24000 ≤ 7293034) (kk : ∀ (Ds2 : gz_S) (Df2 : gz_R) (Vx2 : gz_V) (c2 : Nat) (Vm2 : gz_V), J Ds2 Df2 Vx2 c2 Vm2 → lW X px pm Ds2 Df2 Vx2 Vm2 (ce + 1000) (sl + 24000) 1531 [(3, .int i), (2, .ref pm), (1, .ref px), (0, .ref b)] []) : lW X px pm Ds Df Vx Vm ce sl 450 [(3, .int i), (2, .ref pm), (1, .ref px), (0, .ref b)] [] := by
  obtain ⟨j97, j95, j96, jfr, jz⟩ := jS _ _ _ _ _ hJ
  obtain ⟨Vx2, Df2, Vm2, r, e1, e2, hJ2⟩ := hop Ds Df Vx c Vm (xs (i + 1).toNatClampNeg) (xs (i + 2).toNatClampNeg) hJ
  refine ll_aload_n (q := 2) hX dL_law_450 rfl rfl ?_
  refine ll_aload_n (q := 3) hX dL_law_451 rfl rfl ?_
  refine ll_iload_n (q := 0) hX dL_law_452 rfl rfl ?_
  refine ll_iconst (v := 1) hX dL_law_453 gl_c_1 ?_
  refine ll_iadd hX dL_law_454 ?_
  refine ll_sld hX (hin 1 (by decide)) dL_law_455 ?_
  refine ll_aload_n (q := 3) hX dL_law_456 rfl rfl ?_
  refine ll_iload_n (q := 0) hX dL_law_457 rfl rfl ?_
  refine ll_iconst (v := 2) hX dL_law_458 gl_c_2 ?_
  refine ll_iadd hX dL_law_459 ?_
  refine ll_sld hX (hin 2 (by decide)) dL_law_460 ?_
  refine ll_callX (mc := 0) (ms := 0) (As := [.int (xs (i + 1).toNatClampNeg), .int (xs (i + 2).toNatClampNeg)]) hX (fun ad => c_x0_hand e1) (lw_x0_hand_ q1209) rfl rfl nn_x0_hand ⟨Nat.le_of_ble_eq_true rfl, Nat.le_of_ble_eq_true rfl⟩ ⟨by omega, by omega⟩ rfl rfl (Nat.le_of_ble_eq_true rfl) dL_law_461 ?_
  refine ll_aload_n (q := 1) hX dL_law_464 rfl rfl ?_
  refine ll_aload_n (q := 3) hX dL_law_465 rfl rfl ?_
  refine ll_iload_n (q := 0) hX dL_law_466 rfl rfl ?_
  refine ll_iconst (v := 1) hX dL_law_467 gl_c_1 ?_
  refine ll_iadd hX dL_law_468 ?_
  refine ll_sld hX (hin 1 (by decide)) dL_law_469 ?_
  refine ll_aload_n (q := 3) hX dL_law_470 rfl rfl ?_
  refine ll_iload_n (q := 0) hX dL_law_471 rfl rfl ?_
  refine ll_iconst (v := 2) hX dL_law_472 gl_c_2 ?_
  refine ll_iadd hX dL_law_473 ?_
  refine ll_sld hX (hin 2 (by decide)) dL_law_474 ?_
  refine ll_callM (As := [.int (xs (i + 1).toNatClampNeg), .int (xs (i + 2).toNatClampNeg)]) hX (jS _ _ _ _ _ hJ2).2.2.2.2 (fun ad => c_hand e2) (lw_V q1978 q1979 q1980 q153 q1981) rfl rfl nn_hand ⟨Nat.le_of_ble_eq_true rfl, Nat.le_of_ble_eq_true rfl⟩ ⟨by omega, by omega⟩ rfl rfl (Nat.le_of_ble_eq_true rfl) dL_law_475 ?_
  refine ll_icmp_eqT (tgt := 1531) hX dL_law_478 (by decide) ?_
  exact ll_widen (by omega) (by omega) (kk Ds Df2 Vx2 c Vm2 hJ2)
theorem lw_case_days {J : gz_S → gz_R → gz_V → Nat → gz_V → Prop} {X : gz_X} {b L N : Nat} {xs : Nat → Int32} {px pm : Nat} {Ds : gz_S} {Df : gz_R} {Vx Vm : gz_V} {c ce sl : Nat} {i : Int32} (hX : lw_ok X b L xs) (htr : (gx_l X).stackTraces = false) (jS : lo_S J) (hop : lo_days J N) (hJ : J Ds Df Vx c Vm) (hin : ∀ j : Int32, j = 1 ∨ j = 2 ∨ j = 3 ∨ j = 4 ∨ j = 5 → vp_in (i + j) L) (hf : ce + 1000 ≤ 601024 ∧ sl + 24000 ≤ 7293034) (kk : ∀ (Ds2 : gz_S) (Df2 : gz_R) (Vx2 : gz_V) (c2 : Nat) (Vm2 : gz_V), J Ds2 Df2 Vx2 c2 Vm2 → lW X px pm Ds2 Df2 Vx2 Vm2 (ce + 1000) (sl + 24000) 1531 [(3, .int i), (2, .ref pm), (1, .ref px), (0, .ref b)] []) : lW X px pm Ds Df Vx Vm ce sl 483 [(3, .int i), (2, .ref pm), (1, .ref px), (0, .ref b)] [] := by
  obtain ⟨j97, j95, j96, jfr, jz⟩ := jS _ _ _ _ _ hJ
  obtain ⟨Vx2, Df2, Vm2, r, e1, e2, hJ2⟩ := hop Ds Df Vx c Vm (xs (i + 1).toNatClampNeg) hJ
  refine ll_aload_n (q := 2) hX dL_law_483 rfl rfl ?_
  refine ll_aload_n (q := 3) hX dL_law_484 rfl rfl ?_
  refine ll_iload_n (q := 0) hX dL_law_485 rfl rfl ?_
  refine ll_iconst (v := 1) hX dL_law_486 gl_c_1 ?_
  refine ll_iadd hX dL_law_487 ?_
  refine ll_sld hX (hin 1 (by decide)) dL_law_488 ?_
  refine ll_callX (mc := 0) (ms := 0) (As := [.int (xs (i + 1).toNatClampNeg)]) hX (fun ad => c_x0_days e1) (lw_x0_days_ q1213) rfl rfl nn_x0_days ⟨Nat.le_of_ble_eq_true rfl, Nat.le_of_ble_eq_true rfl⟩ ⟨by omega, by omega⟩ rfl rfl (Nat.le_of_ble_eq_true rfl) dL_law_489 ?_
  refine ll_aload_n (q := 1) hX dL_law_492 rfl rfl ?_
  refine ll_aload_n (q := 3) hX dL_law_493 rfl rfl ?_
  refine ll_iload_n (q := 0) hX dL_law_494 rfl rfl ?_
  refine ll_iconst (v := 1) hX dL_law_495 gl_c_1 ?_
  refine ll_iadd hX dL_law_496 ?_
  refine ll_sld hX (hin 1 (by decide)) dL_law_497 ?_
  refine ll_callM (As := [.int (xs (i + 1).toNatClampNeg)]) hX (jS _ _ _ _ _ hJ2).2.2.2.2 (fun ad => c_days e2) (lw_V q1982 q1983 q1984 q153 q1985) rfl rfl nn_days ⟨Nat.le_of_ble_eq_true rfl, Nat.le_of_ble_eq_true rfl⟩ ⟨by omega, by omega⟩ rfl rfl (Nat.le_of_ble_eq_true rfl) dL_law_498 ?_
  refine ll_icmp_eqT (tgt := 1531) hX dL_law_501 (by decide) ?_
  exact ll_widen (by omega) (by omega) (kk Ds Df2 Vx2 c Vm2 hJ2)
theorem lw_case_feed {J : gz_S → gz_R → gz_V → Nat → gz_V → Prop} {X : gz_X} {b L N : Nat} {xs : Nat → Int32} {px pm : Nat} {Ds : gz_S} {Df : gz_R} {Vx Vm : gz_V} {c ce sl : Nat} {i : Int32} (hX : lw_ok X b L xs) (htr : (gx_l X).stackTraces = false) (jS : lo_S J) (hop : lo_feed J N) (hJ : J Ds Df Vx c Vm) (hin : ∀ j : Int32, j = 1 ∨ j = 2 ∨ j = 3 ∨ j = 4 ∨ j = 5 → vp_in (i + j) L) (hf : ce + 1000 ≤ 601024 ∧ sl + 24000 ≤ 7293034) (kk : ∀ (Ds2 : gz_S) (Df2 : gz_R) (Vx2 : gz_V) (c2 : Nat) (Vm2 : gz_V), J Ds2 Df2 Vx2 c2 Vm2 → lW X px pm Ds2 Df2 Vx2 Vm2 (ce + 1000) (sl + 24000) 1531 [(3, .int i), (2, .ref pm), (1, .ref px), (0, .ref b)] []) : lW X px pm Ds Df Vx Vm ce sl 506 [(3, .int i), (2, .ref pm), (1, .ref px), (0, .ref b)] [] := by
  obtain ⟨j97, j95, j96, jfr, jz⟩ := jS _ _ _ _ _ hJ
  obtain ⟨Vx2, Vm2, r, e1, e2, hJ2⟩ := hop Ds Df Vx c Vm (xs (i + 1).toNatClampNeg) (xs (i + 2).toNatClampNeg) (xs (i + 3).toNatClampNeg) (xs (i + 4).toNatClampNeg) (xs (i + 5).toNatClampNeg) hJ
  refine ll_aload_n (q := 2) hX dL_law_506 rfl rfl ?_
  refine ll_aload_n (q := 3) hX dL_law_507 rfl rfl ?_
  refine ll_iload_n (q := 0) hX dL_law_508 rfl rfl ?_
  refine ll_iconst (v := 1) hX dL_law_509 gl_c_1 ?_
  refine ll_iadd hX dL_law_510 ?_
  refine ll_sld hX (hin 1 (by decide)) dL_law_511 ?_
  refine ll_aload_n (q := 3) hX dL_law_512 rfl rfl ?_
  refine ll_iload_n (q := 0) hX dL_law_513 rfl rfl ?_
  refine ll_iconst (v := 2) hX dL_law_514 gl_c_2 ?_
  refine ll_iadd hX dL_law_515 ?_
  refine ll_sld hX (hin 2 (by decide)) dL_law_516 ?_
  refine ll_aload_n (q := 3) hX dL_law_517 rfl rfl ?_
  refine ll_iload_n (q := 0) hX dL_law_518 rfl rfl ?_
  refine ll_iconst (v := 3) hX dL_law_519 gl_c_3 ?_
  refine ll_iadd hX dL_law_520 ?_
  refine ll_sld hX (hin 3 (by decide)) dL_law_521 ?_
  refine ll_aload_n (q := 3) hX dL_law_522 rfl rfl ?_
  refine ll_iload_n (q := 0) hX dL_law_523 rfl rfl ?_
  refine ll_iconst (v := 4) hX dL_law_524 gl_c_4 ?_
  refine ll_iadd hX dL_law_525 ?_
  refine ll_sld hX (hin 4 (by decide)) dL_law_526 ?_
  refine ll_aload_n (q := 3) hX dL_law_527 rfl rfl ?_
  refine ll_iload_n (q := 0) hX dL_law_528 rfl rfl ?_
  refine ll_iconst (v := 5) hX dL_law_529 gl_c_5 ?_
  refine ll_iadd hX dL_law_530 ?_
  refine ll_sld hX (hin 5 (by decide)) dL_law_531 ?_
  refine ll_callX (mc := 0) (ms := 0) (As := [.int (xs (i + 1).toNatClampNeg), .int (xs (i + 2).toNatClampNeg), .int (xs (i + 3).toNatClampNeg), .int (xs (i + 4).toNatClampNeg), .int (xs (i + 5).toNatClampNeg)]) hX (fun ad => c_x0_feed e1) (lw_x0_feed_ q490) rfl rfl nn_x0_feed ⟨Nat.le_of_ble_eq_true rfl, Nat.le_of_ble_eq_true rfl⟩ ⟨by omega, by omega⟩ rfl rfl (Nat.le_of_ble_eq_true rfl) dL_law_532 ?_
  refine ll_aload_n (q := 1) hX dL_law_535 rfl rfl ?_
  refine ll_aload_n (q := 3) hX dL_law_536 rfl rfl ?_
  refine ll_iload_n (q := 0) hX dL_law_537 rfl rfl ?_
  refine ll_iconst (v := 1) hX dL_law_538 gl_c_1 ?_
  refine ll_iadd hX dL_law_539 ?_
  refine ll_sld hX (hin 1 (by decide)) dL_law_540 ?_
  refine ll_aload_n (q := 3) hX dL_law_541 rfl rfl ?_
  refine ll_iload_n (q := 0) hX dL_law_542 rfl rfl ?_
  refine ll_iconst (v := 2) hX dL_law_543 gl_c_2 ?_
  refine ll_iadd hX dL_law_544 ?_
  refine ll_sld hX (hin 2 (by decide)) dL_law_545 ?_
  refine ll_aload_n (q := 3) hX dL_law_546 rfl rfl ?_
  refine ll_iload_n (q := 0) hX dL_law_547 rfl rfl ?_
  refine ll_iconst (v := 3) hX dL_law_548 gl_c_3 ?_
  refine ll_iadd hX dL_law_549 ?_
  refine ll_sld hX (hin 3 (by decide)) dL_law_550 ?_
  refine ll_aload_n (q := 3) hX dL_law_551 rfl rfl ?_
  refine ll_iload_n (q := 0) hX dL_law_552 rfl rfl ?_
  refine ll_iconst (v := 4) hX dL_law_553 gl_c_4 ?_
  refine ll_iadd hX dL_law_554 ?_
  refine ll_sld hX (hin 4 (by decide)) dL_law_555 ?_
  refine ll_aload_n (q := 3) hX dL_law_556 rfl rfl ?_
  refine ll_iload_n (q := 0) hX dL_law_557 rfl rfl ?_
  refine ll_iconst (v := 5) hX dL_law_558 gl_c_5 ?_
  refine ll_iadd hX dL_law_559 ?_
  refine ll_sld hX (hin 5 (by decide)) dL_law_560 ?_
  refine ll_callM (As := [.int (xs (i + 1).toNatClampNeg), .int (xs (i + 2).toNatClampNeg), .int (xs (i + 3).toNatClampNeg), .int (xs (i + 4).toNatClampNeg), .int (xs (i + 5).toNatClampNeg)]) hX (jS _ _ _ _ _ hJ2).2.2.2.2 (fun ad => c_feed e2) (lw_V q1724 q1725 q1726 q153 q1727) rfl rfl nn_feed ⟨Nat.le_of_ble_eq_true rfl, Nat.le_of_ble_eq_true rfl⟩ ⟨by omega, by omega⟩ rfl rfl (Nat.le_of_ble_eq_true rfl) dL_law_561 ?_
  refine ll_icmp_eqT (tgt := 1531) hX dL_law_564 (by decide) ?_
  exact ll_widen (by omega) (by omega) (kk Ds Df Vx2 c Vm2 hJ2)
theorem lw_case_end {J : gz_S → gz_R → gz_V → Nat → gz_V → Prop} {X : gz_X} {b L N : Nat} {xs : Nat → Int32} {px pm : Nat} {Ds : gz_S} {Df : gz_R} {Vx Vm : gz_V} {c ce sl : Nat} {i : Int32} (hX : lw_ok X b L xs) (htr : (gx_l X).stackTraces = false) (jS : lo_S J) (hop : lo_end J N) (hJ : J Ds Df Vx c Vm) (hin : ∀ j : Int32, j = 1 ∨ j = 2 ∨ j = 3 ∨ j = 4 ∨ j = 5 → vp_in (i + j) L) (hf : ce + 1000 ≤ 601024 ∧ sl + 24000 ≤ 7293034) (kk : ∀ (Ds2 : gz_S) (Df2 : gz_R) (Vx2 : gz_V) (c2 : Nat) (Vm2 : gz_V), J Ds2 Df2 Vx2 c2 Vm2 → lW X px pm Ds2 Df2 Vx2 Vm2 (ce + 1000) (sl + 24000) 1531 [(3, .int i), (2, .ref pm), (1, .ref px), (0, .ref b)] []) : lW X px pm Ds Df Vx Vm ce sl 569 [(3, .int i), (2, .ref pm), (1, .ref px), (0, .ref b)] [] := by
  obtain ⟨j97, j95, j96, jfr, jz⟩ := jS _ _ _ _ _ hJ
  obtain ⟨Vx2, Vm2, r, e1, e2, hJ2⟩ := hop Ds Df Vx c Vm (xs (i + 1).toNatClampNeg) hJ
  refine ll_aload_n (q := 2) hX dL_law_569 rfl rfl ?_
  refine ll_aload_n (q := 3) hX dL_law_570 rfl rfl ?_
  refine ll_iload_n (q := 0) hX dL_law_571 rfl rfl ?_
  refine ll_iconst (v := 1) hX dL_law_572 gl_c_1 ?_
  refine ll_iadd hX dL_law_573 ?_
  refine ll_sld hX (hin 1 (by decide)) dL_law_574 ?_
  refine ll_callX (mc := 0) (ms := 0) (As := [.int (xs (i + 1).toNatClampNeg)]) hX (fun ad => c_x0_end e1) (lw_x0_end_ q498) rfl rfl nn_x0_end ⟨Nat.le_of_ble_eq_true rfl, Nat.le_of_ble_eq_true rfl⟩ ⟨by omega, by omega⟩ rfl rfl (Nat.le_of_ble_eq_true rfl) dL_law_575 ?_
  refine ll_aload_n (q := 1) hX dL_law_578 rfl rfl ?_
  refine ll_aload_n (q := 3) hX dL_law_579 rfl rfl ?_
  refine ll_iload_n (q := 0) hX dL_law_580 rfl rfl ?_
  refine ll_iconst (v := 1) hX dL_law_581 gl_c_1 ?_
  refine ll_iadd hX dL_law_582 ?_
  refine ll_sld hX (hin 1 (by decide)) dL_law_583 ?_
  refine ll_callM (As := [.int (xs (i + 1).toNatClampNeg)]) hX (jS _ _ _ _ _ hJ2).2.2.2.2 (fun ad => c_end e2) (lw_V q1732 q1733 q1734 q153 q1735) rfl rfl nn_end ⟨Nat.le_of_ble_eq_true rfl, Nat.le_of_ble_eq_true rfl⟩ ⟨by omega, by omega⟩ rfl rfl (Nat.le_of_ble_eq_true rfl) dL_law_584 ?_
  refine ll_icmp_eqT (tgt := 1531) hX dL_law_587 (by decide) ?_
  exact ll_widen (by omega) (by omega) (kk Ds Df Vx2 c Vm2 hJ2)
theorem lw_case_text {J : gz_S → gz_R → gz_V → Nat → gz_V → Prop} {X : gz_X} {b L N : Nat} {xs : Nat → Int32} {px pm : Nat} {Ds : gz_S} {Df : gz_R} {Vx Vm : gz_V} {c ce sl : Nat} {i : Int32} (hX : lw_ok X b L xs) (htr : (gx_l X).stackTraces = false) (jS : lo_S J) (hop : lo_text J N) (hJ : J Ds Df Vx c Vm) (hin : ∀ j : Int32, j = 1 ∨ j = 2 ∨ j = 3 ∨ j = 4 ∨ j = 5 → vp_in (i + j) L) (hf : ce + 1000 ≤ 601024 ∧ sl + 24000 ≤ 7293034) (kk : ∀ (Ds2 : gz_S) (Df2 : gz_R) (Vx2 : gz_V) (c2 : Nat) (Vm2 : gz_V), J Ds2 Df2 Vx2 c2 Vm2 → lW X px pm Ds2 Df2 Vx2 Vm2 (ce + 1000) (sl + 24000) 1531 [(3, .int i), (2, .ref pm), (1, .ref px), (0, .ref b)] []) : lW X px pm Ds Df Vx Vm ce sl 592 [(3, .int i), (2, .ref pm), (1, .ref px), (0, .ref b)] [] := by
  obtain ⟨j97, j95, j96, jfr, jz⟩ := jS _ _ _ _ _ hJ
  obtain ⟨Ds2, Df2, Vx2, c2, Vm2, r, e1, e2, hJ2⟩ := hop Ds Df Vx c Vm (xs (i + 1).toNatClampNeg) hJ
  refine ll_aload_n (q := 2) hX dL_law_592 rfl rfl ?_
  refine ll_aload_n (q := 3) hX dL_law_593 rfl rfl ?_
  refine ll_iload_n (q := 0) hX dL_law_594 rfl rfl ?_
  refine ll_iconst (v := 1) hX dL_law_595 gl_c_1 ?_
  refine ll_iadd hX dL_law_596 ?_
  refine ll_sld hX (hin 1 (by decide)) dL_law_597 ?_
  refine ll_callT hX htr j97 jfr e1 q505 hf (Nat.le_of_ble_eq_true rfl) dL_law_598 ?_
  refine ll_aload_n (q := 1) hX dL_law_601 rfl rfl ?_
  refine ll_aload_n (q := 3) hX dL_law_602 rfl rfl ?_
  refine ll_iload_n (q := 0) hX dL_law_603 rfl rfl ?_
  refine ll_iconst (v := 1) hX dL_law_604 gl_c_1 ?_
  refine ll_iadd hX dL_law_605 ?_
  refine ll_sld hX (hin 1 (by decide)) dL_law_606 ?_
  refine ll_callM (As := [.int (xs (i + 1).toNatClampNeg)]) hX (jS _ _ _ _ _ hJ2).2.2.2.2 (fun ad => c_text e2) (lw_V q1736 q1737 q1738 q153 q1739) rfl rfl nn_text ⟨Nat.le_of_ble_eq_true rfl, Nat.le_of_ble_eq_true rfl⟩ ⟨by omega, by omega⟩ rfl rfl (Nat.le_of_ble_eq_true rfl) dL_law_607 ?_
  refine ll_icmp_eqT (tgt := 1531) hX dL_law_610 (by decide) ?_
  exact ll_widen (by omega) (by omega) (kk Ds2 Df2 Vx2 c2 Vm2 hJ2)
theorem lw_case_fault {J : gz_S → gz_R → gz_V → Nat → gz_V → Prop} {X : gz_X} {b L N : Nat} {xs : Nat → Int32} {px pm : Nat} {Ds : gz_S} {Df : gz_R} {Vx Vm : gz_V} {c ce sl : Nat} {i : Int32} (hX : lw_ok X b L xs) (htr : (gx_l X).stackTraces = false) (jS : lo_S J) (hop : lo_fault J N) (hJ : J Ds Df Vx c Vm) (hin : ∀ j : Int32, j = 1 ∨ j = 2 ∨ j = 3 ∨ j = 4 ∨ j = 5 → vp_in (i + j) L) (hf : ce + 1000 ≤ 601024 ∧ sl + 24000 ≤ 7293034) (kk : ∀ (Ds2 : gz_S) (Df2 : gz_R) (Vx2 : gz_V) (c2 : Nat) (Vm2 : gz_V), J Ds2 Df2 Vx2 c2 Vm2 → lW X px pm Ds2 Df2 Vx2 Vm2 (ce + 1000) (sl + 24000) 1531 [(3, .int i), (2, .ref pm), (1, .ref px), (0, .ref b)] []) : lW X px pm Ds Df Vx Vm ce sl 615 [(3, .int i), (2, .ref pm), (1, .ref px), (0, .ref b)] [] := by
  obtain ⟨j97, j95, j96, jfr, jz⟩ := jS _ _ _ _ _ hJ
  obtain ⟨Vm2, r, e1, e2, hJ2⟩ := hop Ds Df Vx c Vm (xs (i + 1).toNatClampNeg) hJ
  refine ll_aload_n (q := 2) hX dL_law_615 rfl rfl ?_
  refine ll_aload_n (q := 3) hX dL_law_616 rfl rfl ?_
  refine ll_iload_n (q := 0) hX dL_law_617 rfl rfl ?_
  refine ll_iconst (v := 1) hX dL_law_618 gl_c_1 ?_
  refine ll_iadd hX dL_law_619 ?_
  refine ll_sld hX (hin 1 (by decide)) dL_law_620 ?_
  refine ll_callX (mc := 0) (ms := 0) (As := [.int (xs (i + 1).toNatClampNeg)]) hX (fun ad => c_x0_fault e1) (lw_x0_fault_ q1015) rfl rfl nn_x0_fault ⟨Nat.le_of_ble_eq_true rfl, Nat.le_of_ble_eq_true rfl⟩ ⟨by omega, by omega⟩ rfl rfl (Nat.le_of_ble_eq_true rfl) dL_law_621 ?_
  refine ll_aload_n (q := 1) hX dL_law_624 rfl rfl ?_
  refine ll_aload_n (q := 3) hX dL_law_625 rfl rfl ?_
  refine ll_iload_n (q := 0) hX dL_law_626 rfl rfl ?_
  refine ll_iconst (v := 1) hX dL_law_627 gl_c_1 ?_
  refine ll_iadd hX dL_law_628 ?_
  refine ll_sld hX (hin 1 (by decide)) dL_law_629 ?_
  refine ll_callM (As := [.int (xs (i + 1).toNatClampNeg)]) hX (jS _ _ _ _ _ hJ2).2.2.2.2 (fun ad => c_fault e2) (lw_V q1868 q1869 q1870 q153 q1871) rfl rfl nn_fault ⟨Nat.le_of_ble_eq_true rfl, Nat.le_of_ble_eq_true rfl⟩ ⟨by omega, by omega⟩ rfl rfl (Nat.le_of_ble_eq_true rfl) dL_law_630 ?_
  refine ll_icmp_eqT (tgt := 1531) hX dL_law_633 (by decide) ?_
  exact ll_widen (by omega) (by omega) (kk Ds Df Vx c Vm2 hJ2)
theorem lw_case_of {J : gz_S → gz_R → gz_V → Nat → gz_V → Prop} {X : gz_X} {b L N : Nat} {xs : Nat → Int32} {px pm : Nat} {Ds : gz_S} {Df : gz_R} {Vx Vm : gz_V} {c ce sl : Nat} {i : Int32} (hX : lw_ok X b L xs) (htr : (gx_l X).stackTraces = false) (jS : lo_S J) (hop : lo_of J N) (hJ : J Ds Df Vx c Vm) (hin : ∀ j : Int32, j = 1 ∨ j = 2 ∨ j = 3 ∨ j = 4 ∨ j = 5 → vp_in (i + j) L) (hf : ce + 1000 ≤ 601024 ∧ sl + 24000 ≤ 7293034) (kk : ∀ (Ds2 : gz_S) (Df2 : gz_R) (Vx2 : gz_V) (c2 : Nat) (Vm2 : gz_V), J Ds2 Df2 Vx2 c2 Vm2 → lW X px pm Ds2 Df2 Vx2 Vm2 (ce + 1000) (sl + 24000) 1531 [(3, .int i), (2, .ref pm), (1, .ref px), (0, .ref b)] []) : lW X px pm Ds Df Vx Vm ce sl 638 [(3, .int i), (2, .ref pm), (1, .ref px), (0, .ref b)] [] := by
  obtain ⟨j97, j95, j96, jfr, jz⟩ := jS _ _ _ _ _ hJ
  obtain ⟨Vm2, r, e1, e2, hJ2⟩ := hop Ds Df Vx c Vm (xs (i + 1).toNatClampNeg) (xs (i + 2).toNatClampNeg) hJ
  refine ll_aload_n (q := 2) hX dL_law_638 rfl rfl ?_
  refine ll_aload_n (q := 3) hX dL_law_639 rfl rfl ?_
  refine ll_iload_n (q := 0) hX dL_law_640 rfl rfl ?_
  refine ll_iconst (v := 1) hX dL_law_641 gl_c_1 ?_
  refine ll_iadd hX dL_law_642 ?_
  refine ll_sld hX (hin 1 (by decide)) dL_law_643 ?_
  refine ll_aload_n (q := 3) hX dL_law_644 rfl rfl ?_
  refine ll_iload_n (q := 0) hX dL_law_645 rfl rfl ?_
  refine ll_iconst (v := 2) hX dL_law_646 gl_c_2 ?_
  refine ll_iadd hX dL_law_647 ?_
  refine ll_sld hX (hin 2 (by decide)) dL_law_648 ?_
  refine ll_callX (mc := 0) (ms := 0) (As := [.int (xs (i + 1).toNatClampNeg), .int (xs (i + 2).toNatClampNeg)]) hX (fun ad => c_x0_of e1) (lw_x0_of_ q1253) rfl rfl nn_x0_of ⟨Nat.le_of_ble_eq_true rfl, Nat.le_of_ble_eq_true rfl⟩ ⟨by omega, by omega⟩ rfl rfl (Nat.le_of_ble_eq_true rfl) dL_law_649 ?_
  refine ll_aload_n (q := 1) hX dL_law_652 rfl rfl ?_
  refine ll_aload_n (q := 3) hX dL_law_653 rfl rfl ?_
  refine ll_iload_n (q := 0) hX dL_law_654 rfl rfl ?_
  refine ll_iconst (v := 1) hX dL_law_655 gl_c_1 ?_
  refine ll_iadd hX dL_law_656 ?_
  refine ll_sld hX (hin 1 (by decide)) dL_law_657 ?_
  refine ll_aload_n (q := 3) hX dL_law_658 rfl rfl ?_
  refine ll_iload_n (q := 0) hX dL_law_659 rfl rfl ?_
  refine ll_iconst (v := 2) hX dL_law_660 gl_c_2 ?_
  refine ll_iadd hX dL_law_661 ?_
  refine ll_sld hX (hin 2 (by decide)) dL_law_662 ?_
  refine ll_callM (As := [.int (xs (i + 1).toNatClampNeg), .int (xs (i + 2).toNatClampNeg)]) hX (jS _ _ _ _ _ hJ2).2.2.2.2 (fun ad => c_of e2) (lw_V q1994 q1995 q1996 q153 q1997) rfl rfl nn_of ⟨Nat.le_of_ble_eq_true rfl, Nat.le_of_ble_eq_true rfl⟩ ⟨by omega, by omega⟩ rfl rfl (Nat.le_of_ble_eq_true rfl) dL_law_663 ?_
  refine ll_icmp_eqT (tgt := 1531) hX dL_law_666 (by decide) ?_
  exact ll_widen (by omega) (by omega) (kk Ds Df Vx c Vm2 hJ2)
theorem lw_case_horseOf {J : gz_S → gz_R → gz_V → Nat → gz_V → Prop} {X : gz_X} {b L N : Nat} {xs : Nat → Int32} {px pm : Nat} {Ds : gz_S} {Df : gz_R} {Vx Vm : gz_V} {c ce sl : Nat} {i : Int32} (hX : lw_ok X b L xs) (htr : (gx_l X).stackTraces = false) (jS : lo_S J) (hop : lo_horseOf J N) (hJ : J Ds Df Vx c Vm) (hin : ∀ j : Int32, j = 1 ∨ j = 2 ∨ j = 3 ∨ j = 4 ∨ j = 5 → vp_in (i + j) L) (hf : ce + 1000 ≤ 601024 ∧ sl + 24000 ≤ 7293034) (kk : ∀ (Ds2 : gz_S) (Df2 : gz_R) (Vx2 : gz_V) (c2 : Nat) (Vm2 : gz_V), J Ds2 Df2 Vx2 c2 Vm2 → lW X px pm Ds2 Df2 Vx2 Vm2 (ce + 1000) (sl + 24000) 1531 [(3, .int i), (2, .ref pm), (1, .ref px), (0, .ref b)] []) : lW X px pm Ds Df Vx Vm ce sl 671 [(3, .int i), (2, .ref pm), (1, .ref px), (0, .ref b)] [] := by
  obtain ⟨j97, j95, j96, jfr, jz⟩ := jS _ _ _ _ _ hJ
  obtain ⟨Vm2, r, e1, e2, hJ2⟩ := hop Ds Df Vx c Vm (xs (i + 1).toNatClampNeg) (xs (i + 2).toNatClampNeg) hJ
  refine ll_aload_n (q := 2) hX dL_law_671 rfl rfl ?_
  refine ll_aload_n (q := 3) hX dL_law_672 rfl rfl ?_
  refine ll_iload_n (q := 0) hX dL_law_673 rfl rfl ?_
  refine ll_iconst (v := 1) hX dL_law_674 gl_c_1 ?_
  refine ll_iadd hX dL_law_675 ?_
  refine ll_sld hX (hin 1 (by decide)) dL_law_676 ?_
  refine ll_aload_n (q := 3) hX dL_law_677 rfl rfl ?_
  refine ll_iload_n (q := 0) hX dL_law_678 rfl rfl ?_
  refine ll_iconst (v := 2) hX dL_law_679 gl_c_2 ?_
  refine ll_iadd hX dL_law_680 ?_
  refine ll_sld hX (hin 2 (by decide)) dL_law_681 ?_
  refine ll_callX (mc := 0) (ms := 0) (As := [.int (xs (i + 1).toNatClampNeg), .int (xs (i + 2).toNatClampNeg)]) hX (fun ad => c_x0_horseOf e1) (lw_x0_horseOf_ q1257) rfl rfl nn_x0_horseOf ⟨Nat.le_of_ble_eq_true rfl, Nat.le_of_ble_eq_true rfl⟩ ⟨by omega, by omega⟩ rfl rfl (Nat.le_of_ble_eq_true rfl) dL_law_682 ?_
  refine ll_aload_n (q := 1) hX dL_law_685 rfl rfl ?_
  refine ll_aload_n (q := 3) hX dL_law_686 rfl rfl ?_
  refine ll_iload_n (q := 0) hX dL_law_687 rfl rfl ?_
  refine ll_iconst (v := 1) hX dL_law_688 gl_c_1 ?_
  refine ll_iadd hX dL_law_689 ?_
  refine ll_sld hX (hin 1 (by decide)) dL_law_690 ?_
  refine ll_aload_n (q := 3) hX dL_law_691 rfl rfl ?_
  refine ll_iload_n (q := 0) hX dL_law_692 rfl rfl ?_
  refine ll_iconst (v := 2) hX dL_law_693 gl_c_2 ?_
  refine ll_iadd hX dL_law_694 ?_
  refine ll_sld hX (hin 2 (by decide)) dL_law_695 ?_
  refine ll_callM (As := [.int (xs (i + 1).toNatClampNeg), .int (xs (i + 2).toNatClampNeg)]) hX (jS _ _ _ _ _ hJ2).2.2.2.2 (fun ad => c_horseOf e2) (lw_V q1998 q1999 q2000 q153 q2001) rfl rfl nn_horseOf ⟨Nat.le_of_ble_eq_true rfl, Nat.le_of_ble_eq_true rfl⟩ ⟨by omega, by omega⟩ rfl rfl (Nat.le_of_ble_eq_true rfl) dL_law_696 ?_
  refine ll_icmp_eqT (tgt := 1531) hX dL_law_699 (by decide) ?_
  exact ll_widen (by omega) (by omega) (kk Ds Df Vx c Vm2 hJ2)
