/-! THE LAW, cases 0-23: printed by gen/law.py -/
set_option maxRecDepth 100000
def OP_0 (N : Nat) (g : XG) (Cp : XS → MS → Prop) : Prop := ∀ (a1 : Int32) (ξ : XS) (σ : MS), Cp ξ σ → ∃ (v : Int32) (ξ1 : XS) (σ1 : MS), x0_head N g a1 ξ = some (v, ξ1) ∧ m_head N a1 σ = some (v, σ1) ∧ Cp ξ1 σ1
set_option maxHeartbeats 4000000 in
theorem lcase_0 {p : Program} {l : Launch} {e : Env} {s : State} {m : MethodId} {args : Array Value} {below : List Frame} {meth : Method} {c : Code} {cells slots : Nat} {A : Nat → Prop} {g : XG} {ξ : XS} {σ : MS} {b L : Nat} {xs : Nat → Int32} {Q : State → Prop} (E : EV p s m args c code 4 R_law) (hlt : l.stackTraces = false) (N : Nat) (Cp : XS → MS → Prop) (hop : OP_0 N g Cp) {i : Int32} (hi : ∀ j : Int32, 0 ≤ j → j ≤ 5 → inb (i + j) L = true) (hb : cells + 9000 ≤ room_1.cells ∧ slots + 110000 ≤ room_1.slots) (hC : Cp ξ σ) (k : ∀ (σ1 : MS) (ξ1 : XS), Cp ξ1 σ1 → CF p l e room_1 s m args below meth c 4 (cells + 9000) (slots + 110000) (LB g A s b L xs σ1 ξ1) Q 1506 [(0, .ref b), (1, .ref (xa g 0)), (2, .ref (xa g 500)), (3, .int i)] []) : CF p l e room_1 s m args below meth c 4 cells slots (LB g A s b L xs σ ξ) Q 228 [(0, .ref b), (1, .ref (xa g 0)), (2, .ref (xa g 500)), (3, .int i)] [] := by
  obtain ⟨v, ξ1, σ1, hx, hm, hC1⟩ := hop (xs (i + (1 : Int32)).toNatClampNeg) ξ σ hC
  refine cf_aload_n E dL_law_228 1 rfl rfl ?_
  refine cf_aload_n E dL_law_229 0 rfl rfl ?_
  refine cf_iload_n E dL_law_230 3 rfl rfl ?_
  refine cf_iconst E dL_law_231 ic_1 rfl ?_
  refine cf_iadd E dL_law_232 rfl ?_
  refine lsld E (hi _ (by decide) (by decide)) dL_law_233 rfl ?_
  refine CFwiden (show cells ≤ cells + 9000 from by omega) (show slots ≤ slots + 110000 from by omega) ?_
  refine lcallX_i (na := 1) E [.int (xs (i + (1 : Int32)).toNatClampNeg)] (met_x0_head l g N (xs (i + (1 : Int32)).toNatClampNeg) ξ hx) (C9 := RX0) (lw_V q411 q412 q413 q96 q414) (by decide +kernel) ⟨0, 1, _, _, rfl, rfl, rfl⟩ rfl rfl ⟨Nat.le_of_ble_eq_true rfl, Nat.le_of_ble_eq_true rfl⟩ rfl rfl (Nat.le_of_ble_eq_true rfl) hb dL_law_234 rfl ?_
  refine cf_aload_n E dL_law_237 2 rfl rfl ?_
  refine cf_aload_n E dL_law_238 0 rfl rfl ?_
  refine cf_iload_n E dL_law_239 3 rfl rfl ?_
  refine cf_iconst E dL_law_240 ic_1 rfl ?_
  refine cf_iadd E dL_law_241 rfl ?_
  refine lsld E (hi _ (by decide) (by decide)) dL_law_242 rfl ?_
  refine lcallM_i (na := 1) E [.int (xs (i + (1 : Int32)).toNatClampNeg)] (met_head l (gm g) N (xs (i + (1 : Int32)).toNatClampNeg) σ hm) (lw_V q1736 q1737 q1738 q105 q1739) (by decide +kernel) rfl rfl ⟨Nat.le_of_ble_eq_true rfl, Nat.le_of_ble_eq_true rfl⟩ rfl rfl (Nat.le_of_ble_eq_true rfl) hb dL_law_243 rfl ?_
  exact lifeq E dL_law_246 rfl (k σ1 ξ1 hC1)
def OP_1 (N : Nat) (g : XG) (Cp : XS → MS → Prop) : Prop := ∀ (a1 : Int32) (a2 : Int32) (a3 : Int32) (a4 : Int32) (a5 : Int32) (ξ : XS) (σ : MS), Cp ξ σ → ∃ (v : Int32) (σ1 : MS), m_hat N a1 a2 a3 a4 a5 σ = some (v, σ1) ∧ y0_hat N g a1 a2 a3 a4 a5 ξ 9000 110000 (fun v1 ξ1 => v1 = v ∧ Cp ξ1 σ1)
set_option maxHeartbeats 4000000 in
theorem lcase_1 {p : Program} {l : Launch} {e : Env} {s : State} {m : MethodId} {args : Array Value} {below : List Frame} {meth : Method} {c : Code} {cells slots : Nat} {A : Nat → Prop} {g : XG} {ξ : XS} {σ : MS} {b L : Nat} {xs : Nat → Int32} {Q : State → Prop} (E : EV p s m args c code 4 R_law) (hlt : l.stackTraces = false) (N : Nat) (Cp : XS → MS → Prop) (hop : OP_1 N g Cp) {i : Int32} (hi : ∀ j : Int32, 0 ≤ j → j ≤ 5 → inb (i + j) L = true) (hb : cells + 9000 ≤ room_1.cells ∧ slots + 110000 ≤ room_1.slots) (hC : Cp ξ σ) (k : ∀ (σ1 : MS) (ξ1 : XS), Cp ξ1 σ1 → CF p l e room_1 s m args below meth c 4 (cells + 9000) (slots + 110000) (LB g A s b L xs σ1 ξ1) Q 1506 [(0, .ref b), (1, .ref (xa g 0)), (2, .ref (xa g 500)), (3, .int i)] []) : CF p l e room_1 s m args below meth c 4 cells slots (LB g A s b L xs σ ξ) Q 251 [(0, .ref b), (1, .ref (xa g 0)), (2, .ref (xa g 500)), (3, .int i)] [] := by
  obtain ⟨v, σ1, hm, hx⟩ := hop (xs (i + (1 : Int32)).toNatClampNeg) (xs (i + (2 : Int32)).toNatClampNeg) (xs (i + (3 : Int32)).toNatClampNeg) (xs (i + (4 : Int32)).toNatClampNeg) (xs (i + (5 : Int32)).toNatClampNeg) ξ σ hC
  refine cf_aload_n E dL_law_251 1 rfl rfl ?_
  refine cf_aload_n E dL_law_252 0 rfl rfl ?_
  refine cf_iload_n E dL_law_253 3 rfl rfl ?_
  refine cf_iconst E dL_law_254 ic_1 rfl ?_
  refine cf_iadd E dL_law_255 rfl ?_
  refine lsld E (hi _ (by decide) (by decide)) dL_law_256 rfl ?_
  refine cf_aload_n E dL_law_257 0 rfl rfl ?_
  refine cf_iload_n E dL_law_258 3 rfl rfl ?_
  refine cf_iconst E dL_law_259 ic_2 rfl ?_
  refine cf_iadd E dL_law_260 rfl ?_
  refine lsld E (hi _ (by decide) (by decide)) dL_law_261 rfl ?_
  refine cf_aload_n E dL_law_262 0 rfl rfl ?_
  refine cf_iload_n E dL_law_263 3 rfl rfl ?_
  refine cf_iconst E dL_law_264 ic_3 rfl ?_
  refine cf_iadd E dL_law_265 rfl ?_
  refine lsld E (hi _ (by decide) (by decide)) dL_law_266 rfl ?_
  refine cf_aload_n E dL_law_267 0 rfl rfl ?_
  refine cf_iload_n E dL_law_268 3 rfl rfl ?_
  refine cf_iconst E dL_law_269 ic_4 rfl ?_
  refine cf_iadd E dL_law_270 rfl ?_
  refine lsld E (hi _ (by decide) (by decide)) dL_law_271 rfl ?_
  refine cf_aload_n E dL_law_272 0 rfl rfl ?_
  refine cf_iload_n E dL_law_273 3 rfl rfl ?_
  refine cf_iconst E dL_law_274 ic_5 rfl ?_
  refine cf_iadd E dL_law_275 rfl ?_
  refine lsld E (hi _ (by decide) (by decide)) dL_law_276 rfl ?_
  refine lcallY_i (na := 5) E [.int (xs (i + (1 : Int32)).toNatClampNeg), .int (xs (i + (2 : Int32)).toNatClampNeg), .int (xs (i + (3 : Int32)).toNatClampNeg), .int (xs (i + (4 : Int32)).toNatClampNeg), .int (xs (i + (5 : Int32)).toNatClampNeg)] (met_y0_hat l g N (xs (i + (1 : Int32)).toNatClampNeg) (xs (i + (2 : Int32)).toNatClampNeg) (xs (i + (3 : Int32)).toNatClampNeg) (xs (i + (4 : Int32)).toNatClampNeg) (xs (i + (5 : Int32)).toNatClampNeg) ξ 9000 110000 _ hx) (C9 := RX0) (lw_V q418 q419 q420 q96 q421) (by decide +kernel) ⟨0, 1, _, _, rfl, rfl, rfl⟩ ⟨Nat.le_of_ble_eq_true rfl, Nat.le_of_ble_eq_true rfl⟩ rfl rfl (Nat.le_of_ble_eq_true rfl) hb dL_law_277 rfl (fun v9 ξ1 hk => ?_)
  obtain ⟨rfl, hC1⟩ := hk
  refine cf_aload_n E dL_law_280 2 rfl rfl ?_
  refine cf_aload_n E dL_law_281 0 rfl rfl ?_
  refine cf_iload_n E dL_law_282 3 rfl rfl ?_
  refine cf_iconst E dL_law_283 ic_1 rfl ?_
  refine cf_iadd E dL_law_284 rfl ?_
  refine lsld E (hi _ (by decide) (by decide)) dL_law_285 rfl ?_
  refine cf_aload_n E dL_law_286 0 rfl rfl ?_
  refine cf_iload_n E dL_law_287 3 rfl rfl ?_
  refine cf_iconst E dL_law_288 ic_2 rfl ?_
  refine cf_iadd E dL_law_289 rfl ?_
  refine lsld E (hi _ (by decide) (by decide)) dL_law_290 rfl ?_
  refine cf_aload_n E dL_law_291 0 rfl rfl ?_
  refine cf_iload_n E dL_law_292 3 rfl rfl ?_
  refine cf_iconst E dL_law_293 ic_3 rfl ?_
  refine cf_iadd E dL_law_294 rfl ?_
  refine lsld E (hi _ (by decide) (by decide)) dL_law_295 rfl ?_
  refine cf_aload_n E dL_law_296 0 rfl rfl ?_
  refine cf_iload_n E dL_law_297 3 rfl rfl ?_
  refine cf_iconst E dL_law_298 ic_4 rfl ?_
  refine cf_iadd E dL_law_299 rfl ?_
  refine lsld E (hi _ (by decide) (by decide)) dL_law_300 rfl ?_
  refine cf_aload_n E dL_law_301 0 rfl rfl ?_
  refine cf_iload_n E dL_law_302 3 rfl rfl ?_
  refine cf_iconst E dL_law_303 ic_5 rfl ?_
  refine cf_iadd E dL_law_304 rfl ?_
  refine lsld E (hi _ (by decide) (by decide)) dL_law_305 rfl ?_
  refine lcallM_i (na := 5) E [.int (xs (i + (1 : Int32)).toNatClampNeg), .int (xs (i + (2 : Int32)).toNatClampNeg), .int (xs (i + (3 : Int32)).toNatClampNeg), .int (xs (i + (4 : Int32)).toNatClampNeg), .int (xs (i + (5 : Int32)).toNatClampNeg)] (met_hat l (gm g) N (xs (i + (1 : Int32)).toNatClampNeg) (xs (i + (2 : Int32)).toNatClampNeg) (xs (i + (3 : Int32)).toNatClampNeg) (xs (i + (4 : Int32)).toNatClampNeg) (xs (i + (5 : Int32)).toNatClampNeg) σ hm) (lw_V q1744 q1745 q1746 q105 q1747) (by decide +kernel) rfl rfl ⟨Nat.le_of_ble_eq_true rfl, Nat.le_of_ble_eq_true rfl⟩ rfl rfl (Nat.le_of_ble_eq_true rfl) hb dL_law_306 rfl ?_
  exact lifeq E dL_law_309 rfl (k σ1 ξ1 hC1)
def OP_2 (N : Nat) (g : XG) (Cp : XS → MS → Prop) : Prop := ∀ (a1 : Int32) (a2 : Int32) (ξ : XS) (σ : MS), Cp ξ σ → ∃ (v : Int32) (ξ1 : XS) (σ1 : MS), x0_of N g a1 a2 ξ = some (v, ξ1) ∧ m_of N a1 a2 σ = some (v, σ1) ∧ Cp ξ1 σ1
set_option maxHeartbeats 4000000 in
theorem lcase_2 {p : Program} {l : Launch} {e : Env} {s : State} {m : MethodId} {args : Array Value} {below : List Frame} {meth : Method} {c : Code} {cells slots : Nat} {A : Nat → Prop} {g : XG} {ξ : XS} {σ : MS} {b L : Nat} {xs : Nat → Int32} {Q : State → Prop} (E : EV p s m args c code 4 R_law) (hlt : l.stackTraces = false) (N : Nat) (Cp : XS → MS → Prop) (hop : OP_2 N g Cp) {i : Int32} (hi : ∀ j : Int32, 0 ≤ j → j ≤ 5 → inb (i + j) L = true) (hb : cells + 9000 ≤ room_1.cells ∧ slots + 110000 ≤ room_1.slots) (hC : Cp ξ σ) (k : ∀ (σ1 : MS) (ξ1 : XS), Cp ξ1 σ1 → CF p l e room_1 s m args below meth c 4 (cells + 9000) (slots + 110000) (LB g A s b L xs σ1 ξ1) Q 1506 [(0, .ref b), (1, .ref (xa g 0)), (2, .ref (xa g 500)), (3, .int i)] []) : CF p l e room_1 s m args below meth c 4 cells slots (LB g A s b L xs σ ξ) Q 314 [(0, .ref b), (1, .ref (xa g 0)), (2, .ref (xa g 500)), (3, .int i)] [] := by
  obtain ⟨v, ξ1, σ1, hx, hm, hC1⟩ := hop (xs (i + (1 : Int32)).toNatClampNeg) (xs (i + (2 : Int32)).toNatClampNeg) ξ σ hC
  refine cf_aload_n E dL_law_314 1 rfl rfl ?_
  refine cf_aload_n E dL_law_315 0 rfl rfl ?_
  refine cf_iload_n E dL_law_316 3 rfl rfl ?_
  refine cf_iconst E dL_law_317 ic_1 rfl ?_
  refine cf_iadd E dL_law_318 rfl ?_
  refine lsld E (hi _ (by decide) (by decide)) dL_law_319 rfl ?_
  refine cf_aload_n E dL_law_320 0 rfl rfl ?_
  refine cf_iload_n E dL_law_321 3 rfl rfl ?_
  refine cf_iconst E dL_law_322 ic_2 rfl ?_
  refine cf_iadd E dL_law_323 rfl ?_
  refine lsld E (hi _ (by decide) (by decide)) dL_law_324 rfl ?_
  refine CFwiden (show cells ≤ cells + 9000 from by omega) (show slots ≤ slots + 110000 from by omega) ?_
  refine lcallX_i (na := 2) E [.int (xs (i + (1 : Int32)).toNatClampNeg), .int (xs (i + (2 : Int32)).toNatClampNeg)] (met_x0_of l g N (xs (i + (1 : Int32)).toNatClampNeg) (xs (i + (2 : Int32)).toNatClampNeg) ξ hx) (C9 := RX0) (lw_V q562 q563 q564 q96 q565) (by decide +kernel) ⟨0, 1, _, _, rfl, rfl, rfl⟩ rfl rfl ⟨Nat.le_of_ble_eq_true rfl, Nat.le_of_ble_eq_true rfl⟩ rfl rfl (Nat.le_of_ble_eq_true rfl) hb dL_law_325 rfl ?_
  refine cf_aload_n E dL_law_328 2 rfl rfl ?_
  refine cf_aload_n E dL_law_329 0 rfl rfl ?_
  refine cf_iload_n E dL_law_330 3 rfl rfl ?_
  refine cf_iconst E dL_law_331 ic_1 rfl ?_
  refine cf_iadd E dL_law_332 rfl ?_
  refine lsld E (hi _ (by decide) (by decide)) dL_law_333 rfl ?_
  refine cf_aload_n E dL_law_334 0 rfl rfl ?_
  refine cf_iload_n E dL_law_335 3 rfl rfl ?_
  refine cf_iconst E dL_law_336 ic_2 rfl ?_
  refine cf_iadd E dL_law_337 rfl ?_
  refine lsld E (hi _ (by decide) (by decide)) dL_law_338 rfl ?_
  refine lcallM_i (na := 2) E [.int (xs (i + (1 : Int32)).toNatClampNeg), .int (xs (i + (2 : Int32)).toNatClampNeg)] (met_of l (gm g) N (xs (i + (1 : Int32)).toNatClampNeg) (xs (i + (2 : Int32)).toNatClampNeg) σ hm) (lw_V q1848 q1849 q1850 q105 q1851) (by decide +kernel) rfl rfl ⟨Nat.le_of_ble_eq_true rfl, Nat.le_of_ble_eq_true rfl⟩ rfl rfl (Nat.le_of_ble_eq_true rfl) hb dL_law_339 rfl ?_
  exact lifeq E dL_law_342 rfl (k σ1 ξ1 hC1)
def OP_3 (N : Nat) (g : XG) (Cp : XS → MS → Prop) : Prop := ∀ (a1 : Int32) (a2 : Int32) (ξ : XS) (σ : MS), Cp ξ σ → ∃ (v : Int32) (ξ1 : XS) (σ1 : MS), x0_at N g a1 a2 ξ = some (v, ξ1) ∧ m_at N a1 a2 σ = some (v, σ1) ∧ Cp ξ1 σ1
set_option maxHeartbeats 4000000 in
theorem lcase_3 {p : Program} {l : Launch} {e : Env} {s : State} {m : MethodId} {args : Array Value} {below : List Frame} {meth : Method} {c : Code} {cells slots : Nat} {A : Nat → Prop} {g : XG} {ξ : XS} {σ : MS} {b L : Nat} {xs : Nat → Int32} {Q : State → Prop} (E : EV p s m args c code 4 R_law) (hlt : l.stackTraces = false) (N : Nat) (Cp : XS → MS → Prop) (hop : OP_3 N g Cp) {i : Int32} (hi : ∀ j : Int32, 0 ≤ j → j ≤ 5 → inb (i + j) L = true) (hb : cells + 9000 ≤ room_1.cells ∧ slots + 110000 ≤ room_1.slots) (hC : Cp ξ σ) (k : ∀ (σ1 : MS) (ξ1 : XS), Cp ξ1 σ1 → CF p l e room_1 s m args below meth c 4 (cells + 9000) (slots + 110000) (LB g A s b L xs σ1 ξ1) Q 1506 [(0, .ref b), (1, .ref (xa g 0)), (2, .ref (xa g 500)), (3, .int i)] []) : CF p l e room_1 s m args below meth c 4 cells slots (LB g A s b L xs σ ξ) Q 347 [(0, .ref b), (1, .ref (xa g 0)), (2, .ref (xa g 500)), (3, .int i)] [] := by
  obtain ⟨v, ξ1, σ1, hx, hm, hC1⟩ := hop (xs (i + (1 : Int32)).toNatClampNeg) (xs (i + (2 : Int32)).toNatClampNeg) ξ σ hC
  refine cf_aload_n E dL_law_347 1 rfl rfl ?_
  refine cf_aload_n E dL_law_348 0 rfl rfl ?_
  refine cf_iload_n E dL_law_349 3 rfl rfl ?_
  refine cf_iconst E dL_law_350 ic_1 rfl ?_
  refine cf_iadd E dL_law_351 rfl ?_
  refine lsld E (hi _ (by decide) (by decide)) dL_law_352 rfl ?_
  refine cf_aload_n E dL_law_353 0 rfl rfl ?_
  refine cf_iload_n E dL_law_354 3 rfl rfl ?_
  refine cf_iconst E dL_law_355 ic_2 rfl ?_
  refine cf_iadd E dL_law_356 rfl ?_
  refine lsld E (hi _ (by decide) (by decide)) dL_law_357 rfl ?_
  refine CFwiden (show cells ≤ cells + 9000 from by omega) (show slots ≤ slots + 110000 from by omega) ?_
  refine lcallX_i (na := 2) E [.int (xs (i + (1 : Int32)).toNatClampNeg), .int (xs (i + (2 : Int32)).toNatClampNeg)] (met_x0_at l g N (xs (i + (1 : Int32)).toNatClampNeg) (xs (i + (2 : Int32)).toNatClampNeg) ξ hx) (C9 := RX0) (lw_V q690 q691 q692 q96 q693) (by decide +kernel) ⟨0, 1, _, _, rfl, rfl, rfl⟩ rfl rfl ⟨Nat.le_of_ble_eq_true rfl, Nat.le_of_ble_eq_true rfl⟩ rfl rfl (Nat.le_of_ble_eq_true rfl) hb dL_law_358 rfl ?_
  refine cf_aload_n E dL_law_361 2 rfl rfl ?_
  refine cf_aload_n E dL_law_362 0 rfl rfl ?_
  refine cf_iload_n E dL_law_363 3 rfl rfl ?_
  refine cf_iconst E dL_law_364 ic_1 rfl ?_
  refine cf_iadd E dL_law_365 rfl ?_
  refine lsld E (hi _ (by decide) (by decide)) dL_law_366 rfl ?_
  refine cf_aload_n E dL_law_367 0 rfl rfl ?_
  refine cf_iload_n E dL_law_368 3 rfl rfl ?_
  refine cf_iconst E dL_law_369 ic_2 rfl ?_
  refine cf_iadd E dL_law_370 rfl ?_
  refine lsld E (hi _ (by decide) (by decide)) dL_law_371 rfl ?_
  refine lcallM_i (na := 2) E [.int (xs (i + (1 : Int32)).toNatClampNeg), .int (xs (i + (2 : Int32)).toNatClampNeg)] (met_at l (gm g) N (xs (i + (1 : Int32)).toNatClampNeg) (xs (i + (2 : Int32)).toNatClampNeg) σ hm) (lw_V q1888 q1889 q1890 q105 q1891) (by decide +kernel) rfl rfl ⟨Nat.le_of_ble_eq_true rfl, Nat.le_of_ble_eq_true rfl⟩ rfl rfl (Nat.le_of_ble_eq_true rfl) hb dL_law_372 rfl ?_
  exact lifeq E dL_law_375 rfl (k σ1 ξ1 hC1)
def OP_4 (N : Nat) (g : XG) (Cp : XS → MS → Prop) : Prop := ∀ (a1 : Int32) (a2 : Int32) (a3 : Int32) (ξ : XS) (σ : MS), Cp ξ σ → ∃ (v : Int32) (ξ1 : XS) (σ1 : MS), x0_row N g a1 a2 a3 ξ = some (v, ξ1) ∧ m_row N a1 a2 a3 σ = some (v, σ1) ∧ Cp ξ1 σ1
set_option maxHeartbeats 4000000 in
theorem lcase_4 {p : Program} {l : Launch} {e : Env} {s : State} {m : MethodId} {args : Array Value} {below : List Frame} {meth : Method} {c : Code} {cells slots : Nat} {A : Nat → Prop} {g : XG} {ξ : XS} {σ : MS} {b L : Nat} {xs : Nat → Int32} {Q : State → Prop} (E : EV p s m args c code 4 R_law) (hlt : l.stackTraces = false) (N : Nat) (Cp : XS → MS → Prop) (hop : OP_4 N g Cp) {i : Int32} (hi : ∀ j : Int32, 0 ≤ j → j ≤ 5 → inb (i + j) L = true) (hb : cells + 9000 ≤ room_1.cells ∧ slots + 110000 ≤ room_1.slots) (hC : Cp ξ σ) (k : ∀ (σ1 : MS) (ξ1 : XS), Cp ξ1 σ1 → CF p l e room_1 s m args below meth c 4 (cells + 9000) (slots + 110000) (LB g A s b L xs σ1 ξ1) Q 1506 [(0, .ref b), (1, .ref (xa g 0)), (2, .ref (xa g 500)), (3, .int i)] []) : CF p l e room_1 s m args below meth c 4 cells slots (LB g A s b L xs σ ξ) Q 380 [(0, .ref b), (1, .ref (xa g 0)), (2, .ref (xa g 500)), (3, .int i)] [] := by
  obtain ⟨v, ξ1, σ1, hx, hm, hC1⟩ := hop (xs (i + (1 : Int32)).toNatClampNeg) (xs (i + (2 : Int32)).toNatClampNeg) (xs (i + (3 : Int32)).toNatClampNeg) ξ σ hC
  refine cf_aload_n E dL_law_380 1 rfl rfl ?_
  refine cf_aload_n E dL_law_381 0 rfl rfl ?_
  refine cf_iload_n E dL_law_382 3 rfl rfl ?_
  refine cf_iconst E dL_law_383 ic_1 rfl ?_
  refine cf_iadd E dL_law_384 rfl ?_
  refine lsld E (hi _ (by decide) (by decide)) dL_law_385 rfl ?_
  refine cf_aload_n E dL_law_386 0 rfl rfl ?_
  refine cf_iload_n E dL_law_387 3 rfl rfl ?_
  refine cf_iconst E dL_law_388 ic_2 rfl ?_
  refine cf_iadd E dL_law_389 rfl ?_
  refine lsld E (hi _ (by decide) (by decide)) dL_law_390 rfl ?_
  refine cf_aload_n E dL_law_391 0 rfl rfl ?_
  refine cf_iload_n E dL_law_392 3 rfl rfl ?_
  refine cf_iconst E dL_law_393 ic_3 rfl ?_
  refine cf_iadd E dL_law_394 rfl ?_
  refine lsld E (hi _ (by decide) (by decide)) dL_law_395 rfl ?_
  refine CFwiden (show cells ≤ cells + 9000 from by omega) (show slots ≤ slots + 110000 from by omega) ?_
  refine lcallX_i (na := 3) E [.int (xs (i + (1 : Int32)).toNatClampNeg), .int (xs (i + (2 : Int32)).toNatClampNeg), .int (xs (i + (3 : Int32)).toNatClampNeg)] (met_x0_row l g N (xs (i + (1 : Int32)).toNatClampNeg) (xs (i + (2 : Int32)).toNatClampNeg) (xs (i + (3 : Int32)).toNatClampNeg) ξ hx) (C9 := RX0) (lw_V q694 q695 q696 q96 q697) (by decide +kernel) ⟨0, 1, _, _, rfl, rfl, rfl⟩ rfl rfl ⟨Nat.le_of_ble_eq_true rfl, Nat.le_of_ble_eq_true rfl⟩ rfl rfl (Nat.le_of_ble_eq_true rfl) hb dL_law_396 rfl ?_
  refine cf_aload_n E dL_law_399 2 rfl rfl ?_
  refine cf_aload_n E dL_law_400 0 rfl rfl ?_
  refine cf_iload_n E dL_law_401 3 rfl rfl ?_
  refine cf_iconst E dL_law_402 ic_1 rfl ?_
  refine cf_iadd E dL_law_403 rfl ?_
  refine lsld E (hi _ (by decide) (by decide)) dL_law_404 rfl ?_
  refine cf_aload_n E dL_law_405 0 rfl rfl ?_
  refine cf_iload_n E dL_law_406 3 rfl rfl ?_
  refine cf_iconst E dL_law_407 ic_2 rfl ?_
  refine cf_iadd E dL_law_408 rfl ?_
  refine lsld E (hi _ (by decide) (by decide)) dL_law_409 rfl ?_
  refine cf_aload_n E dL_law_410 0 rfl rfl ?_
  refine cf_iload_n E dL_law_411 3 rfl rfl ?_
  refine cf_iconst E dL_law_412 ic_3 rfl ?_
  refine cf_iadd E dL_law_413 rfl ?_
  refine lsld E (hi _ (by decide) (by decide)) dL_law_414 rfl ?_
  refine lcallM_i (na := 3) E [.int (xs (i + (1 : Int32)).toNatClampNeg), .int (xs (i + (2 : Int32)).toNatClampNeg), .int (xs (i + (3 : Int32)).toNatClampNeg)] (met_row l (gm g) N (xs (i + (1 : Int32)).toNatClampNeg) (xs (i + (2 : Int32)).toNatClampNeg) (xs (i + (3 : Int32)).toNatClampNeg) σ hm) (lw_V q1752 q1753 q1754 q105 q1755) (by decide +kernel) rfl rfl ⟨Nat.le_of_ble_eq_true rfl, Nat.le_of_ble_eq_true rfl⟩ rfl rfl (Nat.le_of_ble_eq_true rfl) hb dL_law_415 rfl ?_
  exact lifeq E dL_law_418 rfl (k σ1 ξ1 hC1)
def OP_5 (N : Nat) (g : XG) (Cp : XS → MS → Prop) : Prop := ∀ (a1 : Int32) (a2 : Int32) (ξ : XS) (σ : MS), Cp ξ σ → ∃ (v : Int32) (ξ1 : XS) (σ1 : MS), x0_put N g a1 a2 ξ = some (v, ξ1) ∧ m_put N a1 a2 σ = some (v, σ1) ∧ Cp ξ1 σ1
set_option maxHeartbeats 4000000 in
theorem lcase_5 {p : Program} {l : Launch} {e : Env} {s : State} {m : MethodId} {args : Array Value} {below : List Frame} {meth : Method} {c : Code} {cells slots : Nat} {A : Nat → Prop} {g : XG} {ξ : XS} {σ : MS} {b L : Nat} {xs : Nat → Int32} {Q : State → Prop} (E : EV p s m args c code 4 R_law) (hlt : l.stackTraces = false) (N : Nat) (Cp : XS → MS → Prop) (hop : OP_5 N g Cp) {i : Int32} (hi : ∀ j : Int32, 0 ≤ j → j ≤ 5 → inb (i + j) L = true) (hb : cells + 9000 ≤ room_1.cells ∧ slots + 110000 ≤ room_1.slots) (hC : Cp ξ σ) (k : ∀ (σ1 : MS) (ξ1 : XS), Cp ξ1 σ1 → CF p l e room_1 s m args below meth c 4 (cells + 9000) (slots + 110000) (LB g A s b L xs σ1 ξ1) Q 1506 [(0, .ref b), (1, .ref (xa g 0)), (2, .ref (xa g 500)), (3, .int i)] []) : CF p l e room_1 s m args below meth c 4 cells slots (LB g A s b L xs σ ξ) Q 423 [(0, .ref b), (1, .ref (xa g 0)), (2, .ref (xa g 500)), (3, .int i)] [] := by
  obtain ⟨v, ξ1, σ1, hx, hm, hC1⟩ := hop (xs (i + (1 : Int32)).toNatClampNeg) (xs (i + (2 : Int32)).toNatClampNeg) ξ σ hC
  refine cf_aload_n E dL_law_423 1 rfl rfl ?_
  refine cf_aload_n E dL_law_424 0 rfl rfl ?_
  refine cf_iload_n E dL_law_425 3 rfl rfl ?_
  refine cf_iconst E dL_law_426 ic_1 rfl ?_
  refine cf_iadd E dL_law_427 rfl ?_
  refine lsld E (hi _ (by decide) (by decide)) dL_law_428 rfl ?_
  refine cf_aload_n E dL_law_429 0 rfl rfl ?_
  refine cf_iload_n E dL_law_430 3 rfl rfl ?_
  refine cf_iconst E dL_law_431 ic_2 rfl ?_
  refine cf_iadd E dL_law_432 rfl ?_
  refine lsld E (hi _ (by decide) (by decide)) dL_law_433 rfl ?_
  refine CFwiden (show cells ≤ cells + 9000 from by omega) (show slots ≤ slots + 110000 from by omega) ?_
  refine lcallX_i (na := 2) E [.int (xs (i + (1 : Int32)).toNatClampNeg), .int (xs (i + (2 : Int32)).toNatClampNeg)] (met_x0_put l g N (xs (i + (1 : Int32)).toNatClampNeg) (xs (i + (2 : Int32)).toNatClampNeg) ξ hx) (C9 := RX0) (lw_V q698 q699 q700 q96 q701) (by decide +kernel) ⟨0, 1, _, _, rfl, rfl, rfl⟩ rfl rfl ⟨Nat.le_of_ble_eq_true rfl, Nat.le_of_ble_eq_true rfl⟩ rfl rfl (Nat.le_of_ble_eq_true rfl) hb dL_law_434 rfl ?_
  refine cf_aload_n E dL_law_437 2 rfl rfl ?_
  refine cf_aload_n E dL_law_438 0 rfl rfl ?_
  refine cf_iload_n E dL_law_439 3 rfl rfl ?_
  refine cf_iconst E dL_law_440 ic_1 rfl ?_
  refine cf_iadd E dL_law_441 rfl ?_
  refine lsld E (hi _ (by decide) (by decide)) dL_law_442 rfl ?_
  refine cf_aload_n E dL_law_443 0 rfl rfl ?_
  refine cf_iload_n E dL_law_444 3 rfl rfl ?_
  refine cf_iconst E dL_law_445 ic_2 rfl ?_
  refine cf_iadd E dL_law_446 rfl ?_
  refine lsld E (hi _ (by decide) (by decide)) dL_law_447 rfl ?_
  refine lcallM_i (na := 2) E [.int (xs (i + (1 : Int32)).toNatClampNeg), .int (xs (i + (2 : Int32)).toNatClampNeg)] (met_put l (gm g) N (xs (i + (1 : Int32)).toNatClampNeg) (xs (i + (2 : Int32)).toNatClampNeg) σ hm) (lw_V q1760 q1761 q1762 q105 q1763) (by decide +kernel) rfl rfl ⟨Nat.le_of_ble_eq_true rfl, Nat.le_of_ble_eq_true rfl⟩ rfl rfl (Nat.le_of_ble_eq_true rfl) hb dL_law_448 rfl ?_
  exact lifeq E dL_law_451 rfl (k σ1 ξ1 hC1)
def OP_6 (N : Nat) (g : XG) (Cp : XS → MS → Prop) : Prop := ∀ (a1 : Int32) (a2 : Int32) (ξ : XS) (σ : MS), Cp ξ σ → ∃ (v : Int32) (ξ1 : XS) (σ1 : MS), x0_own N g a1 a2 ξ = some (v, ξ1) ∧ m_own N a1 a2 σ = some (v, σ1) ∧ Cp ξ1 σ1
set_option maxHeartbeats 4000000 in
theorem lcase_6 {p : Program} {l : Launch} {e : Env} {s : State} {m : MethodId} {args : Array Value} {below : List Frame} {meth : Method} {c : Code} {cells slots : Nat} {A : Nat → Prop} {g : XG} {ξ : XS} {σ : MS} {b L : Nat} {xs : Nat → Int32} {Q : State → Prop} (E : EV p s m args c code 4 R_law) (hlt : l.stackTraces = false) (N : Nat) (Cp : XS → MS → Prop) (hop : OP_6 N g Cp) {i : Int32} (hi : ∀ j : Int32, 0 ≤ j → j ≤ 5 → inb (i + j) L = true) (hb : cells + 9000 ≤ room_1.cells ∧ slots + 110000 ≤ room_1.slots) (hC : Cp ξ σ) (k : ∀ (σ1 : MS) (ξ1 : XS), Cp ξ1 σ1 → CF p l e room_1 s m args below meth c 4 (cells + 9000) (slots + 110000) (LB g A s b L xs σ1 ξ1) Q 1506 [(0, .ref b), (1, .ref (xa g 0)), (2, .ref (xa g 500)), (3, .int i)] []) : CF p l e room_1 s m args below meth c 4 cells slots (LB g A s b L xs σ ξ) Q 456 [(0, .ref b), (1, .ref (xa g 0)), (2, .ref (xa g 500)), (3, .int i)] [] := by
  obtain ⟨v, ξ1, σ1, hx, hm, hC1⟩ := hop (xs (i + (1 : Int32)).toNatClampNeg) (xs (i + (2 : Int32)).toNatClampNeg) ξ σ hC
  refine cf_aload_n E dL_law_456 1 rfl rfl ?_
  refine cf_aload_n E dL_law_457 0 rfl rfl ?_
  refine cf_iload_n E dL_law_458 3 rfl rfl ?_
  refine cf_iconst E dL_law_459 ic_1 rfl ?_
  refine cf_iadd E dL_law_460 rfl ?_
  refine lsld E (hi _ (by decide) (by decide)) dL_law_461 rfl ?_
  refine cf_aload_n E dL_law_462 0 rfl rfl ?_
  refine cf_iload_n E dL_law_463 3 rfl rfl ?_
  refine cf_iconst E dL_law_464 ic_2 rfl ?_
  refine cf_iadd E dL_law_465 rfl ?_
  refine lsld E (hi _ (by decide) (by decide)) dL_law_466 rfl ?_
  refine CFwiden (show cells ≤ cells + 9000 from by omega) (show slots ≤ slots + 110000 from by omega) ?_
  refine lcallX_i (na := 2) E [.int (xs (i + (1 : Int32)).toNatClampNeg), .int (xs (i + (2 : Int32)).toNatClampNeg)] (met_x0_own l g N (xs (i + (1 : Int32)).toNatClampNeg) (xs (i + (2 : Int32)).toNatClampNeg) ξ hx) (C9 := RX0) (lw_V q702 q703 q704 q96 q705) (by decide +kernel) ⟨0, 1, _, _, rfl, rfl, rfl⟩ rfl rfl ⟨Nat.le_of_ble_eq_true rfl, Nat.le_of_ble_eq_true rfl⟩ rfl rfl (Nat.le_of_ble_eq_true rfl) hb dL_law_467 rfl ?_
  refine cf_aload_n E dL_law_470 2 rfl rfl ?_
  refine cf_aload_n E dL_law_471 0 rfl rfl ?_
  refine cf_iload_n E dL_law_472 3 rfl rfl ?_
  refine cf_iconst E dL_law_473 ic_1 rfl ?_
  refine cf_iadd E dL_law_474 rfl ?_
  refine lsld E (hi _ (by decide) (by decide)) dL_law_475 rfl ?_
  refine cf_aload_n E dL_law_476 0 rfl rfl ?_
  refine cf_iload_n E dL_law_477 3 rfl rfl ?_
  refine cf_iconst E dL_law_478 ic_2 rfl ?_
  refine cf_iadd E dL_law_479 rfl ?_
  refine lsld E (hi _ (by decide) (by decide)) dL_law_480 rfl ?_
  refine lcallM_i (na := 2) E [.int (xs (i + (1 : Int32)).toNatClampNeg), .int (xs (i + (2 : Int32)).toNatClampNeg)] (met_own l (gm g) N (xs (i + (1 : Int32)).toNatClampNeg) (xs (i + (2 : Int32)).toNatClampNeg) σ hm) (lw_V q1772 q1773 q1774 q105 q1775) (by decide +kernel) rfl rfl ⟨Nat.le_of_ble_eq_true rfl, Nat.le_of_ble_eq_true rfl⟩ rfl rfl (Nat.le_of_ble_eq_true rfl) hb dL_law_481 rfl ?_
  exact lifeq E dL_law_484 rfl (k σ1 ξ1 hC1)
def OP_7 (N : Nat) (g : XG) (Cp : XS → MS → Prop) : Prop := ∀ (a1 : Int32) (a2 : Int32) (ξ : XS) (σ : MS), Cp ξ σ → ∃ (v : Int32) (ξ1 : XS) (σ1 : MS), x0_skill N g a1 a2 ξ = some (v, ξ1) ∧ m_skill N a1 a2 σ = some (v, σ1) ∧ Cp ξ1 σ1
set_option maxHeartbeats 4000000 in
theorem lcase_7 {p : Program} {l : Launch} {e : Env} {s : State} {m : MethodId} {args : Array Value} {below : List Frame} {meth : Method} {c : Code} {cells slots : Nat} {A : Nat → Prop} {g : XG} {ξ : XS} {σ : MS} {b L : Nat} {xs : Nat → Int32} {Q : State → Prop} (E : EV p s m args c code 4 R_law) (hlt : l.stackTraces = false) (N : Nat) (Cp : XS → MS → Prop) (hop : OP_7 N g Cp) {i : Int32} (hi : ∀ j : Int32, 0 ≤ j → j ≤ 5 → inb (i + j) L = true) (hb : cells + 9000 ≤ room_1.cells ∧ slots + 110000 ≤ room_1.slots) (hC : Cp ξ σ) (k : ∀ (σ1 : MS) (ξ1 : XS), Cp ξ1 σ1 → CF p l e room_1 s m args below meth c 4 (cells + 9000) (slots + 110000) (LB g A s b L xs σ1 ξ1) Q 1506 [(0, .ref b), (1, .ref (xa g 0)), (2, .ref (xa g 500)), (3, .int i)] []) : CF p l e room_1 s m args below meth c 4 cells slots (LB g A s b L xs σ ξ) Q 489 [(0, .ref b), (1, .ref (xa g 0)), (2, .ref (xa g 500)), (3, .int i)] [] := by
  obtain ⟨v, ξ1, σ1, hx, hm, hC1⟩ := hop (xs (i + (1 : Int32)).toNatClampNeg) (xs (i + (2 : Int32)).toNatClampNeg) ξ σ hC
  refine cf_aload_n E dL_law_489 1 rfl rfl ?_
  refine cf_aload_n E dL_law_490 0 rfl rfl ?_
  refine cf_iload_n E dL_law_491 3 rfl rfl ?_
  refine cf_iconst E dL_law_492 ic_1 rfl ?_
  refine cf_iadd E dL_law_493 rfl ?_
  refine lsld E (hi _ (by decide) (by decide)) dL_law_494 rfl ?_
  refine cf_aload_n E dL_law_495 0 rfl rfl ?_
  refine cf_iload_n E dL_law_496 3 rfl rfl ?_
  refine cf_iconst E dL_law_497 ic_2 rfl ?_
  refine cf_iadd E dL_law_498 rfl ?_
  refine lsld E (hi _ (by decide) (by decide)) dL_law_499 rfl ?_
  refine CFwiden (show cells ≤ cells + 9000 from by omega) (show slots ≤ slots + 110000 from by omega) ?_
  refine lcallX_i (na := 2) E [.int (xs (i + (1 : Int32)).toNatClampNeg), .int (xs (i + (2 : Int32)).toNatClampNeg)] (met_x0_skill l g N (xs (i + (1 : Int32)).toNatClampNeg) (xs (i + (2 : Int32)).toNatClampNeg) ξ hx) (C9 := RX0) (lw_V q706 q707 q708 q96 q709) (by decide +kernel) ⟨0, 1, _, _, rfl, rfl, rfl⟩ rfl rfl ⟨Nat.le_of_ble_eq_true rfl, Nat.le_of_ble_eq_true rfl⟩ rfl rfl (Nat.le_of_ble_eq_true rfl) hb dL_law_500 rfl ?_
  refine cf_aload_n E dL_law_503 2 rfl rfl ?_
  refine cf_aload_n E dL_law_504 0 rfl rfl ?_
  refine cf_iload_n E dL_law_505 3 rfl rfl ?_
  refine cf_iconst E dL_law_506 ic_1 rfl ?_
  refine cf_iadd E dL_law_507 rfl ?_
  refine lsld E (hi _ (by decide) (by decide)) dL_law_508 rfl ?_
  refine cf_aload_n E dL_law_509 0 rfl rfl ?_
  refine cf_iload_n E dL_law_510 3 rfl rfl ?_
  refine cf_iconst E dL_law_511 ic_2 rfl ?_
  refine cf_iadd E dL_law_512 rfl ?_
  refine lsld E (hi _ (by decide) (by decide)) dL_law_513 rfl ?_
  refine lcallM_i (na := 2) E [.int (xs (i + (1 : Int32)).toNatClampNeg), .int (xs (i + (2 : Int32)).toNatClampNeg)] (met_skill l (gm g) N (xs (i + (1 : Int32)).toNatClampNeg) (xs (i + (2 : Int32)).toNatClampNeg) σ hm) (lw_V q1780 q1781 q1782 q105 q1783) (by decide +kernel) rfl rfl ⟨Nat.le_of_ble_eq_true rfl, Nat.le_of_ble_eq_true rfl⟩ rfl rfl (Nat.le_of_ble_eq_true rfl) hb dL_law_514 rfl ?_
  exact lifeq E dL_law_517 rfl (k σ1 ξ1 hC1)
def OP_8 (N : Nat) (g : XG) (Cp : XS → MS → Prop) : Prop := ∀ (a1 : Int32) (ξ : XS) (σ : MS), Cp ξ σ → ∃ (v : Int32) (ξ1 : XS) (σ1 : MS), x0_feed N g a1 ξ = some (v, ξ1) ∧ m_feed N a1 σ = some (v, σ1) ∧ Cp ξ1 σ1
set_option maxHeartbeats 4000000 in
theorem lcase_8 {p : Program} {l : Launch} {e : Env} {s : State} {m : MethodId} {args : Array Value} {below : List Frame} {meth : Method} {c : Code} {cells slots : Nat} {A : Nat → Prop} {g : XG} {ξ : XS} {σ : MS} {b L : Nat} {xs : Nat → Int32} {Q : State → Prop} (E : EV p s m args c code 4 R_law) (hlt : l.stackTraces = false) (N : Nat) (Cp : XS → MS → Prop) (hop : OP_8 N g Cp) {i : Int32} (hi : ∀ j : Int32, 0 ≤ j → j ≤ 5 → inb (i + j) L = true) (hb : cells + 9000 ≤ room_1.cells ∧ slots + 110000 ≤ room_1.slots) (hC : Cp ξ σ) (k : ∀ (σ1 : MS) (ξ1 : XS), Cp ξ1 σ1 → CF p l e room_1 s m args below meth c 4 (cells + 9000) (slots + 110000) (LB g A s b L xs σ1 ξ1) Q 1506 [(0, .ref b), (1, .ref (xa g 0)), (2, .ref (xa g 500)), (3, .int i)] []) : CF p l e room_1 s m args below meth c 4 cells slots (LB g A s b L xs σ ξ) Q 522 [(0, .ref b), (1, .ref (xa g 0)), (2, .ref (xa g 500)), (3, .int i)] [] := by
  obtain ⟨v, ξ1, σ1, hx, hm, hC1⟩ := hop (xs (i + (1 : Int32)).toNatClampNeg) ξ σ hC
  refine cf_aload_n E dL_law_522 1 rfl rfl ?_
  refine cf_aload_n E dL_law_523 0 rfl rfl ?_
  refine cf_iload_n E dL_law_524 3 rfl rfl ?_
  refine cf_iconst E dL_law_525 ic_1 rfl ?_
  refine cf_iadd E dL_law_526 rfl ?_
  refine lsld E (hi _ (by decide) (by decide)) dL_law_527 rfl ?_
  refine CFwiden (show cells ≤ cells + 9000 from by omega) (show slots ≤ slots + 110000 from by omega) ?_
  refine lcallX_i (na := 1) E [.int (xs (i + (1 : Int32)).toNatClampNeg)] (met_x0_feed l g N (xs (i + (1 : Int32)).toNatClampNeg) ξ hx) (C9 := RX0) (lw_V q710 q711 q712 q96 q713) (by decide +kernel) ⟨0, 1, _, _, rfl, rfl, rfl⟩ rfl rfl ⟨Nat.le_of_ble_eq_true rfl, Nat.le_of_ble_eq_true rfl⟩ rfl rfl (Nat.le_of_ble_eq_true rfl) hb dL_law_528 rfl ?_
  refine cf_aload_n E dL_law_531 2 rfl rfl ?_
  refine cf_aload_n E dL_law_532 0 rfl rfl ?_
  refine cf_iload_n E dL_law_533 3 rfl rfl ?_
  refine cf_iconst E dL_law_534 ic_1 rfl ?_
  refine cf_iadd E dL_law_535 rfl ?_
  refine lsld E (hi _ (by decide) (by decide)) dL_law_536 rfl ?_
  refine lcallM_i (na := 1) E [.int (xs (i + (1 : Int32)).toNatClampNeg)] (met_feed l (gm g) N (xs (i + (1 : Int32)).toNatClampNeg) σ hm) (lw_V q1784 q1785 q1786 q105 q1787) (by decide +kernel) rfl rfl ⟨Nat.le_of_ble_eq_true rfl, Nat.le_of_ble_eq_true rfl⟩ rfl rfl (Nat.le_of_ble_eq_true rfl) hb dL_law_537 rfl ?_
  exact lifeq E dL_law_540 rfl (k σ1 ξ1 hC1)
def OP_9 (N : Nat) (g : XG) (Cp : XS → MS → Prop) : Prop := ∀ (ξ : XS) (σ : MS), Cp ξ σ → ∃ (v : Int32) (σ1 : MS), m_town N σ = some (v, σ1) ∧ y0_town N g ξ 9000 110000 (fun v1 ξ1 => v1 = v ∧ Cp ξ1 σ1)
set_option maxHeartbeats 4000000 in
theorem lcase_9 {p : Program} {l : Launch} {e : Env} {s : State} {m : MethodId} {args : Array Value} {below : List Frame} {meth : Method} {c : Code} {cells slots : Nat} {A : Nat → Prop} {g : XG} {ξ : XS} {σ : MS} {b L : Nat} {xs : Nat → Int32} {Q : State → Prop} (E : EV p s m args c code 4 R_law) (hlt : l.stackTraces = false) (N : Nat) (Cp : XS → MS → Prop) (hop : OP_9 N g Cp) {i : Int32} (hi : ∀ j : Int32, 0 ≤ j → j ≤ 5 → inb (i + j) L = true) (hb : cells + 9000 ≤ room_1.cells ∧ slots + 110000 ≤ room_1.slots) (hC : Cp ξ σ) (k : ∀ (σ1 : MS) (ξ1 : XS), Cp ξ1 σ1 → CF p l e room_1 s m args below meth c 4 (cells + 9000) (slots + 110000) (LB g A s b L xs σ1 ξ1) Q 1506 [(0, .ref b), (1, .ref (xa g 0)), (2, .ref (xa g 500)), (3, .int i)] []) : CF p l e room_1 s m args below meth c 4 cells slots (LB g A s b L xs σ ξ) Q 545 [(0, .ref b), (1, .ref (xa g 0)), (2, .ref (xa g 500)), (3, .int i)] [] := by
  obtain ⟨v, σ1, hm, hx⟩ := hop  ξ σ hC
  refine cf_aload_n E dL_law_545 1 rfl rfl ?_
  refine lcallZ_i (na := 0) E [] (met_y0_town l g N  ξ 9000 110000 _ hlt hx) (C9 := RX0) (lw_VW q714 q715 q716 q96 q717) (by decide +kernel) ⟨0, 1, _, _, rfl, rfl, rfl⟩ ⟨Nat.le_of_ble_eq_true rfl, Nat.le_of_ble_eq_true rfl⟩ rfl rfl (Nat.le_of_ble_eq_true rfl) hb dL_law_546 rfl (fun v9 ξ1 hk => ?_)
  obtain ⟨rfl, hC1⟩ := hk
  refine cf_aload_n E dL_law_549 2 rfl rfl ?_
  refine lcallM_i (na := 0) E [] (met_town l (gm g) N  σ hm) (lw_V q1788 q1789 q1790 q105 q1791) (by decide +kernel) rfl rfl ⟨Nat.le_of_ble_eq_true rfl, Nat.le_of_ble_eq_true rfl⟩ rfl rfl (Nat.le_of_ble_eq_true rfl) hb dL_law_550 rfl ?_
  exact lifeq E dL_law_553 rfl (k σ1 ξ1 hC1)
def OP_10 (N : Nat) (g : XG) (Cp : XS → MS → Prop) : Prop := ∀ (a1 : Int32) (ξ : XS) (σ : MS), Cp ξ σ → ∃ (v : Int32) (ξ1 : XS) (σ1 : MS), x0_told N g a1 ξ = some (v, ξ1) ∧ m_told N a1 σ = some (v, σ1) ∧ Cp ξ1 σ1
set_option maxHeartbeats 4000000 in
theorem lcase_10 {p : Program} {l : Launch} {e : Env} {s : State} {m : MethodId} {args : Array Value} {below : List Frame} {meth : Method} {c : Code} {cells slots : Nat} {A : Nat → Prop} {g : XG} {ξ : XS} {σ : MS} {b L : Nat} {xs : Nat → Int32} {Q : State → Prop} (E : EV p s m args c code 4 R_law) (hlt : l.stackTraces = false) (N : Nat) (Cp : XS → MS → Prop) (hop : OP_10 N g Cp) {i : Int32} (hi : ∀ j : Int32, 0 ≤ j → j ≤ 5 → inb (i + j) L = true) (hb : cells + 9000 ≤ room_1.cells ∧ slots + 110000 ≤ room_1.slots) (hC : Cp ξ σ) (k : ∀ (σ1 : MS) (ξ1 : XS), Cp ξ1 σ1 → CF p l e room_1 s m args below meth c 4 (cells + 9000) (slots + 110000) (LB g A s b L xs σ1 ξ1) Q 1506 [(0, .ref b), (1, .ref (xa g 0)), (2, .ref (xa g 500)), (3, .int i)] []) : CF p l e room_1 s m args below meth c 4 cells slots (LB g A s b L xs σ ξ) Q 558 [(0, .ref b), (1, .ref (xa g 0)), (2, .ref (xa g 500)), (3, .int i)] [] := by
  obtain ⟨v, ξ1, σ1, hx, hm, hC1⟩ := hop (xs (i + (1 : Int32)).toNatClampNeg) ξ σ hC
  refine cf_aload_n E dL_law_558 1 rfl rfl ?_
  refine cf_aload_n E dL_law_559 0 rfl rfl ?_
  refine cf_iload_n E dL_law_560 3 rfl rfl ?_
  refine cf_iconst E dL_law_561 ic_1 rfl ?_
  refine cf_iadd E dL_law_562 rfl ?_
  refine lsld E (hi _ (by decide) (by decide)) dL_law_563 rfl ?_
  refine CFwiden (show cells ≤ cells + 9000 from by omega) (show slots ≤ slots + 110000 from by omega) ?_
  refine lcallX_i (na := 1) E [.int (xs (i + (1 : Int32)).toNatClampNeg)] (met_x0_told l g N (xs (i + (1 : Int32)).toNatClampNeg) ξ hx) (C9 := RX0) (lw_V q1061 q1062 q1063 q96 q1064) (by decide +kernel) ⟨0, 1, _, _, rfl, rfl, rfl⟩ rfl rfl ⟨Nat.le_of_ble_eq_true rfl, Nat.le_of_ble_eq_true rfl⟩ rfl rfl (Nat.le_of_ble_eq_true rfl) hb dL_law_564 rfl ?_
  refine cf_aload_n E dL_law_567 2 rfl rfl ?_
  refine cf_aload_n E dL_law_568 0 rfl rfl ?_
  refine cf_iload_n E dL_law_569 3 rfl rfl ?_
  refine cf_iconst E dL_law_570 ic_1 rfl ?_
  refine cf_iadd E dL_law_571 rfl ?_
  refine lsld E (hi _ (by decide) (by decide)) dL_law_572 rfl ?_
  refine lcallM_i (na := 1) E [.int (xs (i + (1 : Int32)).toNatClampNeg)] (met_told l (gm g) N (xs (i + (1 : Int32)).toNatClampNeg) σ hm) (lw_V q1892 q1893 q1894 q105 q1895) (by decide +kernel) rfl rfl ⟨Nat.le_of_ble_eq_true rfl, Nat.le_of_ble_eq_true rfl⟩ rfl rfl (Nat.le_of_ble_eq_true rfl) hb dL_law_573 rfl ?_
  exact lifeq E dL_law_576 rfl (k σ1 ξ1 hC1)
def OP_11 (N : Nat) (g : XG) (Cp : XS → MS → Prop) : Prop := ∀ (ξ : XS) (σ : MS), Cp ξ σ → ∃ (v : Int32) (ξ1 : XS) (σ1 : MS), x0_day N g ξ = some (v, ξ1) ∧ m_day N σ = some (v, σ1) ∧ Cp ξ1 σ1
set_option maxHeartbeats 4000000 in
theorem lcase_11 {p : Program} {l : Launch} {e : Env} {s : State} {m : MethodId} {args : Array Value} {below : List Frame} {meth : Method} {c : Code} {cells slots : Nat} {A : Nat → Prop} {g : XG} {ξ : XS} {σ : MS} {b L : Nat} {xs : Nat → Int32} {Q : State → Prop} (E : EV p s m args c code 4 R_law) (hlt : l.stackTraces = false) (N : Nat) (Cp : XS → MS → Prop) (hop : OP_11 N g Cp) {i : Int32} (hi : ∀ j : Int32, 0 ≤ j → j ≤ 5 → inb (i + j) L = true) (hb : cells + 9000 ≤ room_1.cells ∧ slots + 110000 ≤ room_1.slots) (hC : Cp ξ σ) (k : ∀ (σ1 : MS) (ξ1 : XS), Cp ξ1 σ1 → CF p l e room_1 s m args below meth c 4 (cells + 9000) (slots + 110000) (LB g A s b L xs σ1 ξ1) Q 1506 [(0, .ref b), (1, .ref (xa g 0)), (2, .ref (xa g 500)), (3, .int i)] []) : CF p l e room_1 s m args below meth c 4 cells slots (LB g A s b L xs σ ξ) Q 581 [(0, .ref b), (1, .ref (xa g 0)), (2, .ref (xa g 500)), (3, .int i)] [] := by
  obtain ⟨v, ξ1, σ1, hx, hm, hC1⟩ := hop  ξ σ hC
  refine cf_aload_n E dL_law_581 1 rfl rfl ?_
  refine CFwiden (show cells ≤ cells + 9000 from by omega) (show slots ≤ slots + 110000 from by omega) ?_
  refine lcallX_i (na := 0) E [] (met_x0_day l g N  ξ hx) (C9 := RX0) (lw_V q1065 q1066 q1067 q96 q1068) (by decide +kernel) ⟨0, 1, _, _, rfl, rfl, rfl⟩ rfl rfl ⟨Nat.le_of_ble_eq_true rfl, Nat.le_of_ble_eq_true rfl⟩ rfl rfl (Nat.le_of_ble_eq_true rfl) hb dL_law_582 rfl ?_
  refine cf_aload_n E dL_law_585 2 rfl rfl ?_
  refine lcallM_i (na := 0) E [] (met_day l (gm g) N  σ hm) (lw_V q1900 q1901 q1902 q105 q1903) (by decide +kernel) rfl rfl ⟨Nat.le_of_ble_eq_true rfl, Nat.le_of_ble_eq_true rfl⟩ rfl rfl (Nat.le_of_ble_eq_true rfl) hb dL_law_586 rfl ?_
  exact lifeq E dL_law_589 rfl (k σ1 ξ1 hC1)
def OP_12 (N : Nat) (g : XG) (Cp : XS → MS → Prop) : Prop := ∀ (a1 : Int32) (ξ : XS) (σ : MS), Cp ξ σ → ∃ (v : Int32) (σ1 : MS), m_gust N a1 σ = some (v, σ1) ∧ y0_gust N g a1 ξ 9000 110000 (fun v1 ξ1 => v1 = v ∧ Cp ξ1 σ1)
set_option maxHeartbeats 4000000 in
theorem lcase_12 {p : Program} {l : Launch} {e : Env} {s : State} {m : MethodId} {args : Array Value} {below : List Frame} {meth : Method} {c : Code} {cells slots : Nat} {A : Nat → Prop} {g : XG} {ξ : XS} {σ : MS} {b L : Nat} {xs : Nat → Int32} {Q : State → Prop} (E : EV p s m args c code 4 R_law) (hlt : l.stackTraces = false) (N : Nat) (Cp : XS → MS → Prop) (hop : OP_12 N g Cp) {i : Int32} (hi : ∀ j : Int32, 0 ≤ j → j ≤ 5 → inb (i + j) L = true) (hb : cells + 9000 ≤ room_1.cells ∧ slots + 110000 ≤ room_1.slots) (hC : Cp ξ σ) (k : ∀ (σ1 : MS) (ξ1 : XS), Cp ξ1 σ1 → CF p l e room_1 s m args below meth c 4 (cells + 9000) (slots + 110000) (LB g A s b L xs σ1 ξ1) Q 1506 [(0, .ref b), (1, .ref (xa g 0)), (2, .ref (xa g 500)), (3, .int i)] []) : CF p l e room_1 s m args below meth c 4 cells slots (LB g A s b L xs σ ξ) Q 594 [(0, .ref b), (1, .ref (xa g 0)), (2, .ref (xa g 500)), (3, .int i)] [] := by
  obtain ⟨v, σ1, hm, hx⟩ := hop (xs (i + (1 : Int32)).toNatClampNeg) ξ σ hC
  refine cf_aload_n E dL_law_594 1 rfl rfl ?_
  refine cf_aload_n E dL_law_595 0 rfl rfl ?_
  refine cf_iload_n E dL_law_596 3 rfl rfl ?_
  refine cf_iconst E dL_law_597 ic_1 rfl ?_
  refine cf_iadd E dL_law_598 rfl ?_
  refine lsld E (hi _ (by decide) (by decide)) dL_law_599 rfl ?_
  refine lcallY_i (na := 1) E [.int (xs (i + (1 : Int32)).toNatClampNeg)] (met_y0_gust l g N (xs (i + (1 : Int32)).toNatClampNeg) ξ 9000 110000 _ hx) (C9 := RX0) (lw_V q1079 q1080 q1081 q96 q1082) (by decide +kernel) ⟨0, 1, _, _, rfl, rfl, rfl⟩ ⟨Nat.le_of_ble_eq_true rfl, Nat.le_of_ble_eq_true rfl⟩ rfl rfl (Nat.le_of_ble_eq_true rfl) hb dL_law_600 rfl (fun v9 ξ1 hk => ?_)
  obtain ⟨rfl, hC1⟩ := hk
  refine cf_aload_n E dL_law_603 2 rfl rfl ?_
  refine cf_aload_n E dL_law_604 0 rfl rfl ?_
  refine cf_iload_n E dL_law_605 3 rfl rfl ?_
  refine cf_iconst E dL_law_606 ic_1 rfl ?_
  refine cf_iadd E dL_law_607 rfl ?_
  refine lsld E (hi _ (by decide) (by decide)) dL_law_608 rfl ?_
  refine lcallM_i (na := 1) E [.int (xs (i + (1 : Int32)).toNatClampNeg)] (met_gust l (gm g) N (xs (i + (1 : Int32)).toNatClampNeg) σ hm) (lw_V q1913 q1914 q1915 q105 q1916) (by decide +kernel) rfl rfl ⟨Nat.le_of_ble_eq_true rfl, Nat.le_of_ble_eq_true rfl⟩ rfl rfl (Nat.le_of_ble_eq_true rfl) hb dL_law_609 rfl ?_
  exact lifeq E dL_law_612 rfl (k σ1 ξ1 hC1)
def OP_13 (N : Nat) (g : XG) (Cp : XS → MS → Prop) : Prop := ∀ (a1 : Int32) (a2 : Int32) (ξ : XS) (σ : MS), Cp ξ σ → ∃ (v : Int32) (ξ1 : XS) (σ1 : MS), x0_change N g a1 a2 ξ = some (v, ξ1) ∧ m_change N a1 a2 σ = some (v, σ1) ∧ Cp ξ1 σ1
set_option maxHeartbeats 4000000 in
theorem lcase_13 {p : Program} {l : Launch} {e : Env} {s : State} {m : MethodId} {args : Array Value} {below : List Frame} {meth : Method} {c : Code} {cells slots : Nat} {A : Nat → Prop} {g : XG} {ξ : XS} {σ : MS} {b L : Nat} {xs : Nat → Int32} {Q : State → Prop} (E : EV p s m args c code 4 R_law) (hlt : l.stackTraces = false) (N : Nat) (Cp : XS → MS → Prop) (hop : OP_13 N g Cp) {i : Int32} (hi : ∀ j : Int32, 0 ≤ j → j ≤ 5 → inb (i + j) L = true) (hb : cells + 9000 ≤ room_1.cells ∧ slots + 110000 ≤ room_1.slots) (hC : Cp ξ σ) (k : ∀ (σ1 : MS) (ξ1 : XS), Cp ξ1 σ1 → CF p l e room_1 s m args below meth c 4 (cells + 9000) (slots + 110000) (LB g A s b L xs σ1 ξ1) Q 1506 [(0, .ref b), (1, .ref (xa g 0)), (2, .ref (xa g 500)), (3, .int i)] []) : CF p l e room_1 s m args below meth c 4 cells slots (LB g A s b L xs σ ξ) Q 617 [(0, .ref b), (1, .ref (xa g 0)), (2, .ref (xa g 500)), (3, .int i)] [] := by
  obtain ⟨v, ξ1, σ1, hx, hm, hC1⟩ := hop (xs (i + (1 : Int32)).toNatClampNeg) (xs (i + (2 : Int32)).toNatClampNeg) ξ σ hC
  refine cf_aload_n E dL_law_617 1 rfl rfl ?_
  refine cf_aload_n E dL_law_618 0 rfl rfl ?_
  refine cf_iload_n E dL_law_619 3 rfl rfl ?_
  refine cf_iconst E dL_law_620 ic_1 rfl ?_
  refine cf_iadd E dL_law_621 rfl ?_
  refine lsld E (hi _ (by decide) (by decide)) dL_law_622 rfl ?_
  refine cf_aload_n E dL_law_623 0 rfl rfl ?_
  refine cf_iload_n E dL_law_624 3 rfl rfl ?_
  refine cf_iconst E dL_law_625 ic_2 rfl ?_
  refine cf_iadd E dL_law_626 rfl ?_
  refine lsld E (hi _ (by decide) (by decide)) dL_law_627 rfl ?_
  refine CFwiden (show cells ≤ cells + 9000 from by omega) (show slots ≤ slots + 110000 from by omega) ?_
  refine lcallX_i (na := 2) E [.int (xs (i + (1 : Int32)).toNatClampNeg), .int (xs (i + (2 : Int32)).toNatClampNeg)] (met_x0_change l g N (xs (i + (1 : Int32)).toNatClampNeg) (xs (i + (2 : Int32)).toNatClampNeg) ξ hx) (C9 := RX0) (lw_V q1094 q1095 q1096 q96 q1097) (by decide +kernel) ⟨0, 1, _, _, rfl, rfl, rfl⟩ rfl rfl ⟨Nat.le_of_ble_eq_true rfl, Nat.le_of_ble_eq_true rfl⟩ rfl rfl (Nat.le_of_ble_eq_true rfl) hb dL_law_628 rfl ?_
  refine cf_aload_n E dL_law_631 2 rfl rfl ?_
  refine cf_aload_n E dL_law_632 0 rfl rfl ?_
  refine cf_iload_n E dL_law_633 3 rfl rfl ?_
  refine cf_iconst E dL_law_634 ic_1 rfl ?_
  refine cf_iadd E dL_law_635 rfl ?_
  refine lsld E (hi _ (by decide) (by decide)) dL_law_636 rfl ?_
  refine cf_aload_n E dL_law_637 0 rfl rfl ?_
  refine cf_iload_n E dL_law_638 3 rfl rfl ?_
  refine cf_iconst E dL_law_639 ic_2 rfl ?_
  refine cf_iadd E dL_law_640 rfl ?_
  refine lsld E (hi _ (by decide) (by decide)) dL_law_641 rfl ?_
  refine lcallM_i (na := 2) E [.int (xs (i + (1 : Int32)).toNatClampNeg), .int (xs (i + (2 : Int32)).toNatClampNeg)] (met_change l (gm g) N (xs (i + (1 : Int32)).toNatClampNeg) (xs (i + (2 : Int32)).toNatClampNeg) σ hm) (lw_V q1921 q1922 q1923 q105 q1924) (by decide +kernel) rfl rfl ⟨Nat.le_of_ble_eq_true rfl, Nat.le_of_ble_eq_true rfl⟩ rfl rfl (Nat.le_of_ble_eq_true rfl) hb dL_law_642 rfl ?_
  exact lifeq E dL_law_645 rfl (k σ1 ξ1 hC1)
def OP_14 (N : Nat) (g : XG) (Cp : XS → MS → Prop) : Prop := ∀ (a1 : Int32) (ξ : XS) (σ : MS), Cp ξ σ → ∃ (v : Int32) (ξ1 : XS) (σ1 : MS), x0_today N g a1 ξ = some (v, ξ1) ∧ m_today N a1 σ = some (v, σ1) ∧ Cp ξ1 σ1
set_option maxHeartbeats 4000000 in
theorem lcase_14 {p : Program} {l : Launch} {e : Env} {s : State} {m : MethodId} {args : Array Value} {below : List Frame} {meth : Method} {c : Code} {cells slots : Nat} {A : Nat → Prop} {g : XG} {ξ : XS} {σ : MS} {b L : Nat} {xs : Nat → Int32} {Q : State → Prop} (E : EV p s m args c code 4 R_law) (hlt : l.stackTraces = false) (N : Nat) (Cp : XS → MS → Prop) (hop : OP_14 N g Cp) {i : Int32} (hi : ∀ j : Int32, 0 ≤ j → j ≤ 5 → inb (i + j) L = true) (hb : cells + 9000 ≤ room_1.cells ∧ slots + 110000 ≤ room_1.slots) (hC : Cp ξ σ) (k : ∀ (σ1 : MS) (ξ1 : XS), Cp ξ1 σ1 → CF p l e room_1 s m args below meth c 4 (cells + 9000) (slots + 110000) (LB g A s b L xs σ1 ξ1) Q 1506 [(0, .ref b), (1, .ref (xa g 0)), (2, .ref (xa g 500)), (3, .int i)] []) : CF p l e room_1 s m args below meth c 4 cells slots (LB g A s b L xs σ ξ) Q 650 [(0, .ref b), (1, .ref (xa g 0)), (2, .ref (xa g 500)), (3, .int i)] [] := by
  obtain ⟨v, ξ1, σ1, hx, hm, hC1⟩ := hop (xs (i + (1 : Int32)).toNatClampNeg) ξ σ hC
  refine cf_aload_n E dL_law_650 1 rfl rfl ?_
  refine cf_aload_n E dL_law_651 0 rfl rfl ?_
  refine cf_iload_n E dL_law_652 3 rfl rfl ?_
  refine cf_iconst E dL_law_653 ic_1 rfl ?_
  refine cf_iadd E dL_law_654 rfl ?_
  refine lsld E (hi _ (by decide) (by decide)) dL_law_655 rfl ?_
  refine CFwiden (show cells ≤ cells + 9000 from by omega) (show slots ≤ slots + 110000 from by omega) ?_
  refine lcallX_i (na := 1) E [.int (xs (i + (1 : Int32)).toNatClampNeg)] (met_x0_today l g N (xs (i + (1 : Int32)).toNatClampNeg) ξ hx) (C9 := RX0) (lw_V q1102 q1103 q1104 q96 q1105) (by decide +kernel) ⟨0, 1, _, _, rfl, rfl, rfl⟩ rfl rfl ⟨Nat.le_of_ble_eq_true rfl, Nat.le_of_ble_eq_true rfl⟩ rfl rfl (Nat.le_of_ble_eq_true rfl) hb dL_law_656 rfl ?_
  refine cf_aload_n E dL_law_659 2 rfl rfl ?_
  refine cf_aload_n E dL_law_660 0 rfl rfl ?_
  refine cf_iload_n E dL_law_661 3 rfl rfl ?_
  refine cf_iconst E dL_law_662 ic_1 rfl ?_
  refine cf_iadd E dL_law_663 rfl ?_
  refine lsld E (hi _ (by decide) (by decide)) dL_law_664 rfl ?_
  refine lcallM_i (na := 1) E [.int (xs (i + (1 : Int32)).toNatClampNeg)] (met_today l (gm g) N (xs (i + (1 : Int32)).toNatClampNeg) σ hm) (lw_V q1929 q1930 q1931 q105 q1932) (by decide +kernel) rfl rfl ⟨Nat.le_of_ble_eq_true rfl, Nat.le_of_ble_eq_true rfl⟩ rfl rfl (Nat.le_of_ble_eq_true rfl) hb dL_law_665 rfl ?_
  exact lifeq E dL_law_668 rfl (k σ1 ξ1 hC1)
def OP_15 (N : Nat) (g : XG) (Cp : XS → MS → Prop) : Prop := ∀ (ξ : XS) (σ : MS), Cp ξ σ → ∃ (v : Int32) (ξ1 : XS) (σ1 : MS), x0_enough N g ξ = some (v, ξ1) ∧ m_enough N σ = some (v, σ1) ∧ Cp ξ1 σ1
set_option maxHeartbeats 4000000 in
theorem lcase_15 {p : Program} {l : Launch} {e : Env} {s : State} {m : MethodId} {args : Array Value} {below : List Frame} {meth : Method} {c : Code} {cells slots : Nat} {A : Nat → Prop} {g : XG} {ξ : XS} {σ : MS} {b L : Nat} {xs : Nat → Int32} {Q : State → Prop} (E : EV p s m args c code 4 R_law) (hlt : l.stackTraces = false) (N : Nat) (Cp : XS → MS → Prop) (hop : OP_15 N g Cp) {i : Int32} (hi : ∀ j : Int32, 0 ≤ j → j ≤ 5 → inb (i + j) L = true) (hb : cells + 9000 ≤ room_1.cells ∧ slots + 110000 ≤ room_1.slots) (hC : Cp ξ σ) (k : ∀ (σ1 : MS) (ξ1 : XS), Cp ξ1 σ1 → CF p l e room_1 s m args below meth c 4 (cells + 9000) (slots + 110000) (LB g A s b L xs σ1 ξ1) Q 1506 [(0, .ref b), (1, .ref (xa g 0)), (2, .ref (xa g 500)), (3, .int i)] []) : CF p l e room_1 s m args below meth c 4 cells slots (LB g A s b L xs σ ξ) Q 673 [(0, .ref b), (1, .ref (xa g 0)), (2, .ref (xa g 500)), (3, .int i)] [] := by
  obtain ⟨v, ξ1, σ1, hx, hm, hC1⟩ := hop  ξ σ hC
  refine cf_aload_n E dL_law_673 1 rfl rfl ?_
  refine CFwiden (show cells ≤ cells + 9000 from by omega) (show slots ≤ slots + 110000 from by omega) ?_
  refine lcallX_i (na := 0) E [] (met_x0_enough l g N  ξ hx) (C9 := RX0) (lw_V q1106 q1107 q1108 q96 q1109) (by decide +kernel) ⟨0, 1, _, _, rfl, rfl, rfl⟩ rfl rfl ⟨Nat.le_of_ble_eq_true rfl, Nat.le_of_ble_eq_true rfl⟩ rfl rfl (Nat.le_of_ble_eq_true rfl) hb dL_law_674 rfl ?_
  refine cf_aload_n E dL_law_677 2 rfl rfl ?_
  refine lcallM_i (na := 0) E [] (met_enough l (gm g) N  σ hm) (lw_V q1933 q1934 q1935 q105 q1936) (by decide +kernel) rfl rfl ⟨Nat.le_of_ble_eq_true rfl, Nat.le_of_ble_eq_true rfl⟩ rfl rfl (Nat.le_of_ble_eq_true rfl) hb dL_law_678 rfl ?_
  exact lifeq E dL_law_681 rfl (k σ1 ξ1 hC1)
def OP_16 (N : Nat) (g : XG) (Cp : XS → MS → Prop) : Prop := ∀ (a1 : Int32) (ξ : XS) (σ : MS), Cp ξ σ → ∃ (v : Int32) (ξ1 : XS) (σ1 : MS), x0_best N g a1 ξ = some (v, ξ1) ∧ m_best N a1 σ = some (v, σ1) ∧ Cp ξ1 σ1
set_option maxHeartbeats 4000000 in
theorem lcase_16 {p : Program} {l : Launch} {e : Env} {s : State} {m : MethodId} {args : Array Value} {below : List Frame} {meth : Method} {c : Code} {cells slots : Nat} {A : Nat → Prop} {g : XG} {ξ : XS} {σ : MS} {b L : Nat} {xs : Nat → Int32} {Q : State → Prop} (E : EV p s m args c code 4 R_law) (hlt : l.stackTraces = false) (N : Nat) (Cp : XS → MS → Prop) (hop : OP_16 N g Cp) {i : Int32} (hi : ∀ j : Int32, 0 ≤ j → j ≤ 5 → inb (i + j) L = true) (hb : cells + 9000 ≤ room_1.cells ∧ slots + 110000 ≤ room_1.slots) (hC : Cp ξ σ) (k : ∀ (σ1 : MS) (ξ1 : XS), Cp ξ1 σ1 → CF p l e room_1 s m args below meth c 4 (cells + 9000) (slots + 110000) (LB g A s b L xs σ1 ξ1) Q 1506 [(0, .ref b), (1, .ref (xa g 0)), (2, .ref (xa g 500)), (3, .int i)] []) : CF p l e room_1 s m args below meth c 4 cells slots (LB g A s b L xs σ ξ) Q 686 [(0, .ref b), (1, .ref (xa g 0)), (2, .ref (xa g 500)), (3, .int i)] [] := by
  obtain ⟨v, ξ1, σ1, hx, hm, hC1⟩ := hop (xs (i + (1 : Int32)).toNatClampNeg) ξ σ hC
  refine cf_aload_n E dL_law_686 1 rfl rfl ?_
  refine cf_aload_n E dL_law_687 0 rfl rfl ?_
  refine cf_iload_n E dL_law_688 3 rfl rfl ?_
  refine cf_iconst E dL_law_689 ic_1 rfl ?_
  refine cf_iadd E dL_law_690 rfl ?_
  refine lsld E (hi _ (by decide) (by decide)) dL_law_691 rfl ?_
  refine CFwiden (show cells ≤ cells + 9000 from by omega) (show slots ≤ slots + 110000 from by omega) ?_
  refine lcallX_i (na := 1) E [.int (xs (i + (1 : Int32)).toNatClampNeg)] (met_x0_best l g N (xs (i + (1 : Int32)).toNatClampNeg) ξ hx) (C9 := RX0) (lw_V q1114 q1115 q1116 q96 q1117) (by decide +kernel) ⟨0, 1, _, _, rfl, rfl, rfl⟩ rfl rfl ⟨Nat.le_of_ble_eq_true rfl, Nat.le_of_ble_eq_true rfl⟩ rfl rfl (Nat.le_of_ble_eq_true rfl) hb dL_law_692 rfl ?_
  refine cf_aload_n E dL_law_695 2 rfl rfl ?_
  refine cf_aload_n E dL_law_696 0 rfl rfl ?_
  refine cf_iload_n E dL_law_697 3 rfl rfl ?_
  refine cf_iconst E dL_law_698 ic_1 rfl ?_
  refine cf_iadd E dL_law_699 rfl ?_
  refine lsld E (hi _ (by decide) (by decide)) dL_law_700 rfl ?_
  refine lcallM_i (na := 1) E [.int (xs (i + (1 : Int32)).toNatClampNeg)] (met_best l (gm g) N (xs (i + (1 : Int32)).toNatClampNeg) σ hm) (lw_V q1937 q1938 q1939 q105 q1940) (by decide +kernel) rfl rfl ⟨Nat.le_of_ble_eq_true rfl, Nat.le_of_ble_eq_true rfl⟩ rfl rfl (Nat.le_of_ble_eq_true rfl) hb dL_law_701 rfl ?_
  exact lifeq E dL_law_704 rfl (k σ1 ξ1 hC1)
def OP_17 (N : Nat) (g : XG) (Cp : XS → MS → Prop) : Prop := ∀ (a1 : Int32) (a2 : Int32) (ξ : XS) (σ : MS), Cp ξ σ → ∃ (v : Int32) (ξ1 : XS) (σ1 : MS), x0_on N g a1 a2 ξ = some (v, ξ1) ∧ m_on N a1 a2 σ = some (v, σ1) ∧ Cp ξ1 σ1
set_option maxHeartbeats 4000000 in
theorem lcase_17 {p : Program} {l : Launch} {e : Env} {s : State} {m : MethodId} {args : Array Value} {below : List Frame} {meth : Method} {c : Code} {cells slots : Nat} {A : Nat → Prop} {g : XG} {ξ : XS} {σ : MS} {b L : Nat} {xs : Nat → Int32} {Q : State → Prop} (E : EV p s m args c code 4 R_law) (hlt : l.stackTraces = false) (N : Nat) (Cp : XS → MS → Prop) (hop : OP_17 N g Cp) {i : Int32} (hi : ∀ j : Int32, 0 ≤ j → j ≤ 5 → inb (i + j) L = true) (hb : cells + 9000 ≤ room_1.cells ∧ slots + 110000 ≤ room_1.slots) (hC : Cp ξ σ) (k : ∀ (σ1 : MS) (ξ1 : XS), Cp ξ1 σ1 → CF p l e room_1 s m args below meth c 4 (cells + 9000) (slots + 110000) (LB g A s b L xs σ1 ξ1) Q 1506 [(0, .ref b), (1, .ref (xa g 0)), (2, .ref (xa g 500)), (3, .int i)] []) : CF p l e room_1 s m args below meth c 4 cells slots (LB g A s b L xs σ ξ) Q 709 [(0, .ref b), (1, .ref (xa g 0)), (2, .ref (xa g 500)), (3, .int i)] [] := by
  obtain ⟨v, ξ1, σ1, hx, hm, hC1⟩ := hop (xs (i + (1 : Int32)).toNatClampNeg) (xs (i + (2 : Int32)).toNatClampNeg) ξ σ hC
  refine cf_aload_n E dL_law_709 1 rfl rfl ?_
  refine cf_aload_n E dL_law_710 0 rfl rfl ?_
  refine cf_iload_n E dL_law_711 3 rfl rfl ?_
  refine cf_iconst E dL_law_712 ic_1 rfl ?_
  refine cf_iadd E dL_law_713 rfl ?_
  refine lsld E (hi _ (by decide) (by decide)) dL_law_714 rfl ?_
  refine cf_aload_n E dL_law_715 0 rfl rfl ?_
  refine cf_iload_n E dL_law_716 3 rfl rfl ?_
  refine cf_iconst E dL_law_717 ic_2 rfl ?_
  refine cf_iadd E dL_law_718 rfl ?_
  refine lsld E (hi _ (by decide) (by decide)) dL_law_719 rfl ?_
  refine CFwiden (show cells ≤ cells + 9000 from by omega) (show slots ≤ slots + 110000 from by omega) ?_
  refine lcallX_i (na := 2) E [.int (xs (i + (1 : Int32)).toNatClampNeg), .int (xs (i + (2 : Int32)).toNatClampNeg)] (met_x0_on l g N (xs (i + (1 : Int32)).toNatClampNeg) (xs (i + (2 : Int32)).toNatClampNeg) ξ hx) (C9 := RX0) (lw_V q1118 q1119 q1120 q96 q1121) (by decide +kernel) ⟨0, 1, _, _, rfl, rfl, rfl⟩ rfl rfl ⟨Nat.le_of_ble_eq_true rfl, Nat.le_of_ble_eq_true rfl⟩ rfl rfl (Nat.le_of_ble_eq_true rfl) hb dL_law_720 rfl ?_
  refine cf_aload_n E dL_law_723 2 rfl rfl ?_
  refine cf_aload_n E dL_law_724 0 rfl rfl ?_
  refine cf_iload_n E dL_law_725 3 rfl rfl ?_
  refine cf_iconst E dL_law_726 ic_1 rfl ?_
  refine cf_iadd E dL_law_727 rfl ?_
  refine lsld E (hi _ (by decide) (by decide)) dL_law_728 rfl ?_
  refine cf_aload_n E dL_law_729 0 rfl rfl ?_
  refine cf_iload_n E dL_law_730 3 rfl rfl ?_
  refine cf_iconst E dL_law_731 ic_2 rfl ?_
  refine cf_iadd E dL_law_732 rfl ?_
  refine lsld E (hi _ (by decide) (by decide)) dL_law_733 rfl ?_
  refine lcallM_i (na := 2) E [.int (xs (i + (1 : Int32)).toNatClampNeg), .int (xs (i + (2 : Int32)).toNatClampNeg)] (met_on l (gm g) N (xs (i + (1 : Int32)).toNatClampNeg) (xs (i + (2 : Int32)).toNatClampNeg) σ hm) (lw_V q1941 q1942 q1943 q105 q1944) (by decide +kernel) rfl rfl ⟨Nat.le_of_ble_eq_true rfl, Nat.le_of_ble_eq_true rfl⟩ rfl rfl (Nat.le_of_ble_eq_true rfl) hb dL_law_734 rfl ?_
  exact lifeq E dL_law_737 rfl (k σ1 ξ1 hC1)
def OP_18 (N : Nat) (g : XG) (Cp : XS → MS → Prop) : Prop := ∀ (a1 : Int32) (ξ : XS) (σ : MS), Cp ξ σ → ∃ (v : Int32) (ξ1 : XS) (σ1 : MS), x0_lasts N g a1 ξ = some (v, ξ1) ∧ m_lasts N a1 σ = some (v, σ1) ∧ Cp ξ1 σ1
set_option maxHeartbeats 4000000 in
theorem lcase_18 {p : Program} {l : Launch} {e : Env} {s : State} {m : MethodId} {args : Array Value} {below : List Frame} {meth : Method} {c : Code} {cells slots : Nat} {A : Nat → Prop} {g : XG} {ξ : XS} {σ : MS} {b L : Nat} {xs : Nat → Int32} {Q : State → Prop} (E : EV p s m args c code 4 R_law) (hlt : l.stackTraces = false) (N : Nat) (Cp : XS → MS → Prop) (hop : OP_18 N g Cp) {i : Int32} (hi : ∀ j : Int32, 0 ≤ j → j ≤ 5 → inb (i + j) L = true) (hb : cells + 9000 ≤ room_1.cells ∧ slots + 110000 ≤ room_1.slots) (hC : Cp ξ σ) (k : ∀ (σ1 : MS) (ξ1 : XS), Cp ξ1 σ1 → CF p l e room_1 s m args below meth c 4 (cells + 9000) (slots + 110000) (LB g A s b L xs σ1 ξ1) Q 1506 [(0, .ref b), (1, .ref (xa g 0)), (2, .ref (xa g 500)), (3, .int i)] []) : CF p l e room_1 s m args below meth c 4 cells slots (LB g A s b L xs σ ξ) Q 742 [(0, .ref b), (1, .ref (xa g 0)), (2, .ref (xa g 500)), (3, .int i)] [] := by
  obtain ⟨v, ξ1, σ1, hx, hm, hC1⟩ := hop (xs (i + (1 : Int32)).toNatClampNeg) ξ σ hC
  refine cf_aload_n E dL_law_742 1 rfl rfl ?_
  refine cf_aload_n E dL_law_743 0 rfl rfl ?_
  refine cf_iload_n E dL_law_744 3 rfl rfl ?_
  refine cf_iconst E dL_law_745 ic_1 rfl ?_
  refine cf_iadd E dL_law_746 rfl ?_
  refine lsld E (hi _ (by decide) (by decide)) dL_law_747 rfl ?_
  refine CFwiden (show cells ≤ cells + 9000 from by omega) (show slots ≤ slots + 110000 from by omega) ?_
  refine lcallX_i (na := 1) E [.int (xs (i + (1 : Int32)).toNatClampNeg)] (met_x0_lasts l g N (xs (i + (1 : Int32)).toNatClampNeg) ξ hx) (C9 := RX0) (lw_V q1127 q1128 q1129 q96 q1130) (by decide +kernel) ⟨0, 1, _, _, rfl, rfl, rfl⟩ rfl rfl ⟨Nat.le_of_ble_eq_true rfl, Nat.le_of_ble_eq_true rfl⟩ rfl rfl (Nat.le_of_ble_eq_true rfl) hb dL_law_748 rfl ?_
  refine cf_aload_n E dL_law_751 2 rfl rfl ?_
  refine cf_aload_n E dL_law_752 0 rfl rfl ?_
  refine cf_iload_n E dL_law_753 3 rfl rfl ?_
  refine cf_iconst E dL_law_754 ic_1 rfl ?_
  refine cf_iadd E dL_law_755 rfl ?_
  refine lsld E (hi _ (by decide) (by decide)) dL_law_756 rfl ?_
  refine lcallM_i (na := 1) E [.int (xs (i + (1 : Int32)).toNatClampNeg)] (met_lasts l (gm g) N (xs (i + (1 : Int32)).toNatClampNeg) σ hm) (lw_V q1954 q1955 q1956 q105 q1957) (by decide +kernel) rfl rfl ⟨Nat.le_of_ble_eq_true rfl, Nat.le_of_ble_eq_true rfl⟩ rfl rfl (Nat.le_of_ble_eq_true rfl) hb dL_law_757 rfl ?_
  exact lifeq E dL_law_760 rfl (k σ1 ξ1 hC1)
def OP_19 (N : Nat) (g : XG) (Cp : XS → MS → Prop) : Prop := ∀ (a1 : Int32) (ξ : XS) (σ : MS), Cp ξ σ → ∃ (v : Int32) (ξ1 : XS) (σ1 : MS), x0_by N g a1 ξ = some (v, ξ1) ∧ m_by N a1 σ = some (v, σ1) ∧ Cp ξ1 σ1
set_option maxHeartbeats 4000000 in
theorem lcase_19 {p : Program} {l : Launch} {e : Env} {s : State} {m : MethodId} {args : Array Value} {below : List Frame} {meth : Method} {c : Code} {cells slots : Nat} {A : Nat → Prop} {g : XG} {ξ : XS} {σ : MS} {b L : Nat} {xs : Nat → Int32} {Q : State → Prop} (E : EV p s m args c code 4 R_law) (hlt : l.stackTraces = false) (N : Nat) (Cp : XS → MS → Prop) (hop : OP_19 N g Cp) {i : Int32} (hi : ∀ j : Int32, 0 ≤ j → j ≤ 5 → inb (i + j) L = true) (hb : cells + 9000 ≤ room_1.cells ∧ slots + 110000 ≤ room_1.slots) (hC : Cp ξ σ) (k : ∀ (σ1 : MS) (ξ1 : XS), Cp ξ1 σ1 → CF p l e room_1 s m args below meth c 4 (cells + 9000) (slots + 110000) (LB g A s b L xs σ1 ξ1) Q 1506 [(0, .ref b), (1, .ref (xa g 0)), (2, .ref (xa g 500)), (3, .int i)] []) : CF p l e room_1 s m args below meth c 4 cells slots (LB g A s b L xs σ ξ) Q 765 [(0, .ref b), (1, .ref (xa g 0)), (2, .ref (xa g 500)), (3, .int i)] [] := by
  obtain ⟨v, ξ1, σ1, hx, hm, hC1⟩ := hop (xs (i + (1 : Int32)).toNatClampNeg) ξ σ hC
  refine cf_aload_n E dL_law_765 1 rfl rfl ?_
  refine cf_aload_n E dL_law_766 0 rfl rfl ?_
  refine cf_iload_n E dL_law_767 3 rfl rfl ?_
  refine cf_iconst E dL_law_768 ic_1 rfl ?_
  refine cf_iadd E dL_law_769 rfl ?_
  refine lsld E (hi _ (by decide) (by decide)) dL_law_770 rfl ?_
  refine CFwiden (show cells ≤ cells + 9000 from by omega) (show slots ≤ slots + 110000 from by omega) ?_
  refine lcallX_i (na := 1) E [.int (xs (i + (1 : Int32)).toNatClampNeg)] (met_x0_by l g N (xs (i + (1 : Int32)).toNatClampNeg) ξ hx) (C9 := RX0) (lw_V q1131 q1132 q1133 q96 q1134) (by decide +kernel) ⟨0, 1, _, _, rfl, rfl, rfl⟩ rfl rfl ⟨Nat.le_of_ble_eq_true rfl, Nat.le_of_ble_eq_true rfl⟩ rfl rfl (Nat.le_of_ble_eq_true rfl) hb dL_law_771 rfl ?_
  refine cf_aload_n E dL_law_774 2 rfl rfl ?_
  refine cf_aload_n E dL_law_775 0 rfl rfl ?_
  refine cf_iload_n E dL_law_776 3 rfl rfl ?_
  refine cf_iconst E dL_law_777 ic_1 rfl ?_
  refine cf_iadd E dL_law_778 rfl ?_
  refine lsld E (hi _ (by decide) (by decide)) dL_law_779 rfl ?_
  refine lcallM_i (na := 1) E [.int (xs (i + (1 : Int32)).toNatClampNeg)] (met_by l (gm g) N (xs (i + (1 : Int32)).toNatClampNeg) σ hm) (lw_V q1958 q1959 q1960 q105 q1961) (by decide +kernel) rfl rfl ⟨Nat.le_of_ble_eq_true rfl, Nat.le_of_ble_eq_true rfl⟩ rfl rfl (Nat.le_of_ble_eq_true rfl) hb dL_law_780 rfl ?_
  exact lifeq E dL_law_783 rfl (k σ1 ξ1 hC1)
def OP_20 (N : Nat) (g : XG) (Cp : XS → MS → Prop) : Prop := ∀ (ξ : XS) (σ : MS), Cp ξ σ → ∃ (v : Int32) (ξ1 : XS) (σ1 : MS), x0_can N g ξ = some (v, ξ1) ∧ m_can N σ = some (v, σ1) ∧ Cp ξ1 σ1
set_option maxHeartbeats 4000000 in
theorem lcase_20 {p : Program} {l : Launch} {e : Env} {s : State} {m : MethodId} {args : Array Value} {below : List Frame} {meth : Method} {c : Code} {cells slots : Nat} {A : Nat → Prop} {g : XG} {ξ : XS} {σ : MS} {b L : Nat} {xs : Nat → Int32} {Q : State → Prop} (E : EV p s m args c code 4 R_law) (hlt : l.stackTraces = false) (N : Nat) (Cp : XS → MS → Prop) (hop : OP_20 N g Cp) {i : Int32} (hi : ∀ j : Int32, 0 ≤ j → j ≤ 5 → inb (i + j) L = true) (hb : cells + 9000 ≤ room_1.cells ∧ slots + 110000 ≤ room_1.slots) (hC : Cp ξ σ) (k : ∀ (σ1 : MS) (ξ1 : XS), Cp ξ1 σ1 → CF p l e room_1 s m args below meth c 4 (cells + 9000) (slots + 110000) (LB g A s b L xs σ1 ξ1) Q 1506 [(0, .ref b), (1, .ref (xa g 0)), (2, .ref (xa g 500)), (3, .int i)] []) : CF p l e room_1 s m args below meth c 4 cells slots (LB g A s b L xs σ ξ) Q 788 [(0, .ref b), (1, .ref (xa g 0)), (2, .ref (xa g 500)), (3, .int i)] [] := by
  obtain ⟨v, ξ1, σ1, hx, hm, hC1⟩ := hop  ξ σ hC
  refine cf_aload_n E dL_law_788 1 rfl rfl ?_
  refine CFwiden (show cells ≤ cells + 9000 from by omega) (show slots ≤ slots + 110000 from by omega) ?_
  refine lcallX_i (na := 0) E [] (met_x0_can l g N  ξ hx) (C9 := RX0) (lw_V q1144 q1145 q1146 q96 q1147) (by decide +kernel) ⟨0, 1, _, _, rfl, rfl, rfl⟩ rfl rfl ⟨Nat.le_of_ble_eq_true rfl, Nat.le_of_ble_eq_true rfl⟩ rfl rfl (Nat.le_of_ble_eq_true rfl) hb dL_law_789 rfl ?_
  refine cf_aload_n E dL_law_792 2 rfl rfl ?_
  refine lcallM_i (na := 0) E [] (met_can l (gm g) N  σ hm) (lw_V q1982 q1983 q1984 q105 q1985) (by decide +kernel) rfl rfl ⟨Nat.le_of_ble_eq_true rfl, Nat.le_of_ble_eq_true rfl⟩ rfl rfl (Nat.le_of_ble_eq_true rfl) hb dL_law_793 rfl ?_
  exact lifeq E dL_law_796 rfl (k σ1 ξ1 hC1)
def OP_21 (N : Nat) (g : XG) (Cp : XS → MS → Prop) : Prop := ∀ (ξ : XS) (σ : MS), Cp ξ σ → ∃ (v : Int32) (ξ1 : XS) (σ1 : MS), x0_back N g ξ = some (v, ξ1) ∧ m_back N σ = some (v, σ1) ∧ Cp ξ1 σ1
set_option maxHeartbeats 4000000 in
theorem lcase_21 {p : Program} {l : Launch} {e : Env} {s : State} {m : MethodId} {args : Array Value} {below : List Frame} {meth : Method} {c : Code} {cells slots : Nat} {A : Nat → Prop} {g : XG} {ξ : XS} {σ : MS} {b L : Nat} {xs : Nat → Int32} {Q : State → Prop} (E : EV p s m args c code 4 R_law) (hlt : l.stackTraces = false) (N : Nat) (Cp : XS → MS → Prop) (hop : OP_21 N g Cp) {i : Int32} (hi : ∀ j : Int32, 0 ≤ j → j ≤ 5 → inb (i + j) L = true) (hb : cells + 9000 ≤ room_1.cells ∧ slots + 110000 ≤ room_1.slots) (hC : Cp ξ σ) (k : ∀ (σ1 : MS) (ξ1 : XS), Cp ξ1 σ1 → CF p l e room_1 s m args below meth c 4 (cells + 9000) (slots + 110000) (LB g A s b L xs σ1 ξ1) Q 1506 [(0, .ref b), (1, .ref (xa g 0)), (2, .ref (xa g 500)), (3, .int i)] []) : CF p l e room_1 s m args below meth c 4 cells slots (LB g A s b L xs σ ξ) Q 801 [(0, .ref b), (1, .ref (xa g 0)), (2, .ref (xa g 500)), (3, .int i)] [] := by
  obtain ⟨v, ξ1, σ1, hx, hm, hC1⟩ := hop  ξ σ hC
  refine cf_aload_n E dL_law_801 1 rfl rfl ?_
  refine CFwiden (show cells ≤ cells + 9000 from by omega) (show slots ≤ slots + 110000 from by omega) ?_
  refine lcallX_i (na := 0) E [] (met_x0_back l g N  ξ hx) (C9 := RX0) (lw_V q1153 q1154 q1155 q96 q1156) (by decide +kernel) ⟨0, 1, _, _, rfl, rfl, rfl⟩ rfl rfl ⟨Nat.le_of_ble_eq_true rfl, Nat.le_of_ble_eq_true rfl⟩ rfl rfl (Nat.le_of_ble_eq_true rfl) hb dL_law_802 rfl ?_
  refine cf_aload_n E dL_law_805 2 rfl rfl ?_
  refine lcallM_i (na := 0) E [] (met_back l (gm g) N  σ hm) (lw_V q1990 q1991 q1992 q105 q1993) (by decide +kernel) rfl rfl ⟨Nat.le_of_ble_eq_true rfl, Nat.le_of_ble_eq_true rfl⟩ rfl rfl (Nat.le_of_ble_eq_true rfl) hb dL_law_806 rfl ?_
  exact lifeq E dL_law_809 rfl (k σ1 ξ1 hC1)
def OP_22 (N : Nat) (g : XG) (Cp : XS → MS → Prop) : Prop := ∀ (a1 : Int32) (ξ : XS) (σ : MS), Cp ξ σ → ∃ (v : Int32) (σ1 : MS), m_gusted N a1 σ = some (v, σ1) ∧ y0_gusted N g a1 ξ 9000 110000 (fun v1 ξ1 => v1 = v ∧ Cp ξ1 σ1)
set_option maxHeartbeats 4000000 in
theorem lcase_22 {p : Program} {l : Launch} {e : Env} {s : State} {m : MethodId} {args : Array Value} {below : List Frame} {meth : Method} {c : Code} {cells slots : Nat} {A : Nat → Prop} {g : XG} {ξ : XS} {σ : MS} {b L : Nat} {xs : Nat → Int32} {Q : State → Prop} (E : EV p s m args c code 4 R_law) (hlt : l.stackTraces = false) (N : Nat) (Cp : XS → MS → Prop) (hop : OP_22 N g Cp) {i : Int32} (hi : ∀ j : Int32, 0 ≤ j → j ≤ 5 → inb (i + j) L = true) (hb : cells + 9000 ≤ room_1.cells ∧ slots + 110000 ≤ room_1.slots) (hC : Cp ξ σ) (k : ∀ (σ1 : MS) (ξ1 : XS), Cp ξ1 σ1 → CF p l e room_1 s m args below meth c 4 (cells + 9000) (slots + 110000) (LB g A s b L xs σ1 ξ1) Q 1506 [(0, .ref b), (1, .ref (xa g 0)), (2, .ref (xa g 500)), (3, .int i)] []) : CF p l e room_1 s m args below meth c 4 cells slots (LB g A s b L xs σ ξ) Q 814 [(0, .ref b), (1, .ref (xa g 0)), (2, .ref (xa g 500)), (3, .int i)] [] := by
  obtain ⟨v, σ1, hm, hx⟩ := hop (xs (i + (1 : Int32)).toNatClampNeg) ξ σ hC
  refine cf_aload_n E dL_law_814 1 rfl rfl ?_
  refine cf_aload_n E dL_law_815 0 rfl rfl ?_
  refine cf_iload_n E dL_law_816 3 rfl rfl ?_
  refine cf_iconst E dL_law_817 ic_1 rfl ?_
  refine cf_iadd E dL_law_818 rfl ?_
  refine lsld E (hi _ (by decide) (by decide)) dL_law_819 rfl ?_
  refine lcallY_i (na := 1) E [.int (xs (i + (1 : Int32)).toNatClampNeg)] (met_y0_gusted l g N (xs (i + (1 : Int32)).toNatClampNeg) ξ 9000 110000 _ hx) (C9 := RX0) (lw_V q1165 q1166 q1167 q96 q1168) (by decide +kernel) ⟨0, 1, _, _, rfl, rfl, rfl⟩ ⟨Nat.le_of_ble_eq_true rfl, Nat.le_of_ble_eq_true rfl⟩ rfl rfl (Nat.le_of_ble_eq_true rfl) hb dL_law_820 rfl (fun v9 ξ1 hk => ?_)
  obtain ⟨rfl, hC1⟩ := hk
  refine cf_aload_n E dL_law_823 2 rfl rfl ?_
  refine cf_aload_n E dL_law_824 0 rfl rfl ?_
  refine cf_iload_n E dL_law_825 3 rfl rfl ?_
  refine cf_iconst E dL_law_826 ic_1 rfl ?_
  refine cf_iadd E dL_law_827 rfl ?_
  refine lsld E (hi _ (by decide) (by decide)) dL_law_828 rfl ?_
  refine lcallM_i (na := 1) E [.int (xs (i + (1 : Int32)).toNatClampNeg)] (met_gusted l (gm g) N (xs (i + (1 : Int32)).toNatClampNeg) σ hm) (lw_V q2006 q2007 q2008 q105 q2009) (by decide +kernel) rfl rfl ⟨Nat.le_of_ble_eq_true rfl, Nat.le_of_ble_eq_true rfl⟩ rfl rfl (Nat.le_of_ble_eq_true rfl) hb dL_law_829 rfl ?_
  exact lifeq E dL_law_832 rfl (k σ1 ξ1 hC1)
