set_option maxRecDepth 100000
/-! the law's arms (printed by gen/mkL.py) -/
set_option linter.unusedVariables false in
noncomputable def FL_0 (fu : Nat) (D : List LDen) (kn : List LDen → Mem → Option (PR Int32)) (w : Nat → Int32) (M : Mem) : Option (PR Int32) :=
  bd (FX1_feed fu D M (w 1) (w 2) (w 3) (w 4) (w 5)) (fun v263 M263 => bd (FX8_feed fu D M263 (w 1) (w 2) (w 3) (w 4) (w 5)) (fun v297 M297 => if v263 = v297 then kn D M297 else some (0, 0, 0, M297)))
set_option linter.unusedVariables false in
theorem wL_0 {X : JX} {b L t : Nat} {xs : Nat → Int32} (hC : JC X cL_law RX0 (some .boolean) 8192 104096 603072 7190634) (hX : dmI dmX (XG X)) (hM : dmI dmM (XG X)) (hst : (XL X).stackTraces = false) (hP : gP (XG X) = []) (h80 : gdm (XG X) (8, 0, 0) = false) (h81 : gdm (XG X) (8, 0, 1) = false) (hnl : nLof X = 7) (hS : JSc X b L xs) (hL : L ≤ 384) (ht : t + 6 ≤ L) {Z : PR Int32 → State → Prop} (hZ : ∀ (r : PR Int32) (c : Nat), Z (r.1, r.2.1, c + r.2.2.1, r.2.2.2) = Z r)
    (hFL : ∀ (D : List LDen) (M : Mem) (pc : Nat) (lv : List (Nat × Value)) (st : List Value) (k n : Nat), J (xL D X) Z (some (0, 0, 0, M)) pc lv st M k n) (hF : ∀ (M : Mem) (pc : Nat) (lv : List (Nat × Value)) (st : List Value) (k n : Nat), J X Z (some (0, 0, 0, M)) pc lv st M k n) (fu : Nat) (kn : List LDen → Mem → Option (PR Int32)) (hkn : ∀ (D : List LDen) (M : Mem) (k n m : Nat), k + m ≤ 603072 → n + 8 * m ≤ 7190634 → J (xL D X) Z (lm m (kn D M)) 2845 [(4, .int (nI t)), (3, .ref (gadr (XG X) (7, 0, 0))), (2, .ref (gadr (XG X) (5, 0, 0))), (1, .ref (gadr (XG X) (4, 0, 0))), (0, .ref b)] [] M k n) (hk0 : ∀ (M : Mem) (k n m : Nat), k + m ≤ 603072 → n + 8 * m ≤ 7190634 → J X Z (lm m (kn (XD X) M)) 2845 [(4, .int (nI t)), (3, .ref (gadr (XG X) (7, 0, 0))), (2, .ref (gadr (XG X) (5, 0, 0))), (1, .ref (gadr (XG X) (4, 0, 0))), (0, .ref b)] [] M k n) {k n m : Nat} (hk : k + m ≤ 603072) (hn : n + 8 * m ≤ 7190634) (M : Mem) : J X Z (lm m (FL_0 fu (XD X) kn (fun j => xs (t + j)) M)) 232 [(4, .int (nI t)), (3, .ref (gadr (XG X) (7, 0, 0))), (2, .ref (gadr (XG X) (5, 0, 0))), (1, .ref (gadr (XG X) (4, 0, 0))), (0, .ref b)] [] M k n := by
  unfold FL_0
  refine j_aload_n hC 3 dL_law_232 rfl ?_
  refine j_scr (j := 1) hC hS hL (by omega) 4 0 rfl rfl dL_law_233 dL_law_234 dL_law_236 (by decide) dL_law_237 dL_law_238 ?_
  refine j_scr (j := 2) hC hS hL (by omega) 4 0 rfl rfl dL_law_239 dL_law_240 dL_law_242 (by decide) dL_law_243 dL_law_244 ?_
  refine j_scr (j := 3) hC hS hL (by omega) 4 0 rfl rfl dL_law_245 dL_law_246 dL_law_248 (by decide) dL_law_249 dL_law_250 ?_
  refine j_scr (j := 4) hC hS hL (by omega) 4 0 rfl rfl dL_law_251 dL_law_252 dL_law_254 (by decide) dL_law_255 dL_law_256 ?_
  refine j_scr (j := 5) hC hS hL (by omega) 4 0 rfl rfl dL_law_257 dL_law_258 dL_law_260 (by decide) dL_law_261 dL_law_262 ?_
  refine j_lm lm_bd ?_
  refine j_callV (nA := 5) (rest := []) hC [.int (xs (t + 1)), .int (xs (t + 2)), .int (xs (t + 3)), .int (xs (t + 4)), .int (xs (t + 5))] rfl (fun r hr => mX1_feed (XL X) (XG X) hX fu (XD X) M (xs (t + 1)) (xs (t + 2)) (xs (t + 3)) (xs (t + 4)) (xs (t + 5)) r hr) q546 q547 q548 q126 q549 (dmY hX rfl) rfl rfl (by decide +kernel) rfl rfl rfl rfl (bk (by omega)) (bk (by omega)) dL_law_263 (fun v263 => [.int v263]) (fun _ => rfl) (fun v263 M263 => ?_)
  refine j_aload_n hC 2 dL_law_266 rfl ?_
  refine j_scr (j := 1) hC hS hL (by omega) 4 0 rfl rfl dL_law_267 dL_law_268 dL_law_270 (by decide) dL_law_271 dL_law_272 ?_
  refine j_scr (j := 2) hC hS hL (by omega) 4 0 rfl rfl dL_law_273 dL_law_274 dL_law_276 (by decide) dL_law_277 dL_law_278 ?_
  refine j_scr (j := 3) hC hS hL (by omega) 4 0 rfl rfl dL_law_279 dL_law_280 dL_law_282 (by decide) dL_law_283 dL_law_284 ?_
  refine j_scr (j := 4) hC hS hL (by omega) 4 0 rfl rfl dL_law_285 dL_law_286 dL_law_288 (by decide) dL_law_289 dL_law_290 ?_
  refine j_scr (j := 5) hC hS hL (by omega) 4 0 rfl rfl dL_law_291 dL_law_292 dL_law_294 (by decide) dL_law_295 dL_law_296 ?_
  refine j_lm lm_bd ?_
  refine j_callV (nA := 5) (rest := [.int v263]) hC [.int (xs (t + 1)), .int (xs (t + 2)), .int (xs (t + 3)), .int (xs (t + 4)), .int (xs (t + 5))] rfl (fun r hr => mX8_feed (XL X) (XG X) hM fu (XD X) M263 (xs (t + 1)) (xs (t + 2)) (xs (t + 3)) (xs (t + 4)) (xs (t + 5)) r hr) q1567 q1568 q1569 q136 q1570 (dmMo hM rfl) rfl rfl (by decide +kernel) rfl rfl rfl rfl (bk (by omega)) (bk (by omega)) dL_law_297 (fun v297 => [.int v297, .int v263]) (fun _ => rfl) (fun v297 M297 => ?_)
  refine j_lm lm_ite ?_
  refine j_icmp_eq (tgt := 2845) hC dL_law_300 (by decide) (fun h300 => ?_) (fun h300 => ?_)
  · exact j_sub [0, 1, 2, 3, 4] rfl (hk0 M297 _ _ _ (by omega) (by omega))
  · refine j_lm lm_some ?_
    exact hF _ _ _ _ _ _
set_option linter.unusedVariables false in
noncomputable def FL_1 (fu : Nat) (D : List LDen) (kn : List LDen → Mem → Option (PR Int32)) (w : Nat → Int32) (M : Mem) : Option (PR Int32) :=
  bd (FX1_end fu D M (w 1)) (fun v312 M312 => bd (FX8_end fu D M312 (w 1)) (fun v322 M322 => if v312 = v322 then kn D M322 else some (0, 0, 0, M322)))
set_option linter.unusedVariables false in
theorem wL_1 {X : JX} {b L t : Nat} {xs : Nat → Int32} (hC : JC X cL_law RX0 (some .boolean) 8192 104096 603072 7190634) (hX : dmI dmX (XG X)) (hM : dmI dmM (XG X)) (hst : (XL X).stackTraces = false) (hP : gP (XG X) = []) (h80 : gdm (XG X) (8, 0, 0) = false) (h81 : gdm (XG X) (8, 0, 1) = false) (hnl : nLof X = 7) (hS : JSc X b L xs) (hL : L ≤ 384) (ht : t + 6 ≤ L) {Z : PR Int32 → State → Prop} (hZ : ∀ (r : PR Int32) (c : Nat), Z (r.1, r.2.1, c + r.2.2.1, r.2.2.2) = Z r)
    (hFL : ∀ (D : List LDen) (M : Mem) (pc : Nat) (lv : List (Nat × Value)) (st : List Value) (k n : Nat), J (xL D X) Z (some (0, 0, 0, M)) pc lv st M k n) (hF : ∀ (M : Mem) (pc : Nat) (lv : List (Nat × Value)) (st : List Value) (k n : Nat), J X Z (some (0, 0, 0, M)) pc lv st M k n) (fu : Nat) (kn : List LDen → Mem → Option (PR Int32)) (hkn : ∀ (D : List LDen) (M : Mem) (k n m : Nat), k + m ≤ 603072 → n + 8 * m ≤ 7190634 → J (xL D X) Z (lm m (kn D M)) 2845 [(4, .int (nI t)), (3, .ref (gadr (XG X) (7, 0, 0))), (2, .ref (gadr (XG X) (5, 0, 0))), (1, .ref (gadr (XG X) (4, 0, 0))), (0, .ref b)] [] M k n) (hk0 : ∀ (M : Mem) (k n m : Nat), k + m ≤ 603072 → n + 8 * m ≤ 7190634 → J X Z (lm m (kn (XD X) M)) 2845 [(4, .int (nI t)), (3, .ref (gadr (XG X) (7, 0, 0))), (2, .ref (gadr (XG X) (5, 0, 0))), (1, .ref (gadr (XG X) (4, 0, 0))), (0, .ref b)] [] M k n) {k n m : Nat} (hk : k + m ≤ 603072) (hn : n + 8 * m ≤ 7190634) (M : Mem) : J X Z (lm m (FL_1 fu (XD X) kn (fun j => xs (t + j)) M)) 305 [(4, .int (nI t)), (3, .ref (gadr (XG X) (7, 0, 0))), (2, .ref (gadr (XG X) (5, 0, 0))), (1, .ref (gadr (XG X) (4, 0, 0))), (0, .ref b)] [] M k n := by
  unfold FL_1
  refine j_aload_n hC 3 dL_law_305 rfl ?_
  refine j_scr (j := 1) hC hS hL (by omega) 4 0 rfl rfl dL_law_306 dL_law_307 dL_law_309 (by decide) dL_law_310 dL_law_311 ?_
  refine j_lm lm_bd ?_
  refine j_callV (nA := 1) (rest := []) hC [.int (xs (t + 1))] rfl (fun r hr => mX1_end (XL X) (XG X) hX fu (XD X) M (xs (t + 1)) r hr) q554 q555 q556 q126 q557 (dmY hX rfl) rfl rfl (by decide +kernel) rfl rfl rfl rfl (bk (by omega)) (bk (by omega)) dL_law_312 (fun v312 => [.int v312]) (fun _ => rfl) (fun v312 M312 => ?_)
  refine j_aload_n hC 2 dL_law_315 rfl ?_
  refine j_scr (j := 1) hC hS hL (by omega) 4 0 rfl rfl dL_law_316 dL_law_317 dL_law_319 (by decide) dL_law_320 dL_law_321 ?_
  refine j_lm lm_bd ?_
  refine j_callV (nA := 1) (rest := [.int v312]) hC [.int (xs (t + 1))] rfl (fun r hr => mX8_end (XL X) (XG X) hM fu (XD X) M312 (xs (t + 1)) r hr) q1571 q1572 q1573 q136 q1574 (dmMo hM rfl) rfl rfl (by decide +kernel) rfl rfl rfl rfl (bk (by omega)) (bk (by omega)) dL_law_322 (fun v322 => [.int v322, .int v312]) (fun _ => rfl) (fun v322 M322 => ?_)
  refine j_lm lm_ite ?_
  refine j_icmp_eq (tgt := 2845) hC dL_law_325 (by decide) (fun h325 => ?_) (fun h325 => ?_)
  · exact j_sub [0, 1, 2, 3, 4] rfl (hk0 M322 _ _ _ (by omega) (by omega))
  · refine j_lm lm_some ?_
    exact hF _ _ _ _ _ _
set_option linter.unusedVariables false in
noncomputable def FL_2 (fu : Nat) (D : List LDen) (kn : List LDen → Mem → Option (PR Int32)) (w : Nat → Int32) (M : Mem) : Option (PR Int32) :=
  tick 1 (bh (FX0_court fu D M) (fun v332 M332 => bd (FX8_court fu D M332) (fun v338 M338 => bd (FX8_thrown fu D M338) (fun v344 M344 => if v344 = v332 then if v332 = 0 then if M344 (7, 0, 0) 0 = v338 then kn D M344 else some (0, 0, 0, M344) else kn D M344 else some (0, 0, 0, M344)))) (fun _ _ => none))
set_option linter.unusedVariables false in
theorem wL_2 {X : JX} {b L t : Nat} {xs : Nat → Int32} (hC : JC X cL_law RX0 (some .boolean) 8192 104096 603072 7190634) (hX : dmI dmX (XG X)) (hM : dmI dmM (XG X)) (hst : (XL X).stackTraces = false) (hP : gP (XG X) = []) (h80 : gdm (XG X) (8, 0, 0) = false) (h81 : gdm (XG X) (8, 0, 1) = false) (hnl : nLof X = 7) (hS : JSc X b L xs) (hL : L ≤ 384) (ht : t + 6 ≤ L) {Z : PR Int32 → State → Prop} (hZ : ∀ (r : PR Int32) (c : Nat), Z (r.1, r.2.1, c + r.2.2.1, r.2.2.2) = Z r)
    (hFL : ∀ (D : List LDen) (M : Mem) (pc : Nat) (lv : List (Nat × Value)) (st : List Value) (k n : Nat), J (xL D X) Z (some (0, 0, 0, M)) pc lv st M k n) (hF : ∀ (M : Mem) (pc : Nat) (lv : List (Nat × Value)) (st : List Value) (k n : Nat), J X Z (some (0, 0, 0, M)) pc lv st M k n) (fu : Nat) (kn : List LDen → Mem → Option (PR Int32)) (hkn : ∀ (D : List LDen) (M : Mem) (k n m : Nat), k + m ≤ 603072 → n + 8 * m ≤ 7190634 → J (xL D X) Z (lm m (kn D M)) 2845 [(4, .int (nI t)), (3, .ref (gadr (XG X) (7, 0, 0))), (2, .ref (gadr (XG X) (5, 0, 0))), (1, .ref (gadr (XG X) (4, 0, 0))), (0, .ref b)] [] M k n) (hk0 : ∀ (M : Mem) (k n m : Nat), k + m ≤ 603072 → n + 8 * m ≤ 7190634 → J X Z (lm m (kn (XD X) M)) 2845 [(4, .int (nI t)), (3, .ref (gadr (XG X) (7, 0, 0))), (2, .ref (gadr (XG X) (5, 0, 0))), (1, .ref (gadr (XG X) (4, 0, 0))), (0, .ref b)] [] M k n) {k n m : Nat} (hk : k + m ≤ 603072) (hn : n + 8 * m ≤ 7190634) (M : Mem) : J X Z (lm m (FL_2 fu (XD X) kn (fun j => xs (t + j)) M)) 330 [(4, .int (nI t)), (3, .ref (gadr (XG X) (7, 0, 0))), (2, .ref (gadr (XG X) (5, 0, 0))), (1, .ref (gadr (XG X) (4, 0, 0))), (0, .ref b)] [] M k n := by
  unfold FL_2
  refine j_aload_n hC 3 dL_law_330 rfl ?_
  refine j_aload_n hC 1 dL_law_331 rfl ?_
  refine jm_tickG hZ (fun hc332 => ?_)
  refine j_lm lm_bhN ?_
  refine j_callSHW (nA := 2) (rest := []) hC [.ref (gadr (XG X) (4, 0, 0)), .ref (gadr (XG X) (7, 0, 0))] rfl (fun r hr => mX0_court (XL X) hst (XG X) hX fu (XD X) M r hr) q732 q733 q125 q734 (by decide +kernel) rfl rfl rfl rfl (bk (by omega)) (bk (by omega)) dL_law_332 (fun v332 => [.int v332]) (fun _ => rfl) (fun v332 M332 => ?_) (fun e M9 => jh_none)
  refine j_istore hC [(5, .int v332), (4, .int (nI t)), (3, .ref (gadr (XG X) (7, 0, 0))), (2, .ref (gadr (XG X) (5, 0, 0))), (1, .ref (gadr (XG X) (4, 0, 0))), (0, .ref b)] hnl dL_law_335 rfl rfl ?_
  refine j_aload_n hC 3 dL_law_337 rfl ?_
  refine j_lm lm_bd ?_
  refine j_callV (nA := 0) (rest := []) hC [] rfl (fun r hr => mX8_court (XL X) (XG X) hM fu (XD X) M332 r hr) q1579 q1580 q1581 q136 q1582 (dmMo hM rfl) rfl rfl (by decide +kernel) rfl rfl rfl rfl (bk (by omega)) (bk (by omega)) dL_law_338 (fun v338 => [.int v338]) (fun _ => rfl) (fun v338 M338 => ?_)
  refine j_istore hC [(6, .int v338), (5, .int v332), (4, .int (nI t)), (3, .ref (gadr (XG X) (7, 0, 0))), (2, .ref (gadr (XG X) (5, 0, 0))), (1, .ref (gadr (XG X) (4, 0, 0))), (0, .ref b)] hnl dL_law_341 rfl rfl ?_
  refine j_aload_n hC 4 dL_law_343 rfl ?_
  refine j_lm lm_bd ?_
  refine j_callV (nA := 0) (rest := []) hC [] rfl (fun r hr => mX8_thrown (XL X) (XG X) hM fu (XD X) M338 r hr) q1454 q1455 q1456 q136 q1457 (dmMo hM rfl) rfl rfl (by decide +kernel) rfl rfl rfl rfl (bk (by omega)) (bk (by omega)) dL_law_344 (fun v344 => [.int v344]) (fun _ => rfl) (fun v344 M344 => ?_)
  refine j_iload hC 1 dL_law_347 rfl ?_
  refine j_lm lm_ite ?_
  refine j_icmp_eq (tgt := 354) hC dL_law_349 (by decide) (fun h349 => ?_) (fun h349 => ?_)
  · refine j_iload hC 1 dL_law_354 rfl ?_
    refine j_lm lm_ite ?_
    refine j_if_ne (tgt := 371) hC dL_law_356 (by decide) (fun h356 => ?_) (fun h356 => ?_)
    · refine j_lm lm_ite ?_
      refine j_cmpOut hC hX 3 0 rfl rfl dL_law_359 dL_law_360 dL_law_361 dL_law_362 dL_law_364 dL_law_365 dL_law_366 ?_ ?_
      · refine j_goto (tgt := 2845) hC dL_law_371 (by decide) ?_
        exact j_sub [2, 3, 4, 5, 6] rfl (hk0 M344 _ _ _ (by omega) (by omega))
      · refine j_lm lm_some ?_
        exact hF _ _ _ _ _ _
    · refine j_goto (tgt := 2845) hC dL_law_371 (by decide) ?_
      exact j_sub [2, 3, 4, 5, 6] rfl (hk0 M344 _ _ _ (by omega) (by omega))
  · refine j_lm lm_some ?_
    exact hF _ _ _ _ _ _
set_option linter.unusedVariables false in
noncomputable def FL_3 (fu : Nat) (D : List LDen) (kn : List LDen → Mem → Option (PR Int32)) (w : Nat → Int32) (M : Mem) : Option (PR Int32) :=
  bl (FX0_law fu D M) (fun v376 D1 M376 => bd (FX8_law fu D1 M376) (fun v382 M382 => bd (FX8_thrown fu D1 M382) (fun v388 M388 => if v388 = v376 then if v376 = 0 then if M388 (7, 0, 0) 0 = v382 then kn D1 M388 else some (0, 0, 0, M388) else kn D1 M388 else some (0, 0, 0, M388)))) (fun _ _ _ => none)
set_option linter.unusedVariables false in
theorem wL_3 {X : JX} {b L t : Nat} {xs : Nat → Int32} (hC : JC X cL_law RX0 (some .boolean) 8192 104096 603072 7190634) (hX : dmI dmX (XG X)) (hM : dmI dmM (XG X)) (hst : (XL X).stackTraces = false) (hP : gP (XG X) = []) (h80 : gdm (XG X) (8, 0, 0) = false) (h81 : gdm (XG X) (8, 0, 1) = false) (hnl : nLof X = 7) (hS : JSc X b L xs) (hL : L ≤ 384) (ht : t + 6 ≤ L) {Z : PR Int32 → State → Prop} (hZ : ∀ (r : PR Int32) (c : Nat), Z (r.1, r.2.1, c + r.2.2.1, r.2.2.2) = Z r)
    (hFL : ∀ (D : List LDen) (M : Mem) (pc : Nat) (lv : List (Nat × Value)) (st : List Value) (k n : Nat), J (xL D X) Z (some (0, 0, 0, M)) pc lv st M k n) (hF : ∀ (M : Mem) (pc : Nat) (lv : List (Nat × Value)) (st : List Value) (k n : Nat), J X Z (some (0, 0, 0, M)) pc lv st M k n) (fu : Nat) (kn : List LDen → Mem → Option (PR Int32)) (hkn : ∀ (D : List LDen) (M : Mem) (k n m : Nat), k + m ≤ 603072 → n + 8 * m ≤ 7190634 → J (xL D X) Z (lm m (kn D M)) 2845 [(4, .int (nI t)), (3, .ref (gadr (XG X) (7, 0, 0))), (2, .ref (gadr (XG X) (5, 0, 0))), (1, .ref (gadr (XG X) (4, 0, 0))), (0, .ref b)] [] M k n) (hk0 : ∀ (M : Mem) (k n m : Nat), k + m ≤ 603072 → n + 8 * m ≤ 7190634 → J X Z (lm m (kn (XD X) M)) 2845 [(4, .int (nI t)), (3, .ref (gadr (XG X) (7, 0, 0))), (2, .ref (gadr (XG X) (5, 0, 0))), (1, .ref (gadr (XG X) (4, 0, 0))), (0, .ref b)] [] M k n) {k n m : Nat} (hk : k + m ≤ 603072) (hn : n + 8 * m ≤ 7190634) (M : Mem) : J X Z (lm m (FL_3 fu (XD X) kn (fun j => xs (t + j)) M)) 374 [(4, .int (nI t)), (3, .ref (gadr (XG X) (7, 0, 0))), (2, .ref (gadr (XG X) (5, 0, 0))), (1, .ref (gadr (XG X) (4, 0, 0))), (0, .ref b)] [] M k n := by
  unfold FL_3
  refine j_aload_n hC 3 dL_law_374 rfl ?_
  refine j_aload_n hC 1 dL_law_375 rfl ?_
  refine j_callSL (nA := 2) (rest := []) hC hZ hP [.ref (gadr (XG X) (4, 0, 0)), .ref (gadr (XG X) (7, 0, 0))] rfl (fun r hr => mX0_law (XL X) hst (XG X) hP hX h80 h81 fu (XD X) M r hr) q911 q912 q125 q913 (by decide +kernel) (by omega) (by omega) rfl rfl (by omega) (by omega) dL_law_376 (fun v376 D1 c1 M376 hc1 => ?_) (fun e D1 c1 M9 hc1 => jh_none)
  refine j_istore (JC.xL _ hC) [(5, .int v376), (4, .int (nI t)), (3, .ref (gadr (XG X) (7, 0, 0))), (2, .ref (gadr (XG X) (5, 0, 0))), (1, .ref (gadr (XG X) (4, 0, 0))), (0, .ref b)] hnl dL_law_379 rfl rfl ?_
  refine j_aload_n (JC.xL _ hC) 3 dL_law_381 rfl ?_
  refine j_lm lm_bd ?_
  refine j_callV (nA := 0) (rest := []) (JC.xL _ hC) [] rfl (fun r hr => mX8_law (XL X) (XG (xL D1 X)) hM fu D1 M376 r hr) q1752 q1753 q1754 q136 q1755 (dmMo hM rfl) rfl rfl (by decide +kernel) rfl rfl rfl rfl (bk (by omega)) (bk (by omega)) dL_law_382 (fun v382 => [.int v382]) (fun _ => rfl) (fun v382 M382 => ?_)
  refine j_istore (JC.xL _ hC) [(6, .int v382), (5, .int v376), (4, .int (nI t)), (3, .ref (gadr (XG X) (7, 0, 0))), (2, .ref (gadr (XG X) (5, 0, 0))), (1, .ref (gadr (XG X) (4, 0, 0))), (0, .ref b)] hnl dL_law_385 rfl rfl ?_
  refine j_aload_n (JC.xL _ hC) 4 dL_law_387 rfl ?_
  refine j_lm lm_bd ?_
  refine j_callV (nA := 0) (rest := []) (JC.xL _ hC) [] rfl (fun r hr => mX8_thrown (XL X) (XG (xL D1 X)) hM fu D1 M382 r hr) q1454 q1455 q1456 q136 q1457 (dmMo hM rfl) rfl rfl (by decide +kernel) rfl rfl rfl rfl (bk (by omega)) (bk (by omega)) dL_law_388 (fun v388 => [.int v388]) (fun _ => rfl) (fun v388 M388 => ?_)
  refine j_iload (JC.xL _ hC) 1 dL_law_391 rfl ?_
  refine j_lm lm_ite ?_
  refine j_icmp_eq (tgt := 398) (JC.xL _ hC) dL_law_393 (by decide) (fun h393 => ?_) (fun h393 => ?_)
  · refine j_iload (JC.xL _ hC) 1 dL_law_398 rfl ?_
    refine j_lm lm_ite ?_
    refine j_if_ne (tgt := 415) (JC.xL _ hC) dL_law_400 (by decide) (fun h400 => ?_) (fun h400 => ?_)
    · refine j_lm lm_ite ?_
      refine j_cmpOut (JC.xL _ hC) hX 3 0 rfl rfl dL_law_403 dL_law_404 dL_law_405 dL_law_406 dL_law_408 dL_law_409 dL_law_410 ?_ ?_
      · refine j_goto (tgt := 2845) (JC.xL _ hC) dL_law_415 (by decide) ?_
        exact j_sub [2, 3, 4, 5, 6] rfl (hkn _ M388 _ _ _ (by omega) (by omega))
      · refine j_lm lm_some ?_
        exact hFL _ _ _ _ _ _ _
    · refine j_goto (tgt := 2845) (JC.xL _ hC) dL_law_415 (by decide) ?_
      exact j_sub [2, 3, 4, 5, 6] rfl (hkn _ M388 _ _ _ (by omega) (by omega))
  · refine j_lm lm_some ?_
    exact hFL _ _ _ _ _ _ _
set_option linter.unusedVariables false in
noncomputable def FL_4 (fu : Nat) (D : List LDen) (kn : List LDen → Mem → Option (PR Int32)) (w : Nat → Int32) (M : Mem) : Option (PR Int32) :=
  bd (FX1_fault fu D M) (fun v419 M419 => bd (FX8_fault fu D M419) (fun v423 M423 => if v419 = v423 then kn D M423 else some (0, 0, 0, M423)))
set_option linter.unusedVariables false in
theorem wL_4 {X : JX} {b L t : Nat} {xs : Nat → Int32} (hC : JC X cL_law RX0 (some .boolean) 8192 104096 603072 7190634) (hX : dmI dmX (XG X)) (hM : dmI dmM (XG X)) (hst : (XL X).stackTraces = false) (hP : gP (XG X) = []) (h80 : gdm (XG X) (8, 0, 0) = false) (h81 : gdm (XG X) (8, 0, 1) = false) (hnl : nLof X = 7) (hS : JSc X b L xs) (hL : L ≤ 384) (ht : t + 6 ≤ L) {Z : PR Int32 → State → Prop} (hZ : ∀ (r : PR Int32) (c : Nat), Z (r.1, r.2.1, c + r.2.2.1, r.2.2.2) = Z r)
    (hFL : ∀ (D : List LDen) (M : Mem) (pc : Nat) (lv : List (Nat × Value)) (st : List Value) (k n : Nat), J (xL D X) Z (some (0, 0, 0, M)) pc lv st M k n) (hF : ∀ (M : Mem) (pc : Nat) (lv : List (Nat × Value)) (st : List Value) (k n : Nat), J X Z (some (0, 0, 0, M)) pc lv st M k n) (fu : Nat) (kn : List LDen → Mem → Option (PR Int32)) (hkn : ∀ (D : List LDen) (M : Mem) (k n m : Nat), k + m ≤ 603072 → n + 8 * m ≤ 7190634 → J (xL D X) Z (lm m (kn D M)) 2845 [(4, .int (nI t)), (3, .ref (gadr (XG X) (7, 0, 0))), (2, .ref (gadr (XG X) (5, 0, 0))), (1, .ref (gadr (XG X) (4, 0, 0))), (0, .ref b)] [] M k n) (hk0 : ∀ (M : Mem) (k n m : Nat), k + m ≤ 603072 → n + 8 * m ≤ 7190634 → J X Z (lm m (kn (XD X) M)) 2845 [(4, .int (nI t)), (3, .ref (gadr (XG X) (7, 0, 0))), (2, .ref (gadr (XG X) (5, 0, 0))), (1, .ref (gadr (XG X) (4, 0, 0))), (0, .ref b)] [] M k n) {k n m : Nat} (hk : k + m ≤ 603072) (hn : n + 8 * m ≤ 7190634) (M : Mem) : J X Z (lm m (FL_4 fu (XD X) kn (fun j => xs (t + j)) M)) 418 [(4, .int (nI t)), (3, .ref (gadr (XG X) (7, 0, 0))), (2, .ref (gadr (XG X) (5, 0, 0))), (1, .ref (gadr (XG X) (4, 0, 0))), (0, .ref b)] [] M k n := by
  unfold FL_4
  refine j_aload_n hC 3 dL_law_418 rfl ?_
  refine j_lm lm_bd ?_
  refine j_callV (nA := 0) (rest := []) hC [] rfl (fun r hr => mX1_fault (XL X) (XG X) hX fu (XD X) M r hr) q561 q562 q563 q126 q564 (dmY hX rfl) rfl rfl (by decide +kernel) rfl rfl rfl rfl (bk (by omega)) (bk (by omega)) dL_law_419 (fun v419 => [.int v419]) (fun _ => rfl) (fun v419 M419 => ?_)
  refine j_aload_n hC 2 dL_law_422 rfl ?_
  refine j_lm lm_bd ?_
  refine j_callV (nA := 0) (rest := [.int v419]) hC [] rfl (fun r hr => mX8_fault (XL X) (XG X) hM fu (XD X) M419 r hr) q1575 q1576 q1577 q136 q1578 (dmMo hM rfl) rfl rfl (by decide +kernel) rfl rfl rfl rfl (bk (by omega)) (bk (by omega)) dL_law_423 (fun v423 => [.int v423, .int v419]) (fun _ => rfl) (fun v423 M423 => ?_)
  refine j_lm lm_ite ?_
  refine j_icmp_eq (tgt := 2845) hC dL_law_426 (by decide) (fun h426 => ?_) (fun h426 => ?_)
  · exact j_sub [0, 1, 2, 3, 4] rfl (hk0 M423 _ _ _ (by omega) (by omega))
  · refine j_lm lm_some ?_
    exact hF _ _ _ _ _ _
set_option linter.unusedVariables false in
noncomputable def FL_5 (fu : Nat) (D : List LDen) (kn : List LDen → Mem → Option (PR Int32)) (w : Nat → Int32) (M : Mem) : Option (PR Int32) :=
  tick 2 (bh (FX0_bird fu D M (w 1) (w 2)) (fun v445 M445 => bd (FX8_bird fu D M445 (w 1) (w 2)) (fun v463 M463 => bd (FX8_thrown fu D M463) (fun v469 M469 => if v469 = v445 then if v445 = 0 then if M469 (7, 0, 0) 0 = v463 then kn D M469 else some (0, 0, 0, M469) else kn D M469 else some (0, 0, 0, M469)))) (fun _ _ => none))
set_option linter.unusedVariables false in
theorem wL_5 {X : JX} {b L t : Nat} {xs : Nat → Int32} (hC : JC X cL_law RX0 (some .boolean) 8192 104096 603072 7190634) (hX : dmI dmX (XG X)) (hM : dmI dmM (XG X)) (hst : (XL X).stackTraces = false) (hP : gP (XG X) = []) (h80 : gdm (XG X) (8, 0, 0) = false) (h81 : gdm (XG X) (8, 0, 1) = false) (hnl : nLof X = 7) (hS : JSc X b L xs) (hL : L ≤ 384) (ht : t + 6 ≤ L) {Z : PR Int32 → State → Prop} (hZ : ∀ (r : PR Int32) (c : Nat), Z (r.1, r.2.1, c + r.2.2.1, r.2.2.2) = Z r)
    (hFL : ∀ (D : List LDen) (M : Mem) (pc : Nat) (lv : List (Nat × Value)) (st : List Value) (k n : Nat), J (xL D X) Z (some (0, 0, 0, M)) pc lv st M k n) (hF : ∀ (M : Mem) (pc : Nat) (lv : List (Nat × Value)) (st : List Value) (k n : Nat), J X Z (some (0, 0, 0, M)) pc lv st M k n) (fu : Nat) (kn : List LDen → Mem → Option (PR Int32)) (hkn : ∀ (D : List LDen) (M : Mem) (k n m : Nat), k + m ≤ 603072 → n + 8 * m ≤ 7190634 → J (xL D X) Z (lm m (kn D M)) 2845 [(4, .int (nI t)), (3, .ref (gadr (XG X) (7, 0, 0))), (2, .ref (gadr (XG X) (5, 0, 0))), (1, .ref (gadr (XG X) (4, 0, 0))), (0, .ref b)] [] M k n) (hk0 : ∀ (M : Mem) (k n m : Nat), k + m ≤ 603072 → n + 8 * m ≤ 7190634 → J X Z (lm m (kn (XD X) M)) 2845 [(4, .int (nI t)), (3, .ref (gadr (XG X) (7, 0, 0))), (2, .ref (gadr (XG X) (5, 0, 0))), (1, .ref (gadr (XG X) (4, 0, 0))), (0, .ref b)] [] M k n) {k n m : Nat} (hk : k + m ≤ 603072) (hn : n + 8 * m ≤ 7190634) (M : Mem) : J X Z (lm m (FL_5 fu (XD X) kn (fun j => xs (t + j)) M)) 431 [(4, .int (nI t)), (3, .ref (gadr (XG X) (7, 0, 0))), (2, .ref (gadr (XG X) (5, 0, 0))), (1, .ref (gadr (XG X) (4, 0, 0))), (0, .ref b)] [] M k n := by
  unfold FL_5
  refine j_aload_n hC 3 dL_law_431 rfl ?_
  refine j_scr (j := 1) hC hS hL (by omega) 4 0 rfl rfl dL_law_432 dL_law_433 dL_law_435 (by decide) dL_law_436 dL_law_437 ?_
  refine j_scr (j := 2) hC hS hL (by omega) 4 0 rfl rfl dL_law_438 dL_law_439 dL_law_441 (by decide) dL_law_442 dL_law_443 ?_
  refine j_aload_n hC 1 dL_law_444 rfl ?_
  refine jm_tickG hZ (fun hc445 => ?_)
  refine j_lm lm_bhN ?_
  refine j_callSHW (nA := 4) (rest := []) hC [.ref (gadr (XG X) (4, 0, 0)), .int (xs (t + 1)), .int (xs (t + 2)), .ref (gadr (XG X) (7, 0, 0))] rfl (fun r hr => mX0_bird (XL X) hst (XG X) hX fu (XD X) M (xs (t + 1)) (xs (t + 2)) r hr) q1049 q1050 q125 q1051 (by decide +kernel) rfl rfl rfl rfl (bk (by omega)) (bk (by omega)) dL_law_445 (fun v445 => [.int v445]) (fun _ => rfl) (fun v445 M445 => ?_) (fun e M9 => jh_none)
  refine j_istore hC [(5, .int v445), (4, .int (nI t)), (3, .ref (gadr (XG X) (7, 0, 0))), (2, .ref (gadr (XG X) (5, 0, 0))), (1, .ref (gadr (XG X) (4, 0, 0))), (0, .ref b)] hnl dL_law_448 rfl rfl ?_
  refine j_aload_n hC 3 dL_law_450 rfl ?_
  refine j_scr (j := 1) hC hS hL (by omega) 5 1 rfl rfl dL_law_451 dL_law_452 dL_law_454 (by decide) dL_law_455 dL_law_456 ?_
  refine j_scr (j := 2) hC hS hL (by omega) 5 1 rfl rfl dL_law_457 dL_law_458 dL_law_460 (by decide) dL_law_461 dL_law_462 ?_
  refine j_lm lm_bd ?_
  refine j_callV (nA := 2) (rest := []) hC [.int (xs (t + 1)), .int (xs (t + 2))] rfl (fun r hr => mX8_bird (XL X) (XG X) hM fu (XD X) M445 (xs (t + 1)) (xs (t + 2)) r hr) q1910 q1911 q1912 q136 q1913 (dmMo hM rfl) rfl rfl (by decide +kernel) rfl rfl rfl rfl (bk (by omega)) (bk (by omega)) dL_law_463 (fun v463 => [.int v463]) (fun _ => rfl) (fun v463 M463 => ?_)
  refine j_istore hC [(6, .int v463), (5, .int v445), (4, .int (nI t)), (3, .ref (gadr (XG X) (7, 0, 0))), (2, .ref (gadr (XG X) (5, 0, 0))), (1, .ref (gadr (XG X) (4, 0, 0))), (0, .ref b)] hnl dL_law_466 rfl rfl ?_
  refine j_aload_n hC 4 dL_law_468 rfl ?_
  refine j_lm lm_bd ?_
  refine j_callV (nA := 0) (rest := []) hC [] rfl (fun r hr => mX8_thrown (XL X) (XG X) hM fu (XD X) M463 r hr) q1454 q1455 q1456 q136 q1457 (dmMo hM rfl) rfl rfl (by decide +kernel) rfl rfl rfl rfl (bk (by omega)) (bk (by omega)) dL_law_469 (fun v469 => [.int v469]) (fun _ => rfl) (fun v469 M469 => ?_)
  refine j_iload hC 1 dL_law_472 rfl ?_
  refine j_lm lm_ite ?_
  refine j_icmp_eq (tgt := 479) hC dL_law_474 (by decide) (fun h474 => ?_) (fun h474 => ?_)
  · refine j_iload hC 1 dL_law_479 rfl ?_
    refine j_lm lm_ite ?_
    refine j_if_ne (tgt := 496) hC dL_law_481 (by decide) (fun h481 => ?_) (fun h481 => ?_)
    · refine j_lm lm_ite ?_
      refine j_cmpOut hC hX 3 0 rfl rfl dL_law_484 dL_law_485 dL_law_486 dL_law_487 dL_law_489 dL_law_490 dL_law_491 ?_ ?_
      · refine j_goto (tgt := 2845) hC dL_law_496 (by decide) ?_
        exact j_sub [2, 3, 4, 5, 6] rfl (hk0 M469 _ _ _ (by omega) (by omega))
      · refine j_lm lm_some ?_
        exact hF _ _ _ _ _ _
    · refine j_goto (tgt := 2845) hC dL_law_496 (by decide) ?_
      exact j_sub [2, 3, 4, 5, 6] rfl (hk0 M469 _ _ _ (by omega) (by omega))
  · refine j_lm lm_some ?_
    exact hF _ _ _ _ _ _
set_option linter.unusedVariables false in
noncomputable def FL_6 (fu : Nat) (D : List LDen) (kn : List LDen → Mem → Option (PR Int32)) (w : Nat → Int32) (M : Mem) : Option (PR Int32) :=
  tick 2 (bh (FX0_stock fu D M (w 1) (w 2)) (fun v513 M513 => bd (FX8_stock fu D M513 (w 1) (w 2)) (fun v531 M531 => bd (FX8_thrown fu D M531) (fun v537 M537 => if v537 = v513 then if v513 = 0 then if M537 (7, 0, 0) 0 = v531 then kn D M537 else some (0, 0, 0, M537) else kn D M537 else some (0, 0, 0, M537)))) (fun _ _ => none))
set_option linter.unusedVariables false in
theorem wL_6 {X : JX} {b L t : Nat} {xs : Nat → Int32} (hC : JC X cL_law RX0 (some .boolean) 8192 104096 603072 7190634) (hX : dmI dmX (XG X)) (hM : dmI dmM (XG X)) (hst : (XL X).stackTraces = false) (hP : gP (XG X) = []) (h80 : gdm (XG X) (8, 0, 0) = false) (h81 : gdm (XG X) (8, 0, 1) = false) (hnl : nLof X = 7) (hS : JSc X b L xs) (hL : L ≤ 384) (ht : t + 6 ≤ L) {Z : PR Int32 → State → Prop} (hZ : ∀ (r : PR Int32) (c : Nat), Z (r.1, r.2.1, c + r.2.2.1, r.2.2.2) = Z r)
    (hFL : ∀ (D : List LDen) (M : Mem) (pc : Nat) (lv : List (Nat × Value)) (st : List Value) (k n : Nat), J (xL D X) Z (some (0, 0, 0, M)) pc lv st M k n) (hF : ∀ (M : Mem) (pc : Nat) (lv : List (Nat × Value)) (st : List Value) (k n : Nat), J X Z (some (0, 0, 0, M)) pc lv st M k n) (fu : Nat) (kn : List LDen → Mem → Option (PR Int32)) (hkn : ∀ (D : List LDen) (M : Mem) (k n m : Nat), k + m ≤ 603072 → n + 8 * m ≤ 7190634 → J (xL D X) Z (lm m (kn D M)) 2845 [(4, .int (nI t)), (3, .ref (gadr (XG X) (7, 0, 0))), (2, .ref (gadr (XG X) (5, 0, 0))), (1, .ref (gadr (XG X) (4, 0, 0))), (0, .ref b)] [] M k n) (hk0 : ∀ (M : Mem) (k n m : Nat), k + m ≤ 603072 → n + 8 * m ≤ 7190634 → J X Z (lm m (kn (XD X) M)) 2845 [(4, .int (nI t)), (3, .ref (gadr (XG X) (7, 0, 0))), (2, .ref (gadr (XG X) (5, 0, 0))), (1, .ref (gadr (XG X) (4, 0, 0))), (0, .ref b)] [] M k n) {k n m : Nat} (hk : k + m ≤ 603072) (hn : n + 8 * m ≤ 7190634) (M : Mem) : J X Z (lm m (FL_6 fu (XD X) kn (fun j => xs (t + j)) M)) 499 [(4, .int (nI t)), (3, .ref (gadr (XG X) (7, 0, 0))), (2, .ref (gadr (XG X) (5, 0, 0))), (1, .ref (gadr (XG X) (4, 0, 0))), (0, .ref b)] [] M k n := by
  unfold FL_6
  refine j_aload_n hC 3 dL_law_499 rfl ?_
  refine j_scr (j := 1) hC hS hL (by omega) 4 0 rfl rfl dL_law_500 dL_law_501 dL_law_503 (by decide) dL_law_504 dL_law_505 ?_
  refine j_scr (j := 2) hC hS hL (by omega) 4 0 rfl rfl dL_law_506 dL_law_507 dL_law_509 (by decide) dL_law_510 dL_law_511 ?_
  refine j_aload_n hC 1 dL_law_512 rfl ?_
  refine jm_tickG hZ (fun hc513 => ?_)
  refine j_lm lm_bhN ?_
  refine j_callSHW (nA := 4) (rest := []) hC [.ref (gadr (XG X) (4, 0, 0)), .int (xs (t + 1)), .int (xs (t + 2)), .ref (gadr (XG X) (7, 0, 0))] rfl (fun r hr => mX0_stock (XL X) hst (XG X) hX fu (XD X) M (xs (t + 1)) (xs (t + 2)) r hr) q1126 q1127 q125 q1128 (by decide +kernel) rfl rfl rfl rfl (bk (by omega)) (bk (by omega)) dL_law_513 (fun v513 => [.int v513]) (fun _ => rfl) (fun v513 M513 => ?_) (fun e M9 => jh_none)
  refine j_istore hC [(5, .int v513), (4, .int (nI t)), (3, .ref (gadr (XG X) (7, 0, 0))), (2, .ref (gadr (XG X) (5, 0, 0))), (1, .ref (gadr (XG X) (4, 0, 0))), (0, .ref b)] hnl dL_law_516 rfl rfl ?_
  refine j_aload_n hC 3 dL_law_518 rfl ?_
  refine j_scr (j := 1) hC hS hL (by omega) 5 1 rfl rfl dL_law_519 dL_law_520 dL_law_522 (by decide) dL_law_523 dL_law_524 ?_
  refine j_scr (j := 2) hC hS hL (by omega) 5 1 rfl rfl dL_law_525 dL_law_526 dL_law_528 (by decide) dL_law_529 dL_law_530 ?_
  refine j_lm lm_bd ?_
  refine j_callV (nA := 2) (rest := []) hC [.int (xs (t + 1)), .int (xs (t + 2))] rfl (fun r hr => mX8_stock (XL X) (XG X) hM fu (XD X) M513 (xs (t + 1)) (xs (t + 2)) r hr) q1914 q1915 q1916 q136 q1917 (dmMo hM rfl) rfl rfl (by decide +kernel) rfl rfl rfl rfl (bk (by omega)) (bk (by omega)) dL_law_531 (fun v531 => [.int v531]) (fun _ => rfl) (fun v531 M531 => ?_)
  refine j_istore hC [(6, .int v531), (5, .int v513), (4, .int (nI t)), (3, .ref (gadr (XG X) (7, 0, 0))), (2, .ref (gadr (XG X) (5, 0, 0))), (1, .ref (gadr (XG X) (4, 0, 0))), (0, .ref b)] hnl dL_law_534 rfl rfl ?_
  refine j_aload_n hC 4 dL_law_536 rfl ?_
  refine j_lm lm_bd ?_
  refine j_callV (nA := 0) (rest := []) hC [] rfl (fun r hr => mX8_thrown (XL X) (XG X) hM fu (XD X) M531 r hr) q1454 q1455 q1456 q136 q1457 (dmMo hM rfl) rfl rfl (by decide +kernel) rfl rfl rfl rfl (bk (by omega)) (bk (by omega)) dL_law_537 (fun v537 => [.int v537]) (fun _ => rfl) (fun v537 M537 => ?_)
  refine j_iload hC 1 dL_law_540 rfl ?_
  refine j_lm lm_ite ?_
  refine j_icmp_eq (tgt := 547) hC dL_law_542 (by decide) (fun h542 => ?_) (fun h542 => ?_)
  · refine j_iload hC 1 dL_law_547 rfl ?_
    refine j_lm lm_ite ?_
    refine j_if_ne (tgt := 564) hC dL_law_549 (by decide) (fun h549 => ?_) (fun h549 => ?_)
    · refine j_lm lm_ite ?_
      refine j_cmpOut hC hX 3 0 rfl rfl dL_law_552 dL_law_553 dL_law_554 dL_law_555 dL_law_557 dL_law_558 dL_law_559 ?_ ?_
      · refine j_goto (tgt := 2845) hC dL_law_564 (by decide) ?_
        exact j_sub [2, 3, 4, 5, 6] rfl (hk0 M537 _ _ _ (by omega) (by omega))
      · refine j_lm lm_some ?_
        exact hF _ _ _ _ _ _
    · refine j_goto (tgt := 2845) hC dL_law_564 (by decide) ?_
      exact j_sub [2, 3, 4, 5, 6] rfl (hk0 M537 _ _ _ (by omega) (by omega))
  · refine j_lm lm_some ?_
    exact hF _ _ _ _ _ _
set_option linter.unusedVariables false in
noncomputable def FL_7 (fu : Nat) (D : List LDen) (kn : List LDen → Mem → Option (PR Int32)) (w : Nat → Int32) (M : Mem) : Option (PR Int32) :=
  tick 2 (bh (FX0_matter fu D M (w 1) (w 2)) (fun v581 M581 => bd (FX8_matter fu D M581 (w 1) (w 2)) (fun v599 M599 => bd (FX8_thrown fu D M599) (fun v605 M605 => if v605 = v581 then if v581 = 0 then if M605 (7, 0, 0) 0 = v599 then kn D M605 else some (0, 0, 0, M605) else kn D M605 else some (0, 0, 0, M605)))) (fun _ _ => none))
set_option linter.unusedVariables false in
theorem wL_7 {X : JX} {b L t : Nat} {xs : Nat → Int32} (hC : JC X cL_law RX0 (some .boolean) 8192 104096 603072 7190634) (hX : dmI dmX (XG X)) (hM : dmI dmM (XG X)) (hst : (XL X).stackTraces = false) (hP : gP (XG X) = []) (h80 : gdm (XG X) (8, 0, 0) = false) (h81 : gdm (XG X) (8, 0, 1) = false) (hnl : nLof X = 7) (hS : JSc X b L xs) (hL : L ≤ 384) (ht : t + 6 ≤ L) {Z : PR Int32 → State → Prop} (hZ : ∀ (r : PR Int32) (c : Nat), Z (r.1, r.2.1, c + r.2.2.1, r.2.2.2) = Z r)
    (hFL : ∀ (D : List LDen) (M : Mem) (pc : Nat) (lv : List (Nat × Value)) (st : List Value) (k n : Nat), J (xL D X) Z (some (0, 0, 0, M)) pc lv st M k n) (hF : ∀ (M : Mem) (pc : Nat) (lv : List (Nat × Value)) (st : List Value) (k n : Nat), J X Z (some (0, 0, 0, M)) pc lv st M k n) (fu : Nat) (kn : List LDen → Mem → Option (PR Int32)) (hkn : ∀ (D : List LDen) (M : Mem) (k n m : Nat), k + m ≤ 603072 → n + 8 * m ≤ 7190634 → J (xL D X) Z (lm m (kn D M)) 2845 [(4, .int (nI t)), (3, .ref (gadr (XG X) (7, 0, 0))), (2, .ref (gadr (XG X) (5, 0, 0))), (1, .ref (gadr (XG X) (4, 0, 0))), (0, .ref b)] [] M k n) (hk0 : ∀ (M : Mem) (k n m : Nat), k + m ≤ 603072 → n + 8 * m ≤ 7190634 → J X Z (lm m (kn (XD X) M)) 2845 [(4, .int (nI t)), (3, .ref (gadr (XG X) (7, 0, 0))), (2, .ref (gadr (XG X) (5, 0, 0))), (1, .ref (gadr (XG X) (4, 0, 0))), (0, .ref b)] [] M k n) {k n m : Nat} (hk : k + m ≤ 603072) (hn : n + 8 * m ≤ 7190634) (M : Mem) : J X Z (lm m (FL_7 fu (XD X) kn (fun j => xs (t + j)) M)) 567 [(4, .int (nI t)), (3, .ref (gadr (XG X) (7, 0, 0))), (2, .ref (gadr (XG X) (5, 0, 0))), (1, .ref (gadr (XG X) (4, 0, 0))), (0, .ref b)] [] M k n := by
  unfold FL_7
  refine j_aload_n hC 3 dL_law_567 rfl ?_
  refine j_scr (j := 1) hC hS hL (by omega) 4 0 rfl rfl dL_law_568 dL_law_569 dL_law_571 (by decide) dL_law_572 dL_law_573 ?_
  refine j_scr (j := 2) hC hS hL (by omega) 4 0 rfl rfl dL_law_574 dL_law_575 dL_law_577 (by decide) dL_law_578 dL_law_579 ?_
  refine j_aload_n hC 1 dL_law_580 rfl ?_
  refine jm_tickG hZ (fun hc581 => ?_)
  refine j_lm lm_bhN ?_
  refine j_callSHW (nA := 4) (rest := []) hC [.ref (gadr (XG X) (4, 0, 0)), .int (xs (t + 1)), .int (xs (t + 2)), .ref (gadr (XG X) (7, 0, 0))] rfl (fun r hr => mX0_matter (XL X) hst (XG X) hX fu (XD X) M (xs (t + 1)) (xs (t + 2)) r hr) q1137 q1138 q125 q1139 (by decide +kernel) rfl rfl rfl rfl (bk (by omega)) (bk (by omega)) dL_law_581 (fun v581 => [.int v581]) (fun _ => rfl) (fun v581 M581 => ?_) (fun e M9 => jh_none)
  refine j_istore hC [(5, .int v581), (4, .int (nI t)), (3, .ref (gadr (XG X) (7, 0, 0))), (2, .ref (gadr (XG X) (5, 0, 0))), (1, .ref (gadr (XG X) (4, 0, 0))), (0, .ref b)] hnl dL_law_584 rfl rfl ?_
  refine j_aload_n hC 3 dL_law_586 rfl ?_
  refine j_scr (j := 1) hC hS hL (by omega) 5 1 rfl rfl dL_law_587 dL_law_588 dL_law_590 (by decide) dL_law_591 dL_law_592 ?_
  refine j_scr (j := 2) hC hS hL (by omega) 5 1 rfl rfl dL_law_593 dL_law_594 dL_law_596 (by decide) dL_law_597 dL_law_598 ?_
  refine j_lm lm_bd ?_
  refine j_callV (nA := 2) (rest := []) hC [.int (xs (t + 1)), .int (xs (t + 2))] rfl (fun r hr => mX8_matter (XL X) (XG X) hM fu (XD X) M581 (xs (t + 1)) (xs (t + 2)) r hr) q1926 q1927 q1928 q136 q1929 (dmMo hM rfl) rfl rfl (by decide +kernel) rfl rfl rfl rfl (bk (by omega)) (bk (by omega)) dL_law_599 (fun v599 => [.int v599]) (fun _ => rfl) (fun v599 M599 => ?_)
  refine j_istore hC [(6, .int v599), (5, .int v581), (4, .int (nI t)), (3, .ref (gadr (XG X) (7, 0, 0))), (2, .ref (gadr (XG X) (5, 0, 0))), (1, .ref (gadr (XG X) (4, 0, 0))), (0, .ref b)] hnl dL_law_602 rfl rfl ?_
  refine j_aload_n hC 4 dL_law_604 rfl ?_
  refine j_lm lm_bd ?_
  refine j_callV (nA := 0) (rest := []) hC [] rfl (fun r hr => mX8_thrown (XL X) (XG X) hM fu (XD X) M599 r hr) q1454 q1455 q1456 q136 q1457 (dmMo hM rfl) rfl rfl (by decide +kernel) rfl rfl rfl rfl (bk (by omega)) (bk (by omega)) dL_law_605 (fun v605 => [.int v605]) (fun _ => rfl) (fun v605 M605 => ?_)
  refine j_iload hC 1 dL_law_608 rfl ?_
  refine j_lm lm_ite ?_
  refine j_icmp_eq (tgt := 615) hC dL_law_610 (by decide) (fun h610 => ?_) (fun h610 => ?_)
  · refine j_iload hC 1 dL_law_615 rfl ?_
    refine j_lm lm_ite ?_
    refine j_if_ne (tgt := 632) hC dL_law_617 (by decide) (fun h617 => ?_) (fun h617 => ?_)
    · refine j_lm lm_ite ?_
      refine j_cmpOut hC hX 3 0 rfl rfl dL_law_620 dL_law_621 dL_law_622 dL_law_623 dL_law_625 dL_law_626 dL_law_627 ?_ ?_
      · refine j_goto (tgt := 2845) hC dL_law_632 (by decide) ?_
        exact j_sub [2, 3, 4, 5, 6] rfl (hk0 M605 _ _ _ (by omega) (by omega))
      · refine j_lm lm_some ?_
        exact hF _ _ _ _ _ _
    · refine j_goto (tgt := 2845) hC dL_law_632 (by decide) ?_
      exact j_sub [2, 3, 4, 5, 6] rfl (hk0 M605 _ _ _ (by omega) (by omega))
  · refine j_lm lm_some ?_
    exact hF _ _ _ _ _ _
set_option linter.unusedVariables false in
noncomputable def FL_8 (fu : Nat) (D : List LDen) (kn : List LDen → Mem → Option (PR Int32)) (w : Nat → Int32) (M : Mem) : Option (PR Int32) :=
  tick 1 (bh (FX0_wind fu D M (w 1)) (fun v643 M643 => bd (FX8_wind fu D M643 (w 1)) (fun v655 M655 => bd (FX8_thrown fu D M655) (fun v661 M661 => if v661 = v643 then if v643 = 0 then if M661 (7, 0, 0) 0 = v655 then kn D M661 else some (0, 0, 0, M661) else kn D M661 else some (0, 0, 0, M661)))) (fun _ _ => none))
set_option linter.unusedVariables false in
theorem wL_8 {X : JX} {b L t : Nat} {xs : Nat → Int32} (hC : JC X cL_law RX0 (some .boolean) 8192 104096 603072 7190634) (hX : dmI dmX (XG X)) (hM : dmI dmM (XG X)) (hst : (XL X).stackTraces = false) (hP : gP (XG X) = []) (h80 : gdm (XG X) (8, 0, 0) = false) (h81 : gdm (XG X) (8, 0, 1) = false) (hnl : nLof X = 7) (hS : JSc X b L xs) (hL : L ≤ 384) (ht : t + 6 ≤ L) {Z : PR Int32 → State → Prop} (hZ : ∀ (r : PR Int32) (c : Nat), Z (r.1, r.2.1, c + r.2.2.1, r.2.2.2) = Z r)
    (hFL : ∀ (D : List LDen) (M : Mem) (pc : Nat) (lv : List (Nat × Value)) (st : List Value) (k n : Nat), J (xL D X) Z (some (0, 0, 0, M)) pc lv st M k n) (hF : ∀ (M : Mem) (pc : Nat) (lv : List (Nat × Value)) (st : List Value) (k n : Nat), J X Z (some (0, 0, 0, M)) pc lv st M k n) (fu : Nat) (kn : List LDen → Mem → Option (PR Int32)) (hkn : ∀ (D : List LDen) (M : Mem) (k n m : Nat), k + m ≤ 603072 → n + 8 * m ≤ 7190634 → J (xL D X) Z (lm m (kn D M)) 2845 [(4, .int (nI t)), (3, .ref (gadr (XG X) (7, 0, 0))), (2, .ref (gadr (XG X) (5, 0, 0))), (1, .ref (gadr (XG X) (4, 0, 0))), (0, .ref b)] [] M k n) (hk0 : ∀ (M : Mem) (k n m : Nat), k + m ≤ 603072 → n + 8 * m ≤ 7190634 → J X Z (lm m (kn (XD X) M)) 2845 [(4, .int (nI t)), (3, .ref (gadr (XG X) (7, 0, 0))), (2, .ref (gadr (XG X) (5, 0, 0))), (1, .ref (gadr (XG X) (4, 0, 0))), (0, .ref b)] [] M k n) {k n m : Nat} (hk : k + m ≤ 603072) (hn : n + 8 * m ≤ 7190634) (M : Mem) : J X Z (lm m (FL_8 fu (XD X) kn (fun j => xs (t + j)) M)) 635 [(4, .int (nI t)), (3, .ref (gadr (XG X) (7, 0, 0))), (2, .ref (gadr (XG X) (5, 0, 0))), (1, .ref (gadr (XG X) (4, 0, 0))), (0, .ref b)] [] M k n := by
  unfold FL_8
  refine j_aload_n hC 3 dL_law_635 rfl ?_
  refine j_scr (j := 1) hC hS hL (by omega) 4 0 rfl rfl dL_law_636 dL_law_637 dL_law_639 (by decide) dL_law_640 dL_law_641 ?_
  refine j_aload_n hC 1 dL_law_642 rfl ?_
  refine jm_tickG hZ (fun hc643 => ?_)
  refine j_lm lm_bhN ?_
  refine j_callSHW (nA := 3) (rest := []) hC [.ref (gadr (XG X) (4, 0, 0)), .int (xs (t + 1)), .ref (gadr (XG X) (7, 0, 0))] rfl (fun r hr => mX0_wind (XL X) hst (XG X) hX fu (XD X) M (xs (t + 1)) r hr) q1153 q1154 q125 q1155 (by decide +kernel) rfl rfl rfl rfl (bk (by omega)) (bk (by omega)) dL_law_643 (fun v643 => [.int v643]) (fun _ => rfl) (fun v643 M643 => ?_) (fun e M9 => jh_none)
  refine j_istore hC [(5, .int v643), (4, .int (nI t)), (3, .ref (gadr (XG X) (7, 0, 0))), (2, .ref (gadr (XG X) (5, 0, 0))), (1, .ref (gadr (XG X) (4, 0, 0))), (0, .ref b)] hnl dL_law_646 rfl rfl ?_
  refine j_aload_n hC 3 dL_law_648 rfl ?_
  refine j_scr (j := 1) hC hS hL (by omega) 5 1 rfl rfl dL_law_649 dL_law_650 dL_law_652 (by decide) dL_law_653 dL_law_654 ?_
  refine j_lm lm_bd ?_
  refine j_callV (nA := 1) (rest := []) hC [.int (xs (t + 1))] rfl (fun r hr => mX8_wind (XL X) (XG X) hM fu (XD X) M643 (xs (t + 1)) r hr) q1942 q1943 q1944 q136 q1945 (dmMo hM rfl) rfl rfl (by decide +kernel) rfl rfl rfl rfl (bk (by omega)) (bk (by omega)) dL_law_655 (fun v655 => [.int v655]) (fun _ => rfl) (fun v655 M655 => ?_)
  refine j_istore hC [(6, .int v655), (5, .int v643), (4, .int (nI t)), (3, .ref (gadr (XG X) (7, 0, 0))), (2, .ref (gadr (XG X) (5, 0, 0))), (1, .ref (gadr (XG X) (4, 0, 0))), (0, .ref b)] hnl dL_law_658 rfl rfl ?_
  refine j_aload_n hC 4 dL_law_660 rfl ?_
  refine j_lm lm_bd ?_
  refine j_callV (nA := 0) (rest := []) hC [] rfl (fun r hr => mX8_thrown (XL X) (XG X) hM fu (XD X) M655 r hr) q1454 q1455 q1456 q136 q1457 (dmMo hM rfl) rfl rfl (by decide +kernel) rfl rfl rfl rfl (bk (by omega)) (bk (by omega)) dL_law_661 (fun v661 => [.int v661]) (fun _ => rfl) (fun v661 M661 => ?_)
  refine j_iload hC 1 dL_law_664 rfl ?_
  refine j_lm lm_ite ?_
  refine j_icmp_eq (tgt := 671) hC dL_law_666 (by decide) (fun h666 => ?_) (fun h666 => ?_)
  · refine j_iload hC 1 dL_law_671 rfl ?_
    refine j_lm lm_ite ?_
    refine j_if_ne (tgt := 688) hC dL_law_673 (by decide) (fun h673 => ?_) (fun h673 => ?_)
    · refine j_lm lm_ite ?_
      refine j_cmpOut hC hX 3 0 rfl rfl dL_law_676 dL_law_677 dL_law_678 dL_law_679 dL_law_681 dL_law_682 dL_law_683 ?_ ?_
      · refine j_goto (tgt := 2845) hC dL_law_688 (by decide) ?_
        exact j_sub [2, 3, 4, 5, 6] rfl (hk0 M661 _ _ _ (by omega) (by omega))
      · refine j_lm lm_some ?_
        exact hF _ _ _ _ _ _
    · refine j_goto (tgt := 2845) hC dL_law_688 (by decide) ?_
      exact j_sub [2, 3, 4, 5, 6] rfl (hk0 M661 _ _ _ (by omega) (by omega))
  · refine j_lm lm_some ?_
    exact hF _ _ _ _ _ _
set_option linter.unusedVariables false in
noncomputable def FL_9 (fu : Nat) (D : List LDen) (kn : List LDen → Mem → Option (PR Int32)) (w : Nat → Int32) (M : Mem) : Option (PR Int32) :=
  tick 3 (bh (FX0_moves fu D M (w 1) (w 2) (w 3) (w 4) (bz (w 5))) (fun v731 M731 => bd (FX8_moves fu D M731 (w 1) (w 2) (w 3) (w 4) (bz (w 5))) (fun v775 M775 => bd (FX8_thrown fu D M775) (fun v781 M781 => if v781 = v731 then if v731 = 0 then if M781 (7, 0, 0) 0 = v775 then kn D M781 else some (0, 0, 0, M781) else kn D M781 else some (0, 0, 0, M781)))) (fun _ _ => none))
set_option linter.unusedVariables false in
theorem wL_9 {X : JX} {b L t : Nat} {xs : Nat → Int32} (hC : JC X cL_law RX0 (some .boolean) 8192 104096 603072 7190634) (hX : dmI dmX (XG X)) (hM : dmI dmM (XG X)) (hst : (XL X).stackTraces = false) (hP : gP (XG X) = []) (h80 : gdm (XG X) (8, 0, 0) = false) (h81 : gdm (XG X) (8, 0, 1) = false) (hnl : nLof X = 7) (hS : JSc X b L xs) (hL : L ≤ 384) (ht : t + 6 ≤ L) {Z : PR Int32 → State → Prop} (hZ : ∀ (r : PR Int32) (c : Nat), Z (r.1, r.2.1, c + r.2.2.1, r.2.2.2) = Z r)
    (hFL : ∀ (D : List LDen) (M : Mem) (pc : Nat) (lv : List (Nat × Value)) (st : List Value) (k n : Nat), J (xL D X) Z (some (0, 0, 0, M)) pc lv st M k n) (hF : ∀ (M : Mem) (pc : Nat) (lv : List (Nat × Value)) (st : List Value) (k n : Nat), J X Z (some (0, 0, 0, M)) pc lv st M k n) (fu : Nat) (kn : List LDen → Mem → Option (PR Int32)) (hkn : ∀ (D : List LDen) (M : Mem) (k n m : Nat), k + m ≤ 603072 → n + 8 * m ≤ 7190634 → J (xL D X) Z (lm m (kn D M)) 2845 [(4, .int (nI t)), (3, .ref (gadr (XG X) (7, 0, 0))), (2, .ref (gadr (XG X) (5, 0, 0))), (1, .ref (gadr (XG X) (4, 0, 0))), (0, .ref b)] [] M k n) (hk0 : ∀ (M : Mem) (k n m : Nat), k + m ≤ 603072 → n + 8 * m ≤ 7190634 → J X Z (lm m (kn (XD X) M)) 2845 [(4, .int (nI t)), (3, .ref (gadr (XG X) (7, 0, 0))), (2, .ref (gadr (XG X) (5, 0, 0))), (1, .ref (gadr (XG X) (4, 0, 0))), (0, .ref b)] [] M k n) {k n m : Nat} (hk : k + m ≤ 603072) (hn : n + 8 * m ≤ 7190634) (M : Mem) : J X Z (lm m (FL_9 fu (XD X) kn (fun j => xs (t + j)) M)) 691 [(4, .int (nI t)), (3, .ref (gadr (XG X) (7, 0, 0))), (2, .ref (gadr (XG X) (5, 0, 0))), (1, .ref (gadr (XG X) (4, 0, 0))), (0, .ref b)] [] M k n := by
  unfold FL_9
  refine j_aload_n hC 3 dL_law_691 rfl ?_
  refine j_scr (j := 1) hC hS hL (by omega) 4 0 rfl rfl dL_law_692 dL_law_693 dL_law_695 (by decide) dL_law_696 dL_law_697 ?_
  refine j_scr (j := 2) hC hS hL (by omega) 4 0 rfl rfl dL_law_698 dL_law_699 dL_law_701 (by decide) dL_law_702 dL_law_703 ?_
  refine j_scr (j := 3) hC hS hL (by omega) 4 0 rfl rfl dL_law_704 dL_law_705 dL_law_707 (by decide) dL_law_708 dL_law_709 ?_
  refine j_scr (j := 4) hC hS hL (by omega) 4 0 rfl rfl dL_law_710 dL_law_711 dL_law_713 (by decide) dL_law_714 dL_law_715 ?_
  refine j_scr (j := 5) hC hS hL (by omega) 4 0 rfl rfl dL_law_716 dL_law_717 dL_law_719 (by decide) dL_law_720 dL_law_721 ?_
  refine j_bool hC dL_law_722 dL_law_725 dL_law_726 dL_law_729 ?_
  refine j_aload_n hC 1 dL_law_730 rfl ?_
  refine jm_tickG hZ (fun hc731 => ?_)
  refine j_lm lm_bhN ?_
  refine j_callSHW (nA := 7) (rest := []) hC [.ref (gadr (XG X) (4, 0, 0)), .int (xs (t + 1)), .int (xs (t + 2)), .int (xs (t + 3)), .int (xs (t + 4)), .int (bz (xs (t + 5))), .ref (gadr (XG X) (7, 0, 0))] rfl (fun r hr => mX0_moves (XL X) hst (XG X) hX fu (XD X) M (xs (t + 1)) (xs (t + 2)) (xs (t + 3)) (xs (t + 4)) (bz (xs (t + 5))) r hr) q1160 q1161 q125 q1162 (by decide +kernel) rfl rfl rfl rfl (bk (by omega)) (bk (by omega)) dL_law_731 (fun v731 => [.int v731]) (fun _ => rfl) (fun v731 M731 => ?_) (fun e M9 => jh_none)
  refine j_istore hC [(5, .int v731), (4, .int (nI t)), (3, .ref (gadr (XG X) (7, 0, 0))), (2, .ref (gadr (XG X) (5, 0, 0))), (1, .ref (gadr (XG X) (4, 0, 0))), (0, .ref b)] hnl dL_law_734 rfl rfl ?_
  refine j_aload_n hC 3 dL_law_736 rfl ?_
  refine j_scr (j := 1) hC hS hL (by omega) 5 1 rfl rfl dL_law_737 dL_law_738 dL_law_740 (by decide) dL_law_741 dL_law_742 ?_
  refine j_scr (j := 2) hC hS hL (by omega) 5 1 rfl rfl dL_law_743 dL_law_744 dL_law_746 (by decide) dL_law_747 dL_law_748 ?_
  refine j_scr (j := 3) hC hS hL (by omega) 5 1 rfl rfl dL_law_749 dL_law_750 dL_law_752 (by decide) dL_law_753 dL_law_754 ?_
  refine j_scr (j := 4) hC hS hL (by omega) 5 1 rfl rfl dL_law_755 dL_law_756 dL_law_758 (by decide) dL_law_759 dL_law_760 ?_
  refine j_scr (j := 5) hC hS hL (by omega) 5 1 rfl rfl dL_law_761 dL_law_762 dL_law_764 (by decide) dL_law_765 dL_law_766 ?_
  refine j_bool hC dL_law_767 dL_law_770 dL_law_771 dL_law_774 ?_
  refine j_lm lm_bd ?_
  refine j_callV (nA := 5) (rest := []) hC [.int (xs (t + 1)), .int (xs (t + 2)), .int (xs (t + 3)), .int (xs (t + 4)), .int (bz (xs (t + 5)))] rfl (fun r hr => mX8_moves (XL X) (XG X) hM fu (XD X) M731 (xs (t + 1)) (xs (t + 2)) (xs (t + 3)) (xs (t + 4)) (bz (xs (t + 5))) r hr) q1756 q1757 q1758 q136 q1759 (dmMo hM rfl) rfl rfl (by decide +kernel) rfl rfl rfl rfl (bk (by omega)) (bk (by omega)) dL_law_775 (fun v775 => [.int v775]) (fun _ => rfl) (fun v775 M775 => ?_)
  refine j_istore hC [(6, .int v775), (5, .int v731), (4, .int (nI t)), (3, .ref (gadr (XG X) (7, 0, 0))), (2, .ref (gadr (XG X) (5, 0, 0))), (1, .ref (gadr (XG X) (4, 0, 0))), (0, .ref b)] hnl dL_law_778 rfl rfl ?_
  refine j_aload_n hC 4 dL_law_780 rfl ?_
  refine j_lm lm_bd ?_
  refine j_callV (nA := 0) (rest := []) hC [] rfl (fun r hr => mX8_thrown (XL X) (XG X) hM fu (XD X) M775 r hr) q1454 q1455 q1456 q136 q1457 (dmMo hM rfl) rfl rfl (by decide +kernel) rfl rfl rfl rfl (bk (by omega)) (bk (by omega)) dL_law_781 (fun v781 => [.int v781]) (fun _ => rfl) (fun v781 M781 => ?_)
  refine j_iload hC 1 dL_law_784 rfl ?_
  refine j_lm lm_ite ?_
  refine j_icmp_eq (tgt := 791) hC dL_law_786 (by decide) (fun h786 => ?_) (fun h786 => ?_)
  · refine j_iload hC 1 dL_law_791 rfl ?_
    refine j_lm lm_ite ?_
    refine j_if_ne (tgt := 808) hC dL_law_793 (by decide) (fun h793 => ?_) (fun h793 => ?_)
    · refine j_lm lm_ite ?_
      refine j_cmpOut hC hX 3 0 rfl rfl dL_law_796 dL_law_797 dL_law_798 dL_law_799 dL_law_801 dL_law_802 dL_law_803 ?_ ?_
      · refine j_goto (tgt := 2845) hC dL_law_808 (by decide) ?_
        exact j_sub [2, 3, 4, 5, 6] rfl (hk0 M781 _ _ _ (by omega) (by omega))
      · refine j_lm lm_some ?_
        exact hF _ _ _ _ _ _
    · refine j_goto (tgt := 2845) hC dL_law_808 (by decide) ?_
      exact j_sub [2, 3, 4, 5, 6] rfl (hk0 M781 _ _ _ (by omega) (by omega))
  · refine j_lm lm_some ?_
    exact hF _ _ _ _ _ _
set_option linter.unusedVariables false in
noncomputable def FL_10 (fu : Nat) (D : List LDen) (kn : List LDen → Mem → Option (PR Int32)) (w : Nat → Int32) (M : Mem) : Option (PR Int32) :=
  tick 4 (bh (FX0_call fu D M (w 1) (w 2) (w 3)) (fun v831 M831 => bd (FX8_call fu D M831 (w 1) (w 2) (w 3)) (fun v855 M855 => bd (FX8_thrown fu D M855) (fun v861 M861 => if v861 = v831 then if v831 = 0 then if M861 (7, 0, 0) 0 = v855 then kn D M861 else some (0, 0, 0, M861) else kn D M861 else some (0, 0, 0, M861)))) (fun _ _ => none))
set_option linter.unusedVariables false in
theorem wL_10 {X : JX} {b L t : Nat} {xs : Nat → Int32} (hC : JC X cL_law RX0 (some .boolean) 8192 104096 603072 7190634) (hX : dmI dmX (XG X)) (hM : dmI dmM (XG X)) (hst : (XL X).stackTraces = false) (hP : gP (XG X) = []) (h80 : gdm (XG X) (8, 0, 0) = false) (h81 : gdm (XG X) (8, 0, 1) = false) (hnl : nLof X = 7) (hS : JSc X b L xs) (hL : L ≤ 384) (ht : t + 6 ≤ L) {Z : PR Int32 → State → Prop} (hZ : ∀ (r : PR Int32) (c : Nat), Z (r.1, r.2.1, c + r.2.2.1, r.2.2.2) = Z r)
    (hFL : ∀ (D : List LDen) (M : Mem) (pc : Nat) (lv : List (Nat × Value)) (st : List Value) (k n : Nat), J (xL D X) Z (some (0, 0, 0, M)) pc lv st M k n) (hF : ∀ (M : Mem) (pc : Nat) (lv : List (Nat × Value)) (st : List Value) (k n : Nat), J X Z (some (0, 0, 0, M)) pc lv st M k n) (fu : Nat) (kn : List LDen → Mem → Option (PR Int32)) (hkn : ∀ (D : List LDen) (M : Mem) (k n m : Nat), k + m ≤ 603072 → n + 8 * m ≤ 7190634 → J (xL D X) Z (lm m (kn D M)) 2845 [(4, .int (nI t)), (3, .ref (gadr (XG X) (7, 0, 0))), (2, .ref (gadr (XG X) (5, 0, 0))), (1, .ref (gadr (XG X) (4, 0, 0))), (0, .ref b)] [] M k n) (hk0 : ∀ (M : Mem) (k n m : Nat), k + m ≤ 603072 → n + 8 * m ≤ 7190634 → J X Z (lm m (kn (XD X) M)) 2845 [(4, .int (nI t)), (3, .ref (gadr (XG X) (7, 0, 0))), (2, .ref (gadr (XG X) (5, 0, 0))), (1, .ref (gadr (XG X) (4, 0, 0))), (0, .ref b)] [] M k n) {k n m : Nat} (hk : k + m ≤ 603072) (hn : n + 8 * m ≤ 7190634) (M : Mem) : J X Z (lm m (FL_10 fu (XD X) kn (fun j => xs (t + j)) M)) 811 [(4, .int (nI t)), (3, .ref (gadr (XG X) (7, 0, 0))), (2, .ref (gadr (XG X) (5, 0, 0))), (1, .ref (gadr (XG X) (4, 0, 0))), (0, .ref b)] [] M k n := by
  unfold FL_10
  refine j_aload_n hC 3 dL_law_811 rfl ?_
  refine j_scr (j := 1) hC hS hL (by omega) 4 0 rfl rfl dL_law_812 dL_law_813 dL_law_815 (by decide) dL_law_816 dL_law_817 ?_
  refine j_scr (j := 2) hC hS hL (by omega) 4 0 rfl rfl dL_law_818 dL_law_819 dL_law_821 (by decide) dL_law_822 dL_law_823 ?_
  refine j_scr (j := 3) hC hS hL (by omega) 4 0 rfl rfl dL_law_824 dL_law_825 dL_law_827 (by decide) dL_law_828 dL_law_829 ?_
  refine j_aload_n hC 1 dL_law_830 rfl ?_
  refine jm_tickG hZ (fun hc831 => ?_)
  refine j_lm lm_bhN ?_
  refine j_callSHW (nA := 5) (rest := []) hC [.ref (gadr (XG X) (4, 0, 0)), .int (xs (t + 1)), .int (xs (t + 2)), .int (xs (t + 3)), .ref (gadr (XG X) (7, 0, 0))] rfl (fun r hr => mX0_call (XL X) hst (XG X) hX fu (XD X) M (xs (t + 1)) (xs (t + 2)) (xs (t + 3)) r hr) q1172 q1173 q125 q1174 (by decide +kernel) rfl rfl rfl rfl (bk (by omega)) (bk (by omega)) dL_law_831 (fun v831 => [.int v831]) (fun _ => rfl) (fun v831 M831 => ?_) (fun e M9 => jh_none)
  refine j_istore hC [(5, .int v831), (4, .int (nI t)), (3, .ref (gadr (XG X) (7, 0, 0))), (2, .ref (gadr (XG X) (5, 0, 0))), (1, .ref (gadr (XG X) (4, 0, 0))), (0, .ref b)] hnl dL_law_834 rfl rfl ?_
  refine j_aload_n hC 3 dL_law_836 rfl ?_
  refine j_scr (j := 1) hC hS hL (by omega) 5 1 rfl rfl dL_law_837 dL_law_838 dL_law_840 (by decide) dL_law_841 dL_law_842 ?_
  refine j_scr (j := 2) hC hS hL (by omega) 5 1 rfl rfl dL_law_843 dL_law_844 dL_law_846 (by decide) dL_law_847 dL_law_848 ?_
  refine j_scr (j := 3) hC hS hL (by omega) 5 1 rfl rfl dL_law_849 dL_law_850 dL_law_852 (by decide) dL_law_853 dL_law_854 ?_
  refine j_lm lm_bd ?_
  refine j_callV (nA := 3) (rest := []) hC [.int (xs (t + 1)), .int (xs (t + 2)), .int (xs (t + 3))] rfl (fun r hr => mX8_call (XL X) (XG X) hM fu (XD X) M831 (xs (t + 1)) (xs (t + 2)) (xs (t + 3)) r hr) q1975 q1976 q1977 q136 q1978 (dmMo hM rfl) rfl rfl (by decide +kernel) rfl rfl rfl rfl (bk (by omega)) (bk (by omega)) dL_law_855 (fun v855 => [.int v855]) (fun _ => rfl) (fun v855 M855 => ?_)
  refine j_istore hC [(6, .int v855), (5, .int v831), (4, .int (nI t)), (3, .ref (gadr (XG X) (7, 0, 0))), (2, .ref (gadr (XG X) (5, 0, 0))), (1, .ref (gadr (XG X) (4, 0, 0))), (0, .ref b)] hnl dL_law_858 rfl rfl ?_
  refine j_aload_n hC 4 dL_law_860 rfl ?_
  refine j_lm lm_bd ?_
  refine j_callV (nA := 0) (rest := []) hC [] rfl (fun r hr => mX8_thrown (XL X) (XG X) hM fu (XD X) M855 r hr) q1454 q1455 q1456 q136 q1457 (dmMo hM rfl) rfl rfl (by decide +kernel) rfl rfl rfl rfl (bk (by omega)) (bk (by omega)) dL_law_861 (fun v861 => [.int v861]) (fun _ => rfl) (fun v861 M861 => ?_)
  refine j_iload hC 1 dL_law_864 rfl ?_
  refine j_lm lm_ite ?_
  refine j_icmp_eq (tgt := 871) hC dL_law_866 (by decide) (fun h866 => ?_) (fun h866 => ?_)
  · refine j_iload hC 1 dL_law_871 rfl ?_
    refine j_lm lm_ite ?_
    refine j_if_ne (tgt := 888) hC dL_law_873 (by decide) (fun h873 => ?_) (fun h873 => ?_)
    · refine j_lm lm_ite ?_
      refine j_cmpOut hC hX 3 0 rfl rfl dL_law_876 dL_law_877 dL_law_878 dL_law_879 dL_law_881 dL_law_882 dL_law_883 ?_ ?_
      · refine j_goto (tgt := 2845) hC dL_law_888 (by decide) ?_
        exact j_sub [2, 3, 4, 5, 6] rfl (hk0 M861 _ _ _ (by omega) (by omega))
      · refine j_lm lm_some ?_
        exact hF _ _ _ _ _ _
    · refine j_goto (tgt := 2845) hC dL_law_888 (by decide) ?_
      exact j_sub [2, 3, 4, 5, 6] rfl (hk0 M861 _ _ _ (by omega) (by omega))
  · refine j_lm lm_some ?_
    exact hF _ _ _ _ _ _
set_option linter.unusedVariables false in
noncomputable def FL_11 (fu : Nat) (D : List LDen) (kn : List LDen → Mem → Option (PR Int32)) (w : Nat → Int32) (M : Mem) : Option (PR Int32) :=
  tick 1 (bh (FX0_hour fu D M (w 1)) (fun v899 M899 => bd (FX8_hour fu D M899 (w 1)) (fun v911 M911 => bd (FX8_thrown fu D M911) (fun v917 M917 => if v917 = v899 then if v899 = 0 then if M917 (7, 0, 0) 0 = v911 then kn D M917 else some (0, 0, 0, M917) else kn D M917 else some (0, 0, 0, M917)))) (fun _ _ => none))
set_option linter.unusedVariables false in
theorem wL_11 {X : JX} {b L t : Nat} {xs : Nat → Int32} (hC : JC X cL_law RX0 (some .boolean) 8192 104096 603072 7190634) (hX : dmI dmX (XG X)) (hM : dmI dmM (XG X)) (hst : (XL X).stackTraces = false) (hP : gP (XG X) = []) (h80 : gdm (XG X) (8, 0, 0) = false) (h81 : gdm (XG X) (8, 0, 1) = false) (hnl : nLof X = 7) (hS : JSc X b L xs) (hL : L ≤ 384) (ht : t + 6 ≤ L) {Z : PR Int32 → State → Prop} (hZ : ∀ (r : PR Int32) (c : Nat), Z (r.1, r.2.1, c + r.2.2.1, r.2.2.2) = Z r)
    (hFL : ∀ (D : List LDen) (M : Mem) (pc : Nat) (lv : List (Nat × Value)) (st : List Value) (k n : Nat), J (xL D X) Z (some (0, 0, 0, M)) pc lv st M k n) (hF : ∀ (M : Mem) (pc : Nat) (lv : List (Nat × Value)) (st : List Value) (k n : Nat), J X Z (some (0, 0, 0, M)) pc lv st M k n) (fu : Nat) (kn : List LDen → Mem → Option (PR Int32)) (hkn : ∀ (D : List LDen) (M : Mem) (k n m : Nat), k + m ≤ 603072 → n + 8 * m ≤ 7190634 → J (xL D X) Z (lm m (kn D M)) 2845 [(4, .int (nI t)), (3, .ref (gadr (XG X) (7, 0, 0))), (2, .ref (gadr (XG X) (5, 0, 0))), (1, .ref (gadr (XG X) (4, 0, 0))), (0, .ref b)] [] M k n) (hk0 : ∀ (M : Mem) (k n m : Nat), k + m ≤ 603072 → n + 8 * m ≤ 7190634 → J X Z (lm m (kn (XD X) M)) 2845 [(4, .int (nI t)), (3, .ref (gadr (XG X) (7, 0, 0))), (2, .ref (gadr (XG X) (5, 0, 0))), (1, .ref (gadr (XG X) (4, 0, 0))), (0, .ref b)] [] M k n) {k n m : Nat} (hk : k + m ≤ 603072) (hn : n + 8 * m ≤ 7190634) (M : Mem) : J X Z (lm m (FL_11 fu (XD X) kn (fun j => xs (t + j)) M)) 891 [(4, .int (nI t)), (3, .ref (gadr (XG X) (7, 0, 0))), (2, .ref (gadr (XG X) (5, 0, 0))), (1, .ref (gadr (XG X) (4, 0, 0))), (0, .ref b)] [] M k n := by
  unfold FL_11
  refine j_aload_n hC 3 dL_law_891 rfl ?_
  refine j_scr (j := 1) hC hS hL (by omega) 4 0 rfl rfl dL_law_892 dL_law_893 dL_law_895 (by decide) dL_law_896 dL_law_897 ?_
  refine j_aload_n hC 1 dL_law_898 rfl ?_
  refine jm_tickG hZ (fun hc899 => ?_)
  refine j_lm lm_bhN ?_
  refine j_callSHW (nA := 3) (rest := []) hC [.ref (gadr (XG X) (4, 0, 0)), .int (xs (t + 1)), .ref (gadr (XG X) (7, 0, 0))] rfl (fun r hr => mX0_hour (XL X) hst (XG X) hX fu (XD X) M (xs (t + 1)) r hr) q1220 q1221 q125 q1222 (by decide +kernel) rfl rfl rfl rfl (bk (by omega)) (bk (by omega)) dL_law_899 (fun v899 => [.int v899]) (fun _ => rfl) (fun v899 M899 => ?_) (fun e M9 => jh_none)
  refine j_istore hC [(5, .int v899), (4, .int (nI t)), (3, .ref (gadr (XG X) (7, 0, 0))), (2, .ref (gadr (XG X) (5, 0, 0))), (1, .ref (gadr (XG X) (4, 0, 0))), (0, .ref b)] hnl dL_law_902 rfl rfl ?_
  refine j_aload_n hC 3 dL_law_904 rfl ?_
  refine j_scr (j := 1) hC hS hL (by omega) 5 1 rfl rfl dL_law_905 dL_law_906 dL_law_908 (by decide) dL_law_909 dL_law_910 ?_
  refine j_lm lm_bd ?_
  refine j_callV (nA := 1) (rest := []) hC [.int (xs (t + 1))] rfl (fun r hr => mX8_hour (XL X) (XG X) hM fu (XD X) M899 (xs (t + 1)) r hr) q2004 q2005 q2006 q136 q2007 (dmMo hM rfl) rfl rfl (by decide +kernel) rfl rfl rfl rfl (bk (by omega)) (bk (by omega)) dL_law_911 (fun v911 => [.int v911]) (fun _ => rfl) (fun v911 M911 => ?_)
  refine j_istore hC [(6, .int v911), (5, .int v899), (4, .int (nI t)), (3, .ref (gadr (XG X) (7, 0, 0))), (2, .ref (gadr (XG X) (5, 0, 0))), (1, .ref (gadr (XG X) (4, 0, 0))), (0, .ref b)] hnl dL_law_914 rfl rfl ?_
  refine j_aload_n hC 4 dL_law_916 rfl ?_
  refine j_lm lm_bd ?_
  refine j_callV (nA := 0) (rest := []) hC [] rfl (fun r hr => mX8_thrown (XL X) (XG X) hM fu (XD X) M911 r hr) q1454 q1455 q1456 q136 q1457 (dmMo hM rfl) rfl rfl (by decide +kernel) rfl rfl rfl rfl (bk (by omega)) (bk (by omega)) dL_law_917 (fun v917 => [.int v917]) (fun _ => rfl) (fun v917 M917 => ?_)
  refine j_iload hC 1 dL_law_920 rfl ?_
  refine j_lm lm_ite ?_
  refine j_icmp_eq (tgt := 927) hC dL_law_922 (by decide) (fun h922 => ?_) (fun h922 => ?_)
  · refine j_iload hC 1 dL_law_927 rfl ?_
    refine j_lm lm_ite ?_
    refine j_if_ne (tgt := 944) hC dL_law_929 (by decide) (fun h929 => ?_) (fun h929 => ?_)
    · refine j_lm lm_ite ?_
      refine j_cmpOut hC hX 3 0 rfl rfl dL_law_932 dL_law_933 dL_law_934 dL_law_935 dL_law_937 dL_law_938 dL_law_939 ?_ ?_
      · refine j_goto (tgt := 2845) hC dL_law_944 (by decide) ?_
        exact j_sub [2, 3, 4, 5, 6] rfl (hk0 M917 _ _ _ (by omega) (by omega))
      · refine j_lm lm_some ?_
        exact hF _ _ _ _ _ _
    · refine j_goto (tgt := 2845) hC dL_law_944 (by decide) ?_
      exact j_sub [2, 3, 4, 5, 6] rfl (hk0 M917 _ _ _ (by omega) (by omega))
  · refine j_lm lm_some ?_
    exact hF _ _ _ _ _ _
set_option linter.unusedVariables false in
noncomputable def FL_12 (fu : Nat) (D : List LDen) (kn : List LDen → Mem → Option (PR Int32)) (w : Nat → Int32) (M : Mem) : Option (PR Int32) :=
  tick 2 (bh (FX0_blow fu D M (w 1) (w 2)) (fun v961 M961 => bd (FX8_blow fu D M961 (w 1) (w 2)) (fun v979 M979 => bd (FX8_thrown fu D M979) (fun v985 M985 => if v985 = v961 then if v961 = 0 then if M985 (7, 0, 0) 0 = v979 then kn D M985 else some (0, 0, 0, M985) else kn D M985 else some (0, 0, 0, M985)))) (fun _ _ => none))
set_option linter.unusedVariables false in
theorem wL_12 {X : JX} {b L t : Nat} {xs : Nat → Int32} (hC : JC X cL_law RX0 (some .boolean) 8192 104096 603072 7190634) (hX : dmI dmX (XG X)) (hM : dmI dmM (XG X)) (hst : (XL X).stackTraces = false) (hP : gP (XG X) = []) (h80 : gdm (XG X) (8, 0, 0) = false) (h81 : gdm (XG X) (8, 0, 1) = false) (hnl : nLof X = 7) (hS : JSc X b L xs) (hL : L ≤ 384) (ht : t + 6 ≤ L) {Z : PR Int32 → State → Prop} (hZ : ∀ (r : PR Int32) (c : Nat), Z (r.1, r.2.1, c + r.2.2.1, r.2.2.2) = Z r)
    (hFL : ∀ (D : List LDen) (M : Mem) (pc : Nat) (lv : List (Nat × Value)) (st : List Value) (k n : Nat), J (xL D X) Z (some (0, 0, 0, M)) pc lv st M k n) (hF : ∀ (M : Mem) (pc : Nat) (lv : List (Nat × Value)) (st : List Value) (k n : Nat), J X Z (some (0, 0, 0, M)) pc lv st M k n) (fu : Nat) (kn : List LDen → Mem → Option (PR Int32)) (hkn : ∀ (D : List LDen) (M : Mem) (k n m : Nat), k + m ≤ 603072 → n + 8 * m ≤ 7190634 → J (xL D X) Z (lm m (kn D M)) 2845 [(4, .int (nI t)), (3, .ref (gadr (XG X) (7, 0, 0))), (2, .ref (gadr (XG X) (5, 0, 0))), (1, .ref (gadr (XG X) (4, 0, 0))), (0, .ref b)] [] M k n) (hk0 : ∀ (M : Mem) (k n m : Nat), k + m ≤ 603072 → n + 8 * m ≤ 7190634 → J X Z (lm m (kn (XD X) M)) 2845 [(4, .int (nI t)), (3, .ref (gadr (XG X) (7, 0, 0))), (2, .ref (gadr (XG X) (5, 0, 0))), (1, .ref (gadr (XG X) (4, 0, 0))), (0, .ref b)] [] M k n) {k n m : Nat} (hk : k + m ≤ 603072) (hn : n + 8 * m ≤ 7190634) (M : Mem) : J X Z (lm m (FL_12 fu (XD X) kn (fun j => xs (t + j)) M)) 947 [(4, .int (nI t)), (3, .ref (gadr (XG X) (7, 0, 0))), (2, .ref (gadr (XG X) (5, 0, 0))), (1, .ref (gadr (XG X) (4, 0, 0))), (0, .ref b)] [] M k n := by
  unfold FL_12
  refine j_aload_n hC 3 dL_law_947 rfl ?_
  refine j_scr (j := 1) hC hS hL (by omega) 4 0 rfl rfl dL_law_948 dL_law_949 dL_law_951 (by decide) dL_law_952 dL_law_953 ?_
  refine j_scr (j := 2) hC hS hL (by omega) 4 0 rfl rfl dL_law_954 dL_law_955 dL_law_957 (by decide) dL_law_958 dL_law_959 ?_
  refine j_aload_n hC 1 dL_law_960 rfl ?_
  refine jm_tickG hZ (fun hc961 => ?_)
  refine j_lm lm_bhN ?_
  refine j_callSHW (nA := 4) (rest := []) hC [.ref (gadr (XG X) (4, 0, 0)), .int (xs (t + 1)), .int (xs (t + 2)), .ref (gadr (XG X) (7, 0, 0))] rfl (fun r hr => mX0_blow (XL X) hst (XG X) hX fu (XD X) M (xs (t + 1)) (xs (t + 2)) r hr) q1227 q1228 q125 q1229 (by decide +kernel) rfl rfl rfl rfl (bk (by omega)) (bk (by omega)) dL_law_961 (fun v961 => [.int v961]) (fun _ => rfl) (fun v961 M961 => ?_) (fun e M9 => jh_none)
  refine j_istore hC [(5, .int v961), (4, .int (nI t)), (3, .ref (gadr (XG X) (7, 0, 0))), (2, .ref (gadr (XG X) (5, 0, 0))), (1, .ref (gadr (XG X) (4, 0, 0))), (0, .ref b)] hnl dL_law_964 rfl rfl ?_
  refine j_aload_n hC 3 dL_law_966 rfl ?_
  refine j_scr (j := 1) hC hS hL (by omega) 5 1 rfl rfl dL_law_967 dL_law_968 dL_law_970 (by decide) dL_law_971 dL_law_972 ?_
  refine j_scr (j := 2) hC hS hL (by omega) 5 1 rfl rfl dL_law_973 dL_law_974 dL_law_976 (by decide) dL_law_977 dL_law_978 ?_
  refine j_lm lm_bd ?_
  refine j_callV (nA := 2) (rest := []) hC [.int (xs (t + 1)), .int (xs (t + 2))] rfl (fun r hr => mX8_blow (XL X) (XG X) hM fu (XD X) M961 (xs (t + 1)) (xs (t + 2)) r hr) q2008 q2009 q2010 q136 q2011 (dmMo hM rfl) rfl rfl (by decide +kernel) rfl rfl rfl rfl (bk (by omega)) (bk (by omega)) dL_law_979 (fun v979 => [.int v979]) (fun _ => rfl) (fun v979 M979 => ?_)
  refine j_istore hC [(6, .int v979), (5, .int v961), (4, .int (nI t)), (3, .ref (gadr (XG X) (7, 0, 0))), (2, .ref (gadr (XG X) (5, 0, 0))), (1, .ref (gadr (XG X) (4, 0, 0))), (0, .ref b)] hnl dL_law_982 rfl rfl ?_
  refine j_aload_n hC 4 dL_law_984 rfl ?_
  refine j_lm lm_bd ?_
  refine j_callV (nA := 0) (rest := []) hC [] rfl (fun r hr => mX8_thrown (XL X) (XG X) hM fu (XD X) M979 r hr) q1454 q1455 q1456 q136 q1457 (dmMo hM rfl) rfl rfl (by decide +kernel) rfl rfl rfl rfl (bk (by omega)) (bk (by omega)) dL_law_985 (fun v985 => [.int v985]) (fun _ => rfl) (fun v985 M985 => ?_)
  refine j_iload hC 1 dL_law_988 rfl ?_
  refine j_lm lm_ite ?_
  refine j_icmp_eq (tgt := 995) hC dL_law_990 (by decide) (fun h990 => ?_) (fun h990 => ?_)
  · refine j_iload hC 1 dL_law_995 rfl ?_
    refine j_lm lm_ite ?_
    refine j_if_ne (tgt := 1012) hC dL_law_997 (by decide) (fun h997 => ?_) (fun h997 => ?_)
    · refine j_lm lm_ite ?_
      refine j_cmpOut hC hX 3 0 rfl rfl dL_law_1000 dL_law_1001 dL_law_1002 dL_law_1003 dL_law_1005 dL_law_1006 dL_law_1007 ?_ ?_
      · refine j_goto (tgt := 2845) hC dL_law_1012 (by decide) ?_
        exact j_sub [2, 3, 4, 5, 6] rfl (hk0 M985 _ _ _ (by omega) (by omega))
      · refine j_lm lm_some ?_
        exact hF _ _ _ _ _ _
    · refine j_goto (tgt := 2845) hC dL_law_1012 (by decide) ?_
      exact j_sub [2, 3, 4, 5, 6] rfl (hk0 M985 _ _ _ (by omega) (by omega))
  · refine j_lm lm_some ?_
    exact hF _ _ _ _ _ _
set_option linter.unusedVariables false in
noncomputable def FL_13 (fu : Nat) (D : List LDen) (kn : List LDen → Mem → Option (PR Int32)) (w : Nat → Int32) (M : Mem) : Option (PR Int32) :=
  tick 4 (bh (FX0_give fu D M (w 1) (w 2) (w 3) (w 4)) (fun v1041 M1041 => bd (FX8_give fu D M1041 (w 1) (w 2) (w 3) (w 4)) (fun v1071 M1071 => bd (FX8_thrown fu D M1071) (fun v1077 M1077 => if v1077 = v1041 then if v1041 = 0 then if M1077 (7, 0, 0) 0 = v1071 then kn D M1077 else some (0, 0, 0, M1077) else kn D M1077 else some (0, 0, 0, M1077)))) (fun _ _ => none))
set_option linter.unusedVariables false in
theorem wL_13 {X : JX} {b L t : Nat} {xs : Nat → Int32} (hC : JC X cL_law RX0 (some .boolean) 8192 104096 603072 7190634) (hX : dmI dmX (XG X)) (hM : dmI dmM (XG X)) (hst : (XL X).stackTraces = false) (hP : gP (XG X) = []) (h80 : gdm (XG X) (8, 0, 0) = false) (h81 : gdm (XG X) (8, 0, 1) = false) (hnl : nLof X = 7) (hS : JSc X b L xs) (hL : L ≤ 384) (ht : t + 6 ≤ L) {Z : PR Int32 → State → Prop} (hZ : ∀ (r : PR Int32) (c : Nat), Z (r.1, r.2.1, c + r.2.2.1, r.2.2.2) = Z r)
    (hFL : ∀ (D : List LDen) (M : Mem) (pc : Nat) (lv : List (Nat × Value)) (st : List Value) (k n : Nat), J (xL D X) Z (some (0, 0, 0, M)) pc lv st M k n) (hF : ∀ (M : Mem) (pc : Nat) (lv : List (Nat × Value)) (st : List Value) (k n : Nat), J X Z (some (0, 0, 0, M)) pc lv st M k n) (fu : Nat) (kn : List LDen → Mem → Option (PR Int32)) (hkn : ∀ (D : List LDen) (M : Mem) (k n m : Nat), k + m ≤ 603072 → n + 8 * m ≤ 7190634 → J (xL D X) Z (lm m (kn D M)) 2845 [(4, .int (nI t)), (3, .ref (gadr (XG X) (7, 0, 0))), (2, .ref (gadr (XG X) (5, 0, 0))), (1, .ref (gadr (XG X) (4, 0, 0))), (0, .ref b)] [] M k n) (hk0 : ∀ (M : Mem) (k n m : Nat), k + m ≤ 603072 → n + 8 * m ≤ 7190634 → J X Z (lm m (kn (XD X) M)) 2845 [(4, .int (nI t)), (3, .ref (gadr (XG X) (7, 0, 0))), (2, .ref (gadr (XG X) (5, 0, 0))), (1, .ref (gadr (XG X) (4, 0, 0))), (0, .ref b)] [] M k n) {k n m : Nat} (hk : k + m ≤ 603072) (hn : n + 8 * m ≤ 7190634) (M : Mem) : J X Z (lm m (FL_13 fu (XD X) kn (fun j => xs (t + j)) M)) 1015 [(4, .int (nI t)), (3, .ref (gadr (XG X) (7, 0, 0))), (2, .ref (gadr (XG X) (5, 0, 0))), (1, .ref (gadr (XG X) (4, 0, 0))), (0, .ref b)] [] M k n := by
  unfold FL_13
  refine j_aload_n hC 3 dL_law_1015 rfl ?_
  refine j_scr (j := 1) hC hS hL (by omega) 4 0 rfl rfl dL_law_1016 dL_law_1017 dL_law_1019 (by decide) dL_law_1020 dL_law_1021 ?_
  refine j_scr (j := 2) hC hS hL (by omega) 4 0 rfl rfl dL_law_1022 dL_law_1023 dL_law_1025 (by decide) dL_law_1026 dL_law_1027 ?_
  refine j_scr (j := 3) hC hS hL (by omega) 4 0 rfl rfl dL_law_1028 dL_law_1029 dL_law_1031 (by decide) dL_law_1032 dL_law_1033 ?_
  refine j_scr (j := 4) hC hS hL (by omega) 4 0 rfl rfl dL_law_1034 dL_law_1035 dL_law_1037 (by decide) dL_law_1038 dL_law_1039 ?_
  refine j_aload_n hC 1 dL_law_1040 rfl ?_
  refine jm_tickG hZ (fun hc1041 => ?_)
  refine j_lm lm_bhN ?_
  refine j_callSHW (nA := 6) (rest := []) hC [.ref (gadr (XG X) (4, 0, 0)), .int (xs (t + 1)), .int (xs (t + 2)), .int (xs (t + 3)), .int (xs (t + 4)), .ref (gadr (XG X) (7, 0, 0))] rfl (fun r hr => mX0_give (XL X) hst (XG X) hX fu (XD X) M (xs (t + 1)) (xs (t + 2)) (xs (t + 3)) (xs (t + 4)) r hr) q1234 q1235 q125 q1236 (by decide +kernel) rfl rfl rfl rfl (bk (by omega)) (bk (by omega)) dL_law_1041 (fun v1041 => [.int v1041]) (fun _ => rfl) (fun v1041 M1041 => ?_) (fun e M9 => jh_none)
  refine j_istore hC [(5, .int v1041), (4, .int (nI t)), (3, .ref (gadr (XG X) (7, 0, 0))), (2, .ref (gadr (XG X) (5, 0, 0))), (1, .ref (gadr (XG X) (4, 0, 0))), (0, .ref b)] hnl dL_law_1044 rfl rfl ?_
  refine j_aload_n hC 3 dL_law_1046 rfl ?_
  refine j_scr (j := 1) hC hS hL (by omega) 5 1 rfl rfl dL_law_1047 dL_law_1048 dL_law_1050 (by decide) dL_law_1051 dL_law_1052 ?_
  refine j_scr (j := 2) hC hS hL (by omega) 5 1 rfl rfl dL_law_1053 dL_law_1054 dL_law_1056 (by decide) dL_law_1057 dL_law_1058 ?_
  refine j_scr (j := 3) hC hS hL (by omega) 5 1 rfl rfl dL_law_1059 dL_law_1060 dL_law_1062 (by decide) dL_law_1063 dL_law_1064 ?_
  refine j_scr (j := 4) hC hS hL (by omega) 5 1 rfl rfl dL_law_1065 dL_law_1066 dL_law_1068 (by decide) dL_law_1069 dL_law_1070 ?_
  refine j_lm lm_bd ?_
  refine j_callV (nA := 4) (rest := []) hC [.int (xs (t + 1)), .int (xs (t + 2)), .int (xs (t + 3)), .int (xs (t + 4))] rfl (fun r hr => mX8_give (XL X) (XG X) hM fu (XD X) M1041 (xs (t + 1)) (xs (t + 2)) (xs (t + 3)) (xs (t + 4)) r hr) q2012 q2013 q2014 q136 q2015 (dmMo hM rfl) rfl rfl (by decide +kernel) rfl rfl rfl rfl (bk (by omega)) (bk (by omega)) dL_law_1071 (fun v1071 => [.int v1071]) (fun _ => rfl) (fun v1071 M1071 => ?_)
  refine j_istore hC [(6, .int v1071), (5, .int v1041), (4, .int (nI t)), (3, .ref (gadr (XG X) (7, 0, 0))), (2, .ref (gadr (XG X) (5, 0, 0))), (1, .ref (gadr (XG X) (4, 0, 0))), (0, .ref b)] hnl dL_law_1074 rfl rfl ?_
  refine j_aload_n hC 4 dL_law_1076 rfl ?_
  refine j_lm lm_bd ?_
  refine j_callV (nA := 0) (rest := []) hC [] rfl (fun r hr => mX8_thrown (XL X) (XG X) hM fu (XD X) M1071 r hr) q1454 q1455 q1456 q136 q1457 (dmMo hM rfl) rfl rfl (by decide +kernel) rfl rfl rfl rfl (bk (by omega)) (bk (by omega)) dL_law_1077 (fun v1077 => [.int v1077]) (fun _ => rfl) (fun v1077 M1077 => ?_)
  refine j_iload hC 1 dL_law_1080 rfl ?_
  refine j_lm lm_ite ?_
  refine j_icmp_eq (tgt := 1087) hC dL_law_1082 (by decide) (fun h1082 => ?_) (fun h1082 => ?_)
  · refine j_iload hC 1 dL_law_1087 rfl ?_
    refine j_lm lm_ite ?_
    refine j_if_ne (tgt := 1104) hC dL_law_1089 (by decide) (fun h1089 => ?_) (fun h1089 => ?_)
    · refine j_lm lm_ite ?_
      refine j_cmpOut hC hX 3 0 rfl rfl dL_law_1092 dL_law_1093 dL_law_1094 dL_law_1095 dL_law_1097 dL_law_1098 dL_law_1099 ?_ ?_
      · refine j_goto (tgt := 2845) hC dL_law_1104 (by decide) ?_
        exact j_sub [2, 3, 4, 5, 6] rfl (hk0 M1077 _ _ _ (by omega) (by omega))
      · refine j_lm lm_some ?_
        exact hF _ _ _ _ _ _
    · refine j_goto (tgt := 2845) hC dL_law_1104 (by decide) ?_
      exact j_sub [2, 3, 4, 5, 6] rfl (hk0 M1077 _ _ _ (by omega) (by omega))
  · refine j_lm lm_some ?_
    exact hF _ _ _ _ _ _
set_option linter.unusedVariables false in
noncomputable def FL_14 (fu : Nat) (D : List LDen) (kn : List LDen → Mem → Option (PR Int32)) (w : Nat → Int32) (M : Mem) : Option (PR Int32) :=
  tick 2 (bh (FX0_appeal fu D M (w 1)) (fun v1115 M1115 => bd (FX8_appeal fu D M1115 (w 1)) (fun v1127 M1127 => bd (FX8_thrown fu D M1127) (fun v1133 M1133 => if v1133 = v1115 then if v1115 = 0 then if M1133 (7, 0, 0) 0 = v1127 then kn D M1133 else some (0, 0, 0, M1133) else kn D M1133 else some (0, 0, 0, M1133)))) (fun _ _ => none))
set_option linter.unusedVariables false in
theorem wL_14 {X : JX} {b L t : Nat} {xs : Nat → Int32} (hC : JC X cL_law RX0 (some .boolean) 8192 104096 603072 7190634) (hX : dmI dmX (XG X)) (hM : dmI dmM (XG X)) (hst : (XL X).stackTraces = false) (hP : gP (XG X) = []) (h80 : gdm (XG X) (8, 0, 0) = false) (h81 : gdm (XG X) (8, 0, 1) = false) (hnl : nLof X = 7) (hS : JSc X b L xs) (hL : L ≤ 384) (ht : t + 6 ≤ L) {Z : PR Int32 → State → Prop} (hZ : ∀ (r : PR Int32) (c : Nat), Z (r.1, r.2.1, c + r.2.2.1, r.2.2.2) = Z r)
    (hFL : ∀ (D : List LDen) (M : Mem) (pc : Nat) (lv : List (Nat × Value)) (st : List Value) (k n : Nat), J (xL D X) Z (some (0, 0, 0, M)) pc lv st M k n) (hF : ∀ (M : Mem) (pc : Nat) (lv : List (Nat × Value)) (st : List Value) (k n : Nat), J X Z (some (0, 0, 0, M)) pc lv st M k n) (fu : Nat) (kn : List LDen → Mem → Option (PR Int32)) (hkn : ∀ (D : List LDen) (M : Mem) (k n m : Nat), k + m ≤ 603072 → n + 8 * m ≤ 7190634 → J (xL D X) Z (lm m (kn D M)) 2845 [(4, .int (nI t)), (3, .ref (gadr (XG X) (7, 0, 0))), (2, .ref (gadr (XG X) (5, 0, 0))), (1, .ref (gadr (XG X) (4, 0, 0))), (0, .ref b)] [] M k n) (hk0 : ∀ (M : Mem) (k n m : Nat), k + m ≤ 603072 → n + 8 * m ≤ 7190634 → J X Z (lm m (kn (XD X) M)) 2845 [(4, .int (nI t)), (3, .ref (gadr (XG X) (7, 0, 0))), (2, .ref (gadr (XG X) (5, 0, 0))), (1, .ref (gadr (XG X) (4, 0, 0))), (0, .ref b)] [] M k n) {k n m : Nat} (hk : k + m ≤ 603072) (hn : n + 8 * m ≤ 7190634) (M : Mem) : J X Z (lm m (FL_14 fu (XD X) kn (fun j => xs (t + j)) M)) 1107 [(4, .int (nI t)), (3, .ref (gadr (XG X) (7, 0, 0))), (2, .ref (gadr (XG X) (5, 0, 0))), (1, .ref (gadr (XG X) (4, 0, 0))), (0, .ref b)] [] M k n := by
  unfold FL_14
  refine j_aload_n hC 3 dL_law_1107 rfl ?_
  refine j_scr (j := 1) hC hS hL (by omega) 4 0 rfl rfl dL_law_1108 dL_law_1109 dL_law_1111 (by decide) dL_law_1112 dL_law_1113 ?_
  refine j_aload_n hC 1 dL_law_1114 rfl ?_
  refine jm_tickG hZ (fun hc1115 => ?_)
  refine j_lm lm_bhN ?_
  refine j_callSHW (nA := 3) (rest := []) hC [.ref (gadr (XG X) (4, 0, 0)), .int (xs (t + 1)), .ref (gadr (XG X) (7, 0, 0))] rfl (fun r hr => mX0_appeal (XL X) hst (XG X) hX fu (XD X) M (xs (t + 1)) r hr) q1241 q1242 q125 q1243 (by decide +kernel) rfl rfl rfl rfl (bk (by omega)) (bk (by omega)) dL_law_1115 (fun v1115 => [.int v1115]) (fun _ => rfl) (fun v1115 M1115 => ?_) (fun e M9 => jh_none)
  refine j_istore hC [(5, .int v1115), (4, .int (nI t)), (3, .ref (gadr (XG X) (7, 0, 0))), (2, .ref (gadr (XG X) (5, 0, 0))), (1, .ref (gadr (XG X) (4, 0, 0))), (0, .ref b)] hnl dL_law_1118 rfl rfl ?_
  refine j_aload_n hC 3 dL_law_1120 rfl ?_
  refine j_scr (j := 1) hC hS hL (by omega) 5 1 rfl rfl dL_law_1121 dL_law_1122 dL_law_1124 (by decide) dL_law_1125 dL_law_1126 ?_
  refine j_lm lm_bd ?_
  refine j_callV (nA := 1) (rest := []) hC [.int (xs (t + 1))] rfl (fun r hr => mX8_appeal (XL X) (XG X) hM fu (XD X) M1115 (xs (t + 1)) r hr) q2016 q2017 q2018 q136 q2019 (dmMo hM rfl) rfl rfl (by decide +kernel) rfl rfl rfl rfl (bk (by omega)) (bk (by omega)) dL_law_1127 (fun v1127 => [.int v1127]) (fun _ => rfl) (fun v1127 M1127 => ?_)
  refine j_istore hC [(6, .int v1127), (5, .int v1115), (4, .int (nI t)), (3, .ref (gadr (XG X) (7, 0, 0))), (2, .ref (gadr (XG X) (5, 0, 0))), (1, .ref (gadr (XG X) (4, 0, 0))), (0, .ref b)] hnl dL_law_1130 rfl rfl ?_
  refine j_aload_n hC 4 dL_law_1132 rfl ?_
  refine j_lm lm_bd ?_
  refine j_callV (nA := 0) (rest := []) hC [] rfl (fun r hr => mX8_thrown (XL X) (XG X) hM fu (XD X) M1127 r hr) q1454 q1455 q1456 q136 q1457 (dmMo hM rfl) rfl rfl (by decide +kernel) rfl rfl rfl rfl (bk (by omega)) (bk (by omega)) dL_law_1133 (fun v1133 => [.int v1133]) (fun _ => rfl) (fun v1133 M1133 => ?_)
  refine j_iload hC 1 dL_law_1136 rfl ?_
  refine j_lm lm_ite ?_
  refine j_icmp_eq (tgt := 1143) hC dL_law_1138 (by decide) (fun h1138 => ?_) (fun h1138 => ?_)
  · refine j_iload hC 1 dL_law_1143 rfl ?_
    refine j_lm lm_ite ?_
    refine j_if_ne (tgt := 1160) hC dL_law_1145 (by decide) (fun h1145 => ?_) (fun h1145 => ?_)
    · refine j_lm lm_ite ?_
      refine j_cmpOut hC hX 3 0 rfl rfl dL_law_1148 dL_law_1149 dL_law_1150 dL_law_1151 dL_law_1153 dL_law_1154 dL_law_1155 ?_ ?_
      · refine j_goto (tgt := 2845) hC dL_law_1160 (by decide) ?_
        exact j_sub [2, 3, 4, 5, 6] rfl (hk0 M1133 _ _ _ (by omega) (by omega))
      · refine j_lm lm_some ?_
        exact hF _ _ _ _ _ _
    · refine j_goto (tgt := 2845) hC dL_law_1160 (by decide) ?_
      exact j_sub [2, 3, 4, 5, 6] rfl (hk0 M1133 _ _ _ (by omega) (by omega))
  · refine j_lm lm_some ?_
    exact hF _ _ _ _ _ _
set_option linter.unusedVariables false in
noncomputable def FL_15 (fu : Nat) (D : List LDen) (kn : List LDen → Mem → Option (PR Int32)) (w : Nat → Int32) (M : Mem) : Option (PR Int32) :=
  tick 1 (bh (FX0_weeks fu D M (w 1)) (fun v1171 M1171 => bd (FX8_weeks fu D M1171 (w 1)) (fun v1183 M1183 => bd (FX8_thrown fu D M1183) (fun v1189 M1189 => if v1189 = v1171 then if v1171 = 0 then if M1189 (7, 0, 0) 0 = v1183 then kn D M1189 else some (0, 0, 0, M1189) else kn D M1189 else some (0, 0, 0, M1189)))) (fun _ _ => none))
set_option linter.unusedVariables false in
theorem wL_15 {X : JX} {b L t : Nat} {xs : Nat → Int32} (hC : JC X cL_law RX0 (some .boolean) 8192 104096 603072 7190634) (hX : dmI dmX (XG X)) (hM : dmI dmM (XG X)) (hst : (XL X).stackTraces = false) (hP : gP (XG X) = []) (h80 : gdm (XG X) (8, 0, 0) = false) (h81 : gdm (XG X) (8, 0, 1) = false) (hnl : nLof X = 7) (hS : JSc X b L xs) (hL : L ≤ 384) (ht : t + 6 ≤ L) {Z : PR Int32 → State → Prop} (hZ : ∀ (r : PR Int32) (c : Nat), Z (r.1, r.2.1, c + r.2.2.1, r.2.2.2) = Z r)
    (hFL : ∀ (D : List LDen) (M : Mem) (pc : Nat) (lv : List (Nat × Value)) (st : List Value) (k n : Nat), J (xL D X) Z (some (0, 0, 0, M)) pc lv st M k n) (hF : ∀ (M : Mem) (pc : Nat) (lv : List (Nat × Value)) (st : List Value) (k n : Nat), J X Z (some (0, 0, 0, M)) pc lv st M k n) (fu : Nat) (kn : List LDen → Mem → Option (PR Int32)) (hkn : ∀ (D : List LDen) (M : Mem) (k n m : Nat), k + m ≤ 603072 → n + 8 * m ≤ 7190634 → J (xL D X) Z (lm m (kn D M)) 2845 [(4, .int (nI t)), (3, .ref (gadr (XG X) (7, 0, 0))), (2, .ref (gadr (XG X) (5, 0, 0))), (1, .ref (gadr (XG X) (4, 0, 0))), (0, .ref b)] [] M k n) (hk0 : ∀ (M : Mem) (k n m : Nat), k + m ≤ 603072 → n + 8 * m ≤ 7190634 → J X Z (lm m (kn (XD X) M)) 2845 [(4, .int (nI t)), (3, .ref (gadr (XG X) (7, 0, 0))), (2, .ref (gadr (XG X) (5, 0, 0))), (1, .ref (gadr (XG X) (4, 0, 0))), (0, .ref b)] [] M k n) {k n m : Nat} (hk : k + m ≤ 603072) (hn : n + 8 * m ≤ 7190634) (M : Mem) : J X Z (lm m (FL_15 fu (XD X) kn (fun j => xs (t + j)) M)) 1163 [(4, .int (nI t)), (3, .ref (gadr (XG X) (7, 0, 0))), (2, .ref (gadr (XG X) (5, 0, 0))), (1, .ref (gadr (XG X) (4, 0, 0))), (0, .ref b)] [] M k n := by
  unfold FL_15
  refine j_aload_n hC 3 dL_law_1163 rfl ?_
  refine j_scr (j := 1) hC hS hL (by omega) 4 0 rfl rfl dL_law_1164 dL_law_1165 dL_law_1167 (by decide) dL_law_1168 dL_law_1169 ?_
  refine j_aload_n hC 1 dL_law_1170 rfl ?_
  refine jm_tickG hZ (fun hc1171 => ?_)
  refine j_lm lm_bhN ?_
  refine j_callSHW (nA := 3) (rest := []) hC [.ref (gadr (XG X) (4, 0, 0)), .int (xs (t + 1)), .ref (gadr (XG X) (7, 0, 0))] rfl (fun r hr => mX0_weeks (XL X) hst (XG X) hX fu (XD X) M (xs (t + 1)) r hr) q1248 q1249 q125 q1250 (by decide +kernel) rfl rfl rfl rfl (bk (by omega)) (bk (by omega)) dL_law_1171 (fun v1171 => [.int v1171]) (fun _ => rfl) (fun v1171 M1171 => ?_) (fun e M9 => jh_none)
  refine j_istore hC [(5, .int v1171), (4, .int (nI t)), (3, .ref (gadr (XG X) (7, 0, 0))), (2, .ref (gadr (XG X) (5, 0, 0))), (1, .ref (gadr (XG X) (4, 0, 0))), (0, .ref b)] hnl dL_law_1174 rfl rfl ?_
  refine j_aload_n hC 3 dL_law_1176 rfl ?_
  refine j_scr (j := 1) hC hS hL (by omega) 5 1 rfl rfl dL_law_1177 dL_law_1178 dL_law_1180 (by decide) dL_law_1181 dL_law_1182 ?_
  refine j_lm lm_bd ?_
  refine j_callV (nA := 1) (rest := []) hC [.int (xs (t + 1))] rfl (fun r hr => mX8_weeks (XL X) (XG X) hM fu (XD X) M1171 (xs (t + 1)) r hr) q2020 q2021 q2022 q136 q2023 (dmMo hM rfl) rfl rfl (by decide +kernel) rfl rfl rfl rfl (bk (by omega)) (bk (by omega)) dL_law_1183 (fun v1183 => [.int v1183]) (fun _ => rfl) (fun v1183 M1183 => ?_)
  refine j_istore hC [(6, .int v1183), (5, .int v1171), (4, .int (nI t)), (3, .ref (gadr (XG X) (7, 0, 0))), (2, .ref (gadr (XG X) (5, 0, 0))), (1, .ref (gadr (XG X) (4, 0, 0))), (0, .ref b)] hnl dL_law_1186 rfl rfl ?_
  refine j_aload_n hC 4 dL_law_1188 rfl ?_
  refine j_lm lm_bd ?_
  refine j_callV (nA := 0) (rest := []) hC [] rfl (fun r hr => mX8_thrown (XL X) (XG X) hM fu (XD X) M1183 r hr) q1454 q1455 q1456 q136 q1457 (dmMo hM rfl) rfl rfl (by decide +kernel) rfl rfl rfl rfl (bk (by omega)) (bk (by omega)) dL_law_1189 (fun v1189 => [.int v1189]) (fun _ => rfl) (fun v1189 M1189 => ?_)
  refine j_iload hC 1 dL_law_1192 rfl ?_
  refine j_lm lm_ite ?_
  refine j_icmp_eq (tgt := 1199) hC dL_law_1194 (by decide) (fun h1194 => ?_) (fun h1194 => ?_)
  · refine j_iload hC 1 dL_law_1199 rfl ?_
    refine j_lm lm_ite ?_
    refine j_if_ne (tgt := 1216) hC dL_law_1201 (by decide) (fun h1201 => ?_) (fun h1201 => ?_)
    · refine j_lm lm_ite ?_
      refine j_cmpOut hC hX 3 0 rfl rfl dL_law_1204 dL_law_1205 dL_law_1206 dL_law_1207 dL_law_1209 dL_law_1210 dL_law_1211 ?_ ?_
      · refine j_goto (tgt := 2845) hC dL_law_1216 (by decide) ?_
        exact j_sub [2, 3, 4, 5, 6] rfl (hk0 M1189 _ _ _ (by omega) (by omega))
      · refine j_lm lm_some ?_
        exact hF _ _ _ _ _ _
    · refine j_goto (tgt := 2845) hC dL_law_1216 (by decide) ?_
      exact j_sub [2, 3, 4, 5, 6] rfl (hk0 M1189 _ _ _ (by omega) (by omega))
  · refine j_lm lm_some ?_
    exact hF _ _ _ _ _ _
set_option linter.unusedVariables false in
noncomputable def FL_16 (fu : Nat) (D : List LDen) (kn : List LDen → Mem → Option (PR Int32)) (w : Nat → Int32) (M : Mem) : Option (PR Int32) :=
  tick 2 (bh (FX0_ways fu D M (w 1) (w 2)) (fun v1233 M1233 => bd (FX8_ways fu D M1233 (w 1) (w 2)) (fun v1251 M1251 => bd (FX8_thrown fu D M1251) (fun v1257 M1257 => if v1257 = v1233 then if v1233 = 0 then if M1257 (7, 0, 0) 0 = v1251 then kn D M1257 else some (0, 0, 0, M1257) else kn D M1257 else some (0, 0, 0, M1257)))) (fun _ _ => none))
set_option linter.unusedVariables false in
theorem wL_16 {X : JX} {b L t : Nat} {xs : Nat → Int32} (hC : JC X cL_law RX0 (some .boolean) 8192 104096 603072 7190634) (hX : dmI dmX (XG X)) (hM : dmI dmM (XG X)) (hst : (XL X).stackTraces = false) (hP : gP (XG X) = []) (h80 : gdm (XG X) (8, 0, 0) = false) (h81 : gdm (XG X) (8, 0, 1) = false) (hnl : nLof X = 7) (hS : JSc X b L xs) (hL : L ≤ 384) (ht : t + 6 ≤ L) {Z : PR Int32 → State → Prop} (hZ : ∀ (r : PR Int32) (c : Nat), Z (r.1, r.2.1, c + r.2.2.1, r.2.2.2) = Z r)
    (hFL : ∀ (D : List LDen) (M : Mem) (pc : Nat) (lv : List (Nat × Value)) (st : List Value) (k n : Nat), J (xL D X) Z (some (0, 0, 0, M)) pc lv st M k n) (hF : ∀ (M : Mem) (pc : Nat) (lv : List (Nat × Value)) (st : List Value) (k n : Nat), J X Z (some (0, 0, 0, M)) pc lv st M k n) (fu : Nat) (kn : List LDen → Mem → Option (PR Int32)) (hkn : ∀ (D : List LDen) (M : Mem) (k n m : Nat), k + m ≤ 603072 → n + 8 * m ≤ 7190634 → J (xL D X) Z (lm m (kn D M)) 2845 [(4, .int (nI t)), (3, .ref (gadr (XG X) (7, 0, 0))), (2, .ref (gadr (XG X) (5, 0, 0))), (1, .ref (gadr (XG X) (4, 0, 0))), (0, .ref b)] [] M k n) (hk0 : ∀ (M : Mem) (k n m : Nat), k + m ≤ 603072 → n + 8 * m ≤ 7190634 → J X Z (lm m (kn (XD X) M)) 2845 [(4, .int (nI t)), (3, .ref (gadr (XG X) (7, 0, 0))), (2, .ref (gadr (XG X) (5, 0, 0))), (1, .ref (gadr (XG X) (4, 0, 0))), (0, .ref b)] [] M k n) {k n m : Nat} (hk : k + m ≤ 603072) (hn : n + 8 * m ≤ 7190634) (M : Mem) : J X Z (lm m (FL_16 fu (XD X) kn (fun j => xs (t + j)) M)) 1219 [(4, .int (nI t)), (3, .ref (gadr (XG X) (7, 0, 0))), (2, .ref (gadr (XG X) (5, 0, 0))), (1, .ref (gadr (XG X) (4, 0, 0))), (0, .ref b)] [] M k n := by
  unfold FL_16
  refine j_aload_n hC 3 dL_law_1219 rfl ?_
  refine j_scr (j := 1) hC hS hL (by omega) 4 0 rfl rfl dL_law_1220 dL_law_1221 dL_law_1223 (by decide) dL_law_1224 dL_law_1225 ?_
  refine j_scr (j := 2) hC hS hL (by omega) 4 0 rfl rfl dL_law_1226 dL_law_1227 dL_law_1229 (by decide) dL_law_1230 dL_law_1231 ?_
  refine j_aload_n hC 1 dL_law_1232 rfl ?_
  refine jm_tickG hZ (fun hc1233 => ?_)
  refine j_lm lm_bhN ?_
  refine j_callSHW (nA := 4) (rest := []) hC [.ref (gadr (XG X) (4, 0, 0)), .int (xs (t + 1)), .int (xs (t + 2)), .ref (gadr (XG X) (7, 0, 0))] rfl (fun r hr => mX0_ways (XL X) hst (XG X) hX fu (XD X) M (xs (t + 1)) (xs (t + 2)) r hr) q1255 q1256 q125 q1257 (by decide +kernel) rfl rfl rfl rfl (bk (by omega)) (bk (by omega)) dL_law_1233 (fun v1233 => [.int v1233]) (fun _ => rfl) (fun v1233 M1233 => ?_) (fun e M9 => jh_none)
  refine j_istore hC [(5, .int v1233), (4, .int (nI t)), (3, .ref (gadr (XG X) (7, 0, 0))), (2, .ref (gadr (XG X) (5, 0, 0))), (1, .ref (gadr (XG X) (4, 0, 0))), (0, .ref b)] hnl dL_law_1236 rfl rfl ?_
  refine j_aload_n hC 3 dL_law_1238 rfl ?_
  refine j_scr (j := 1) hC hS hL (by omega) 5 1 rfl rfl dL_law_1239 dL_law_1240 dL_law_1242 (by decide) dL_law_1243 dL_law_1244 ?_
  refine j_scr (j := 2) hC hS hL (by omega) 5 1 rfl rfl dL_law_1245 dL_law_1246 dL_law_1248 (by decide) dL_law_1249 dL_law_1250 ?_
  refine j_lm lm_bd ?_
  refine j_callV (nA := 2) (rest := []) hC [.int (xs (t + 1)), .int (xs (t + 2))] rfl (fun r hr => mX8_ways (XL X) (XG X) hM fu (XD X) M1233 (xs (t + 1)) (xs (t + 2)) r hr) q1804 q1805 q1806 q136 q1807 (dmMo hM rfl) rfl rfl (by decide +kernel) rfl rfl rfl rfl (bk (by omega)) (bk (by omega)) dL_law_1251 (fun v1251 => [.int v1251]) (fun _ => rfl) (fun v1251 M1251 => ?_)
  refine j_istore hC [(6, .int v1251), (5, .int v1233), (4, .int (nI t)), (3, .ref (gadr (XG X) (7, 0, 0))), (2, .ref (gadr (XG X) (5, 0, 0))), (1, .ref (gadr (XG X) (4, 0, 0))), (0, .ref b)] hnl dL_law_1254 rfl rfl ?_
  refine j_aload_n hC 4 dL_law_1256 rfl ?_
  refine j_lm lm_bd ?_
  refine j_callV (nA := 0) (rest := []) hC [] rfl (fun r hr => mX8_thrown (XL X) (XG X) hM fu (XD X) M1251 r hr) q1454 q1455 q1456 q136 q1457 (dmMo hM rfl) rfl rfl (by decide +kernel) rfl rfl rfl rfl (bk (by omega)) (bk (by omega)) dL_law_1257 (fun v1257 => [.int v1257]) (fun _ => rfl) (fun v1257 M1257 => ?_)
  refine j_iload hC 1 dL_law_1260 rfl ?_
  refine j_lm lm_ite ?_
  refine j_icmp_eq (tgt := 1267) hC dL_law_1262 (by decide) (fun h1262 => ?_) (fun h1262 => ?_)
  · refine j_iload hC 1 dL_law_1267 rfl ?_
    refine j_lm lm_ite ?_
    refine j_if_ne (tgt := 1284) hC dL_law_1269 (by decide) (fun h1269 => ?_) (fun h1269 => ?_)
    · refine j_lm lm_ite ?_
      refine j_cmpOut hC hX 3 0 rfl rfl dL_law_1272 dL_law_1273 dL_law_1274 dL_law_1275 dL_law_1277 dL_law_1278 dL_law_1279 ?_ ?_
      · refine j_goto (tgt := 2845) hC dL_law_1284 (by decide) ?_
        exact j_sub [2, 3, 4, 5, 6] rfl (hk0 M1257 _ _ _ (by omega) (by omega))
      · refine j_lm lm_some ?_
        exact hF _ _ _ _ _ _
    · refine j_goto (tgt := 2845) hC dL_law_1284 (by decide) ?_
      exact j_sub [2, 3, 4, 5, 6] rfl (hk0 M1257 _ _ _ (by omega) (by omega))
  · refine j_lm lm_some ?_
    exact hF _ _ _ _ _ _
set_option linter.unusedVariables false in
noncomputable def FL_17 (fu : Nat) (D : List LDen) (kn : List LDen → Mem → Option (PR Int32)) (w : Nat → Int32) (M : Mem) : Option (PR Int32) :=
  tick 2 (bh (FX0_lands fu D M (w 1) (w 2)) (fun v1301 M1301 => bd (FX8_lands fu D M1301 (w 1) (w 2)) (fun v1319 M1319 => bd (FX8_thrown fu D M1319) (fun v1325 M1325 => if v1325 = v1301 then if v1301 = 0 then if M1325 (7, 0, 0) 0 = v1319 then kn D M1325 else some (0, 0, 0, M1325) else kn D M1325 else some (0, 0, 0, M1325)))) (fun _ _ => none))
set_option linter.unusedVariables false in
theorem wL_17 {X : JX} {b L t : Nat} {xs : Nat → Int32} (hC : JC X cL_law RX0 (some .boolean) 8192 104096 603072 7190634) (hX : dmI dmX (XG X)) (hM : dmI dmM (XG X)) (hst : (XL X).stackTraces = false) (hP : gP (XG X) = []) (h80 : gdm (XG X) (8, 0, 0) = false) (h81 : gdm (XG X) (8, 0, 1) = false) (hnl : nLof X = 7) (hS : JSc X b L xs) (hL : L ≤ 384) (ht : t + 6 ≤ L) {Z : PR Int32 → State → Prop} (hZ : ∀ (r : PR Int32) (c : Nat), Z (r.1, r.2.1, c + r.2.2.1, r.2.2.2) = Z r)
    (hFL : ∀ (D : List LDen) (M : Mem) (pc : Nat) (lv : List (Nat × Value)) (st : List Value) (k n : Nat), J (xL D X) Z (some (0, 0, 0, M)) pc lv st M k n) (hF : ∀ (M : Mem) (pc : Nat) (lv : List (Nat × Value)) (st : List Value) (k n : Nat), J X Z (some (0, 0, 0, M)) pc lv st M k n) (fu : Nat) (kn : List LDen → Mem → Option (PR Int32)) (hkn : ∀ (D : List LDen) (M : Mem) (k n m : Nat), k + m ≤ 603072 → n + 8 * m ≤ 7190634 → J (xL D X) Z (lm m (kn D M)) 2845 [(4, .int (nI t)), (3, .ref (gadr (XG X) (7, 0, 0))), (2, .ref (gadr (XG X) (5, 0, 0))), (1, .ref (gadr (XG X) (4, 0, 0))), (0, .ref b)] [] M k n) (hk0 : ∀ (M : Mem) (k n m : Nat), k + m ≤ 603072 → n + 8 * m ≤ 7190634 → J X Z (lm m (kn (XD X) M)) 2845 [(4, .int (nI t)), (3, .ref (gadr (XG X) (7, 0, 0))), (2, .ref (gadr (XG X) (5, 0, 0))), (1, .ref (gadr (XG X) (4, 0, 0))), (0, .ref b)] [] M k n) {k n m : Nat} (hk : k + m ≤ 603072) (hn : n + 8 * m ≤ 7190634) (M : Mem) : J X Z (lm m (FL_17 fu (XD X) kn (fun j => xs (t + j)) M)) 1287 [(4, .int (nI t)), (3, .ref (gadr (XG X) (7, 0, 0))), (2, .ref (gadr (XG X) (5, 0, 0))), (1, .ref (gadr (XG X) (4, 0, 0))), (0, .ref b)] [] M k n := by
  unfold FL_17
  refine j_aload_n hC 3 dL_law_1287 rfl ?_
  refine j_scr (j := 1) hC hS hL (by omega) 4 0 rfl rfl dL_law_1288 dL_law_1289 dL_law_1291 (by decide) dL_law_1292 dL_law_1293 ?_
  refine j_scr (j := 2) hC hS hL (by omega) 4 0 rfl rfl dL_law_1294 dL_law_1295 dL_law_1297 (by decide) dL_law_1298 dL_law_1299 ?_
  refine j_aload_n hC 1 dL_law_1300 rfl ?_
  refine jm_tickG hZ (fun hc1301 => ?_)
  refine j_lm lm_bhN ?_
  refine j_callSHW (nA := 4) (rest := []) hC [.ref (gadr (XG X) (4, 0, 0)), .int (xs (t + 1)), .int (xs (t + 2)), .ref (gadr (XG X) (7, 0, 0))] rfl (fun r hr => mX0_lands (XL X) hst (XG X) hX fu (XD X) M (xs (t + 1)) (xs (t + 2)) r hr) q1269 q1270 q125 q1271 (by decide +kernel) rfl rfl rfl rfl (bk (by omega)) (bk (by omega)) dL_law_1301 (fun v1301 => [.int v1301]) (fun _ => rfl) (fun v1301 M1301 => ?_) (fun e M9 => jh_none)
  refine j_istore hC [(5, .int v1301), (4, .int (nI t)), (3, .ref (gadr (XG X) (7, 0, 0))), (2, .ref (gadr (XG X) (5, 0, 0))), (1, .ref (gadr (XG X) (4, 0, 0))), (0, .ref b)] hnl dL_law_1304 rfl rfl ?_
  refine j_aload_n hC 3 dL_law_1306 rfl ?_
  refine j_scr (j := 1) hC hS hL (by omega) 5 1 rfl rfl dL_law_1307 dL_law_1308 dL_law_1310 (by decide) dL_law_1311 dL_law_1312 ?_
  refine j_scr (j := 2) hC hS hL (by omega) 5 1 rfl rfl dL_law_1313 dL_law_1314 dL_law_1316 (by decide) dL_law_1317 dL_law_1318 ?_
  refine j_lm lm_bd ?_
  refine j_callV (nA := 2) (rest := []) hC [.int (xs (t + 1)), .int (xs (t + 2))] rfl (fun r hr => mX8_lands (XL X) (XG X) hM fu (XD X) M1301 (xs (t + 1)) (xs (t + 2)) r hr) q1838 q1839 q1840 q136 q1841 (dmMo hM rfl) rfl rfl (by decide +kernel) rfl rfl rfl rfl (bk (by omega)) (bk (by omega)) dL_law_1319 (fun v1319 => [.int v1319]) (fun _ => rfl) (fun v1319 M1319 => ?_)
  refine j_istore hC [(6, .int v1319), (5, .int v1301), (4, .int (nI t)), (3, .ref (gadr (XG X) (7, 0, 0))), (2, .ref (gadr (XG X) (5, 0, 0))), (1, .ref (gadr (XG X) (4, 0, 0))), (0, .ref b)] hnl dL_law_1322 rfl rfl ?_
  refine j_aload_n hC 4 dL_law_1324 rfl ?_
  refine j_lm lm_bd ?_
  refine j_callV (nA := 0) (rest := []) hC [] rfl (fun r hr => mX8_thrown (XL X) (XG X) hM fu (XD X) M1319 r hr) q1454 q1455 q1456 q136 q1457 (dmMo hM rfl) rfl rfl (by decide +kernel) rfl rfl rfl rfl (bk (by omega)) (bk (by omega)) dL_law_1325 (fun v1325 => [.int v1325]) (fun _ => rfl) (fun v1325 M1325 => ?_)
  refine j_iload hC 1 dL_law_1328 rfl ?_
  refine j_lm lm_ite ?_
  refine j_icmp_eq (tgt := 1335) hC dL_law_1330 (by decide) (fun h1330 => ?_) (fun h1330 => ?_)
  · refine j_iload hC 1 dL_law_1335 rfl ?_
    refine j_lm lm_ite ?_
    refine j_if_ne (tgt := 1352) hC dL_law_1337 (by decide) (fun h1337 => ?_) (fun h1337 => ?_)
    · refine j_lm lm_ite ?_
      refine j_cmpOut hC hX 3 0 rfl rfl dL_law_1340 dL_law_1341 dL_law_1342 dL_law_1343 dL_law_1345 dL_law_1346 dL_law_1347 ?_ ?_
      · refine j_goto (tgt := 2845) hC dL_law_1352 (by decide) ?_
        exact j_sub [2, 3, 4, 5, 6] rfl (hk0 M1325 _ _ _ (by omega) (by omega))
      · refine j_lm lm_some ?_
        exact hF _ _ _ _ _ _
    · refine j_goto (tgt := 2845) hC dL_law_1352 (by decide) ?_
      exact j_sub [2, 3, 4, 5, 6] rfl (hk0 M1325 _ _ _ (by omega) (by omega))
  · refine j_lm lm_some ?_
    exact hF _ _ _ _ _ _
set_option linter.unusedVariables false in
noncomputable def FL_18 (fu : Nat) (D : List LDen) (kn : List LDen → Mem → Option (PR Int32)) (w : Nat → Int32) (M : Mem) : Option (PR Int32) :=
  tick 2 (bh (FX0_good fu D M (w 1) (w 2)) (fun v1369 M1369 => bd (FX8_good fu D M1369 (w 1) (w 2)) (fun v1387 M1387 => bd (FX8_thrown fu D M1387) (fun v1393 M1393 => if v1393 = v1369 then if v1369 = 0 then if M1393 (7, 0, 0) 0 = v1387 then kn D M1393 else some (0, 0, 0, M1393) else kn D M1393 else some (0, 0, 0, M1393)))) (fun _ _ => none))
set_option linter.unusedVariables false in
theorem wL_18 {X : JX} {b L t : Nat} {xs : Nat → Int32} (hC : JC X cL_law RX0 (some .boolean) 8192 104096 603072 7190634) (hX : dmI dmX (XG X)) (hM : dmI dmM (XG X)) (hst : (XL X).stackTraces = false) (hP : gP (XG X) = []) (h80 : gdm (XG X) (8, 0, 0) = false) (h81 : gdm (XG X) (8, 0, 1) = false) (hnl : nLof X = 7) (hS : JSc X b L xs) (hL : L ≤ 384) (ht : t + 6 ≤ L) {Z : PR Int32 → State → Prop} (hZ : ∀ (r : PR Int32) (c : Nat), Z (r.1, r.2.1, c + r.2.2.1, r.2.2.2) = Z r)
    (hFL : ∀ (D : List LDen) (M : Mem) (pc : Nat) (lv : List (Nat × Value)) (st : List Value) (k n : Nat), J (xL D X) Z (some (0, 0, 0, M)) pc lv st M k n) (hF : ∀ (M : Mem) (pc : Nat) (lv : List (Nat × Value)) (st : List Value) (k n : Nat), J X Z (some (0, 0, 0, M)) pc lv st M k n) (fu : Nat) (kn : List LDen → Mem → Option (PR Int32)) (hkn : ∀ (D : List LDen) (M : Mem) (k n m : Nat), k + m ≤ 603072 → n + 8 * m ≤ 7190634 → J (xL D X) Z (lm m (kn D M)) 2845 [(4, .int (nI t)), (3, .ref (gadr (XG X) (7, 0, 0))), (2, .ref (gadr (XG X) (5, 0, 0))), (1, .ref (gadr (XG X) (4, 0, 0))), (0, .ref b)] [] M k n) (hk0 : ∀ (M : Mem) (k n m : Nat), k + m ≤ 603072 → n + 8 * m ≤ 7190634 → J X Z (lm m (kn (XD X) M)) 2845 [(4, .int (nI t)), (3, .ref (gadr (XG X) (7, 0, 0))), (2, .ref (gadr (XG X) (5, 0, 0))), (1, .ref (gadr (XG X) (4, 0, 0))), (0, .ref b)] [] M k n) {k n m : Nat} (hk : k + m ≤ 603072) (hn : n + 8 * m ≤ 7190634) (M : Mem) : J X Z (lm m (FL_18 fu (XD X) kn (fun j => xs (t + j)) M)) 1355 [(4, .int (nI t)), (3, .ref (gadr (XG X) (7, 0, 0))), (2, .ref (gadr (XG X) (5, 0, 0))), (1, .ref (gadr (XG X) (4, 0, 0))), (0, .ref b)] [] M k n := by
  unfold FL_18
  refine j_aload_n hC 3 dL_law_1355 rfl ?_
  refine j_scr (j := 1) hC hS hL (by omega) 4 0 rfl rfl dL_law_1356 dL_law_1357 dL_law_1359 (by decide) dL_law_1360 dL_law_1361 ?_
  refine j_scr (j := 2) hC hS hL (by omega) 4 0 rfl rfl dL_law_1362 dL_law_1363 dL_law_1365 (by decide) dL_law_1366 dL_law_1367 ?_
  refine j_aload_n hC 1 dL_law_1368 rfl ?_
  refine jm_tickG hZ (fun hc1369 => ?_)
  refine j_lm lm_bhN ?_
  refine j_callSHW (nA := 4) (rest := []) hC [.ref (gadr (XG X) (4, 0, 0)), .int (xs (t + 1)), .int (xs (t + 2)), .ref (gadr (XG X) (7, 0, 0))] rfl (fun r hr => mX0_good (XL X) hst (XG X) hX fu (XD X) M (xs (t + 1)) (xs (t + 2)) r hr) q1276 q1277 q125 q1278 (by decide +kernel) rfl rfl rfl rfl (bk (by omega)) (bk (by omega)) dL_law_1369 (fun v1369 => [.int v1369]) (fun _ => rfl) (fun v1369 M1369 => ?_) (fun e M9 => jh_none)
  refine j_istore hC [(5, .int v1369), (4, .int (nI t)), (3, .ref (gadr (XG X) (7, 0, 0))), (2, .ref (gadr (XG X) (5, 0, 0))), (1, .ref (gadr (XG X) (4, 0, 0))), (0, .ref b)] hnl dL_law_1372 rfl rfl ?_
  refine j_aload_n hC 3 dL_law_1374 rfl ?_
  refine j_scr (j := 1) hC hS hL (by omega) 5 1 rfl rfl dL_law_1375 dL_law_1376 dL_law_1378 (by decide) dL_law_1379 dL_law_1380 ?_
  refine j_scr (j := 2) hC hS hL (by omega) 5 1 rfl rfl dL_law_1381 dL_law_1382 dL_law_1384 (by decide) dL_law_1385 dL_law_1386 ?_
  refine j_lm lm_bd ?_
  refine j_callV (nA := 2) (rest := []) hC [.int (xs (t + 1)), .int (xs (t + 2))] rfl (fun r hr => mX8_good (XL X) (XG X) hM fu (XD X) M1369 (xs (t + 1)) (xs (t + 2)) r hr) q1842 q1843 q1844 q136 q1845 (dmMo hM rfl) rfl rfl (by decide +kernel) rfl rfl rfl rfl (bk (by omega)) (bk (by omega)) dL_law_1387 (fun v1387 => [.int v1387]) (fun _ => rfl) (fun v1387 M1387 => ?_)
  refine j_istore hC [(6, .int v1387), (5, .int v1369), (4, .int (nI t)), (3, .ref (gadr (XG X) (7, 0, 0))), (2, .ref (gadr (XG X) (5, 0, 0))), (1, .ref (gadr (XG X) (4, 0, 0))), (0, .ref b)] hnl dL_law_1390 rfl rfl ?_
  refine j_aload_n hC 4 dL_law_1392 rfl ?_
  refine j_lm lm_bd ?_
  refine j_callV (nA := 0) (rest := []) hC [] rfl (fun r hr => mX8_thrown (XL X) (XG X) hM fu (XD X) M1387 r hr) q1454 q1455 q1456 q136 q1457 (dmMo hM rfl) rfl rfl (by decide +kernel) rfl rfl rfl rfl (bk (by omega)) (bk (by omega)) dL_law_1393 (fun v1393 => [.int v1393]) (fun _ => rfl) (fun v1393 M1393 => ?_)
  refine j_iload hC 1 dL_law_1396 rfl ?_
  refine j_lm lm_ite ?_
  refine j_icmp_eq (tgt := 1403) hC dL_law_1398 (by decide) (fun h1398 => ?_) (fun h1398 => ?_)
  · refine j_iload hC 1 dL_law_1403 rfl ?_
    refine j_lm lm_ite ?_
    refine j_if_ne (tgt := 1420) hC dL_law_1405 (by decide) (fun h1405 => ?_) (fun h1405 => ?_)
    · refine j_lm lm_ite ?_
      refine j_cmpOut hC hX 3 0 rfl rfl dL_law_1408 dL_law_1409 dL_law_1410 dL_law_1411 dL_law_1413 dL_law_1414 dL_law_1415 ?_ ?_
      · refine j_goto (tgt := 2845) hC dL_law_1420 (by decide) ?_
        exact j_sub [2, 3, 4, 5, 6] rfl (hk0 M1393 _ _ _ (by omega) (by omega))
      · refine j_lm lm_some ?_
        exact hF _ _ _ _ _ _
    · refine j_goto (tgt := 2845) hC dL_law_1420 (by decide) ?_
      exact j_sub [2, 3, 4, 5, 6] rfl (hk0 M1393 _ _ _ (by omega) (by omega))
  · refine j_lm lm_some ?_
    exact hF _ _ _ _ _ _
set_option linter.unusedVariables false in
noncomputable def FL_19 (fu : Nat) (D : List LDen) (kn : List LDen → Mem → Option (PR Int32)) (w : Nat → Int32) (M : Mem) : Option (PR Int32) :=
  tick 1 (bh (FX0_straight fu D M (w 1) (bz (w 2))) (fun v1445 M1445 => bd (FX8_straight fu D M1445 (w 1) (bz (w 2))) (fun v1471 M1471 => bd (FX8_thrown fu D M1471) (fun v1477 M1477 => if v1477 = v1445 then if v1445 = 0 then if M1477 (7, 0, 0) 0 = v1471 then kn D M1477 else some (0, 0, 0, M1477) else kn D M1477 else some (0, 0, 0, M1477)))) (fun _ _ => none))
set_option linter.unusedVariables false in
theorem wL_19 {X : JX} {b L t : Nat} {xs : Nat → Int32} (hC : JC X cL_law RX0 (some .boolean) 8192 104096 603072 7190634) (hX : dmI dmX (XG X)) (hM : dmI dmM (XG X)) (hst : (XL X).stackTraces = false) (hP : gP (XG X) = []) (h80 : gdm (XG X) (8, 0, 0) = false) (h81 : gdm (XG X) (8, 0, 1) = false) (hnl : nLof X = 7) (hS : JSc X b L xs) (hL : L ≤ 384) (ht : t + 6 ≤ L) {Z : PR Int32 → State → Prop} (hZ : ∀ (r : PR Int32) (c : Nat), Z (r.1, r.2.1, c + r.2.2.1, r.2.2.2) = Z r)
    (hFL : ∀ (D : List LDen) (M : Mem) (pc : Nat) (lv : List (Nat × Value)) (st : List Value) (k n : Nat), J (xL D X) Z (some (0, 0, 0, M)) pc lv st M k n) (hF : ∀ (M : Mem) (pc : Nat) (lv : List (Nat × Value)) (st : List Value) (k n : Nat), J X Z (some (0, 0, 0, M)) pc lv st M k n) (fu : Nat) (kn : List LDen → Mem → Option (PR Int32)) (hkn : ∀ (D : List LDen) (M : Mem) (k n m : Nat), k + m ≤ 603072 → n + 8 * m ≤ 7190634 → J (xL D X) Z (lm m (kn D M)) 2845 [(4, .int (nI t)), (3, .ref (gadr (XG X) (7, 0, 0))), (2, .ref (gadr (XG X) (5, 0, 0))), (1, .ref (gadr (XG X) (4, 0, 0))), (0, .ref b)] [] M k n) (hk0 : ∀ (M : Mem) (k n m : Nat), k + m ≤ 603072 → n + 8 * m ≤ 7190634 → J X Z (lm m (kn (XD X) M)) 2845 [(4, .int (nI t)), (3, .ref (gadr (XG X) (7, 0, 0))), (2, .ref (gadr (XG X) (5, 0, 0))), (1, .ref (gadr (XG X) (4, 0, 0))), (0, .ref b)] [] M k n) {k n m : Nat} (hk : k + m ≤ 603072) (hn : n + 8 * m ≤ 7190634) (M : Mem) : J X Z (lm m (FL_19 fu (XD X) kn (fun j => xs (t + j)) M)) 1423 [(4, .int (nI t)), (3, .ref (gadr (XG X) (7, 0, 0))), (2, .ref (gadr (XG X) (5, 0, 0))), (1, .ref (gadr (XG X) (4, 0, 0))), (0, .ref b)] [] M k n := by
  unfold FL_19
  refine j_aload_n hC 3 dL_law_1423 rfl ?_
  refine j_scr (j := 1) hC hS hL (by omega) 4 0 rfl rfl dL_law_1424 dL_law_1425 dL_law_1427 (by decide) dL_law_1428 dL_law_1429 ?_
  refine j_scr (j := 2) hC hS hL (by omega) 4 0 rfl rfl dL_law_1430 dL_law_1431 dL_law_1433 (by decide) dL_law_1434 dL_law_1435 ?_
  refine j_bool hC dL_law_1436 dL_law_1439 dL_law_1440 dL_law_1443 ?_
  refine j_aload_n hC 1 dL_law_1444 rfl ?_
  refine jm_tickG hZ (fun hc1445 => ?_)
  refine j_lm lm_bhN ?_
  refine j_callSHW (nA := 4) (rest := []) hC [.ref (gadr (XG X) (4, 0, 0)), .int (xs (t + 1)), .int (bz (xs (t + 2))), .ref (gadr (XG X) (7, 0, 0))] rfl (fun r hr => mX0_straight (XL X) hst (XG X) hX fu (XD X) M (xs (t + 1)) (bz (xs (t + 2))) r hr) q1283 q1284 q125 q1285 (by decide +kernel) rfl rfl rfl rfl (bk (by omega)) (bk (by omega)) dL_law_1445 (fun v1445 => [.int v1445]) (fun _ => rfl) (fun v1445 M1445 => ?_) (fun e M9 => jh_none)
  refine j_istore hC [(5, .int v1445), (4, .int (nI t)), (3, .ref (gadr (XG X) (7, 0, 0))), (2, .ref (gadr (XG X) (5, 0, 0))), (1, .ref (gadr (XG X) (4, 0, 0))), (0, .ref b)] hnl dL_law_1448 rfl rfl ?_
  refine j_aload_n hC 3 dL_law_1450 rfl ?_
  refine j_scr (j := 1) hC hS hL (by omega) 5 1 rfl rfl dL_law_1451 dL_law_1452 dL_law_1454 (by decide) dL_law_1455 dL_law_1456 ?_
  refine j_scr (j := 2) hC hS hL (by omega) 5 1 rfl rfl dL_law_1457 dL_law_1458 dL_law_1460 (by decide) dL_law_1461 dL_law_1462 ?_
  refine j_bool hC dL_law_1463 dL_law_1466 dL_law_1467 dL_law_1470 ?_
  refine j_lm lm_bd ?_
  refine j_callV (nA := 2) (rest := []) hC [.int (xs (t + 1)), .int (bz (xs (t + 2)))] rfl (fun r hr => mX8_straight (XL X) (XG X) hM fu (XD X) M1445 (xs (t + 1)) (bz (xs (t + 2))) r hr) q1854 q1855 q1856 q136 q1857 (dmMo hM rfl) rfl rfl (by decide +kernel) rfl rfl rfl rfl (bk (by omega)) (bk (by omega)) dL_law_1471 (fun v1471 => [.int v1471]) (fun _ => rfl) (fun v1471 M1471 => ?_)
  refine j_istore hC [(6, .int v1471), (5, .int v1445), (4, .int (nI t)), (3, .ref (gadr (XG X) (7, 0, 0))), (2, .ref (gadr (XG X) (5, 0, 0))), (1, .ref (gadr (XG X) (4, 0, 0))), (0, .ref b)] hnl dL_law_1474 rfl rfl ?_
  refine j_aload_n hC 4 dL_law_1476 rfl ?_
  refine j_lm lm_bd ?_
  refine j_callV (nA := 0) (rest := []) hC [] rfl (fun r hr => mX8_thrown (XL X) (XG X) hM fu (XD X) M1471 r hr) q1454 q1455 q1456 q136 q1457 (dmMo hM rfl) rfl rfl (by decide +kernel) rfl rfl rfl rfl (bk (by omega)) (bk (by omega)) dL_law_1477 (fun v1477 => [.int v1477]) (fun _ => rfl) (fun v1477 M1477 => ?_)
  refine j_iload hC 1 dL_law_1480 rfl ?_
  refine j_lm lm_ite ?_
  refine j_icmp_eq (tgt := 1487) hC dL_law_1482 (by decide) (fun h1482 => ?_) (fun h1482 => ?_)
  · refine j_iload hC 1 dL_law_1487 rfl ?_
    refine j_lm lm_ite ?_
    refine j_if_ne (tgt := 1504) hC dL_law_1489 (by decide) (fun h1489 => ?_) (fun h1489 => ?_)
    · refine j_lm lm_ite ?_
      refine j_cmpOut hC hX 3 0 rfl rfl dL_law_1492 dL_law_1493 dL_law_1494 dL_law_1495 dL_law_1497 dL_law_1498 dL_law_1499 ?_ ?_
      · refine j_goto (tgt := 2845) hC dL_law_1504 (by decide) ?_
        exact j_sub [2, 3, 4, 5, 6] rfl (hk0 M1477 _ _ _ (by omega) (by omega))
      · refine j_lm lm_some ?_
        exact hF _ _ _ _ _ _
    · refine j_goto (tgt := 2845) hC dL_law_1504 (by decide) ?_
      exact j_sub [2, 3, 4, 5, 6] rfl (hk0 M1477 _ _ _ (by omega) (by omega))
  · refine j_lm lm_some ?_
    exact hF _ _ _ _ _ _
set_option linter.unusedVariables false in
noncomputable def FL_20 (fu : Nat) (D : List LDen) (kn : List LDen → Mem → Option (PR Int32)) (w : Nat → Int32) (M : Mem) : Option (PR Int32) :=
  tick 3 (bh (FX0_odds fu D M (w 1) (w 2) (w 3)) (fun v1527 M1527 => bd (FX8_odds fu D M1527 (w 1) (w 2) (w 3)) (fun v1551 M1551 => bd (FX8_thrown fu D M1551) (fun v1557 M1557 => if v1557 = v1527 then if v1527 = 0 then if M1557 (7, 0, 0) 0 = v1551 then kn D M1557 else some (0, 0, 0, M1557) else kn D M1557 else some (0, 0, 0, M1557)))) (fun _ _ => none))
set_option linter.unusedVariables false in
theorem wL_20 {X : JX} {b L t : Nat} {xs : Nat → Int32} (hC : JC X cL_law RX0 (some .boolean) 8192 104096 603072 7190634) (hX : dmI dmX (XG X)) (hM : dmI dmM (XG X)) (hst : (XL X).stackTraces = false) (hP : gP (XG X) = []) (h80 : gdm (XG X) (8, 0, 0) = false) (h81 : gdm (XG X) (8, 0, 1) = false) (hnl : nLof X = 7) (hS : JSc X b L xs) (hL : L ≤ 384) (ht : t + 6 ≤ L) {Z : PR Int32 → State → Prop} (hZ : ∀ (r : PR Int32) (c : Nat), Z (r.1, r.2.1, c + r.2.2.1, r.2.2.2) = Z r)
    (hFL : ∀ (D : List LDen) (M : Mem) (pc : Nat) (lv : List (Nat × Value)) (st : List Value) (k n : Nat), J (xL D X) Z (some (0, 0, 0, M)) pc lv st M k n) (hF : ∀ (M : Mem) (pc : Nat) (lv : List (Nat × Value)) (st : List Value) (k n : Nat), J X Z (some (0, 0, 0, M)) pc lv st M k n) (fu : Nat) (kn : List LDen → Mem → Option (PR Int32)) (hkn : ∀ (D : List LDen) (M : Mem) (k n m : Nat), k + m ≤ 603072 → n + 8 * m ≤ 7190634 → J (xL D X) Z (lm m (kn D M)) 2845 [(4, .int (nI t)), (3, .ref (gadr (XG X) (7, 0, 0))), (2, .ref (gadr (XG X) (5, 0, 0))), (1, .ref (gadr (XG X) (4, 0, 0))), (0, .ref b)] [] M k n) (hk0 : ∀ (M : Mem) (k n m : Nat), k + m ≤ 603072 → n + 8 * m ≤ 7190634 → J X Z (lm m (kn (XD X) M)) 2845 [(4, .int (nI t)), (3, .ref (gadr (XG X) (7, 0, 0))), (2, .ref (gadr (XG X) (5, 0, 0))), (1, .ref (gadr (XG X) (4, 0, 0))), (0, .ref b)] [] M k n) {k n m : Nat} (hk : k + m ≤ 603072) (hn : n + 8 * m ≤ 7190634) (M : Mem) : J X Z (lm m (FL_20 fu (XD X) kn (fun j => xs (t + j)) M)) 1507 [(4, .int (nI t)), (3, .ref (gadr (XG X) (7, 0, 0))), (2, .ref (gadr (XG X) (5, 0, 0))), (1, .ref (gadr (XG X) (4, 0, 0))), (0, .ref b)] [] M k n := by
  unfold FL_20
  refine j_aload_n hC 3 dL_law_1507 rfl ?_
  refine j_scr (j := 1) hC hS hL (by omega) 4 0 rfl rfl dL_law_1508 dL_law_1509 dL_law_1511 (by decide) dL_law_1512 dL_law_1513 ?_
  refine j_scr (j := 2) hC hS hL (by omega) 4 0 rfl rfl dL_law_1514 dL_law_1515 dL_law_1517 (by decide) dL_law_1518 dL_law_1519 ?_
  refine j_scr (j := 3) hC hS hL (by omega) 4 0 rfl rfl dL_law_1520 dL_law_1521 dL_law_1523 (by decide) dL_law_1524 dL_law_1525 ?_
  refine j_aload_n hC 1 dL_law_1526 rfl ?_
  refine jm_tickG hZ (fun hc1527 => ?_)
  refine j_lm lm_bhN ?_
  refine j_callSHW (nA := 5) (rest := []) hC [.ref (gadr (XG X) (4, 0, 0)), .int (xs (t + 1)), .int (xs (t + 2)), .int (xs (t + 3)), .ref (gadr (XG X) (7, 0, 0))] rfl (fun r hr => mX0_odds (XL X) hst (XG X) hX fu (XD X) M (xs (t + 1)) (xs (t + 2)) (xs (t + 3)) r hr) q1290 q1291 q125 q1292 (by decide +kernel) rfl rfl rfl rfl (bk (by omega)) (bk (by omega)) dL_law_1527 (fun v1527 => [.int v1527]) (fun _ => rfl) (fun v1527 M1527 => ?_) (fun e M9 => jh_none)
  refine j_istore hC [(5, .int v1527), (4, .int (nI t)), (3, .ref (gadr (XG X) (7, 0, 0))), (2, .ref (gadr (XG X) (5, 0, 0))), (1, .ref (gadr (XG X) (4, 0, 0))), (0, .ref b)] hnl dL_law_1530 rfl rfl ?_
  refine j_aload_n hC 3 dL_law_1532 rfl ?_
  refine j_scr (j := 1) hC hS hL (by omega) 5 1 rfl rfl dL_law_1533 dL_law_1534 dL_law_1536 (by decide) dL_law_1537 dL_law_1538 ?_
  refine j_scr (j := 2) hC hS hL (by omega) 5 1 rfl rfl dL_law_1539 dL_law_1540 dL_law_1542 (by decide) dL_law_1543 dL_law_1544 ?_
  refine j_scr (j := 3) hC hS hL (by omega) 5 1 rfl rfl dL_law_1545 dL_law_1546 dL_law_1548 (by decide) dL_law_1549 dL_law_1550 ?_
  refine j_lm lm_bd ?_
  refine j_callV (nA := 3) (rest := []) hC [.int (xs (t + 1)), .int (xs (t + 2)), .int (xs (t + 3))] rfl (fun r hr => mX8_odds (XL X) (XG X) hM fu (XD X) M1527 (xs (t + 1)) (xs (t + 2)) (xs (t + 3)) r hr) q1870 q1871 q1872 q136 q1873 (dmMo hM rfl) rfl rfl (by decide +kernel) rfl rfl rfl rfl (bk (by omega)) (bk (by omega)) dL_law_1551 (fun v1551 => [.int v1551]) (fun _ => rfl) (fun v1551 M1551 => ?_)
  refine j_istore hC [(6, .int v1551), (5, .int v1527), (4, .int (nI t)), (3, .ref (gadr (XG X) (7, 0, 0))), (2, .ref (gadr (XG X) (5, 0, 0))), (1, .ref (gadr (XG X) (4, 0, 0))), (0, .ref b)] hnl dL_law_1554 rfl rfl ?_
  refine j_aload_n hC 4 dL_law_1556 rfl ?_
  refine j_lm lm_bd ?_
  refine j_callV (nA := 0) (rest := []) hC [] rfl (fun r hr => mX8_thrown (XL X) (XG X) hM fu (XD X) M1551 r hr) q1454 q1455 q1456 q136 q1457 (dmMo hM rfl) rfl rfl (by decide +kernel) rfl rfl rfl rfl (bk (by omega)) (bk (by omega)) dL_law_1557 (fun v1557 => [.int v1557]) (fun _ => rfl) (fun v1557 M1557 => ?_)
  refine j_iload hC 1 dL_law_1560 rfl ?_
  refine j_lm lm_ite ?_
  refine j_icmp_eq (tgt := 1567) hC dL_law_1562 (by decide) (fun h1562 => ?_) (fun h1562 => ?_)
  · refine j_iload hC 1 dL_law_1567 rfl ?_
    refine j_lm lm_ite ?_
    refine j_if_ne (tgt := 1584) hC dL_law_1569 (by decide) (fun h1569 => ?_) (fun h1569 => ?_)
    · refine j_lm lm_ite ?_
      refine j_cmpOut hC hX 3 0 rfl rfl dL_law_1572 dL_law_1573 dL_law_1574 dL_law_1575 dL_law_1577 dL_law_1578 dL_law_1579 ?_ ?_
      · refine j_goto (tgt := 2845) hC dL_law_1584 (by decide) ?_
        exact j_sub [2, 3, 4, 5, 6] rfl (hk0 M1557 _ _ _ (by omega) (by omega))
      · refine j_lm lm_some ?_
        exact hF _ _ _ _ _ _
    · refine j_goto (tgt := 2845) hC dL_law_1584 (by decide) ?_
      exact j_sub [2, 3, 4, 5, 6] rfl (hk0 M1557 _ _ _ (by omega) (by omega))
  · refine j_lm lm_some ?_
    exact hF _ _ _ _ _ _
set_option linter.unusedVariables false in
noncomputable def FL_21 (fu : Nat) (D : List LDen) (kn : List LDen → Mem → Option (PR Int32)) (w : Nat → Int32) (M : Mem) : Option (PR Int32) :=
  tick 1 (bh (FX0_best fu D M (w 1) (w 2)) (fun v1601 M1601 => bd (FX8_best fu D M1601 (w 1) (w 2)) (fun v1619 M1619 => bd (FX8_thrown fu D M1619) (fun v1625 M1625 => if v1625 = v1601 then if v1601 = 0 then if M1625 (7, 0, 0) 0 = v1619 then kn D M1625 else some (0, 0, 0, M1625) else kn D M1625 else some (0, 0, 0, M1625)))) (fun _ _ => none))
set_option linter.unusedVariables false in
theorem wL_21 {X : JX} {b L t : Nat} {xs : Nat → Int32} (hC : JC X cL_law RX0 (some .boolean) 8192 104096 603072 7190634) (hX : dmI dmX (XG X)) (hM : dmI dmM (XG X)) (hst : (XL X).stackTraces = false) (hP : gP (XG X) = []) (h80 : gdm (XG X) (8, 0, 0) = false) (h81 : gdm (XG X) (8, 0, 1) = false) (hnl : nLof X = 7) (hS : JSc X b L xs) (hL : L ≤ 384) (ht : t + 6 ≤ L) {Z : PR Int32 → State → Prop} (hZ : ∀ (r : PR Int32) (c : Nat), Z (r.1, r.2.1, c + r.2.2.1, r.2.2.2) = Z r)
    (hFL : ∀ (D : List LDen) (M : Mem) (pc : Nat) (lv : List (Nat × Value)) (st : List Value) (k n : Nat), J (xL D X) Z (some (0, 0, 0, M)) pc lv st M k n) (hF : ∀ (M : Mem) (pc : Nat) (lv : List (Nat × Value)) (st : List Value) (k n : Nat), J X Z (some (0, 0, 0, M)) pc lv st M k n) (fu : Nat) (kn : List LDen → Mem → Option (PR Int32)) (hkn : ∀ (D : List LDen) (M : Mem) (k n m : Nat), k + m ≤ 603072 → n + 8 * m ≤ 7190634 → J (xL D X) Z (lm m (kn D M)) 2845 [(4, .int (nI t)), (3, .ref (gadr (XG X) (7, 0, 0))), (2, .ref (gadr (XG X) (5, 0, 0))), (1, .ref (gadr (XG X) (4, 0, 0))), (0, .ref b)] [] M k n) (hk0 : ∀ (M : Mem) (k n m : Nat), k + m ≤ 603072 → n + 8 * m ≤ 7190634 → J X Z (lm m (kn (XD X) M)) 2845 [(4, .int (nI t)), (3, .ref (gadr (XG X) (7, 0, 0))), (2, .ref (gadr (XG X) (5, 0, 0))), (1, .ref (gadr (XG X) (4, 0, 0))), (0, .ref b)] [] M k n) {k n m : Nat} (hk : k + m ≤ 603072) (hn : n + 8 * m ≤ 7190634) (M : Mem) : J X Z (lm m (FL_21 fu (XD X) kn (fun j => xs (t + j)) M)) 1587 [(4, .int (nI t)), (3, .ref (gadr (XG X) (7, 0, 0))), (2, .ref (gadr (XG X) (5, 0, 0))), (1, .ref (gadr (XG X) (4, 0, 0))), (0, .ref b)] [] M k n := by
  unfold FL_21
  refine j_aload_n hC 3 dL_law_1587 rfl ?_
  refine j_scr (j := 1) hC hS hL (by omega) 4 0 rfl rfl dL_law_1588 dL_law_1589 dL_law_1591 (by decide) dL_law_1592 dL_law_1593 ?_
  refine j_scr (j := 2) hC hS hL (by omega) 4 0 rfl rfl dL_law_1594 dL_law_1595 dL_law_1597 (by decide) dL_law_1598 dL_law_1599 ?_
  refine j_aload_n hC 1 dL_law_1600 rfl ?_
  refine jm_tickG hZ (fun hc1601 => ?_)
  refine j_lm lm_bhN ?_
  refine j_callSHW (nA := 4) (rest := []) hC [.ref (gadr (XG X) (4, 0, 0)), .int (xs (t + 1)), .int (xs (t + 2)), .ref (gadr (XG X) (7, 0, 0))] rfl (fun r hr => mX0_best (XL X) hst (XG X) hX fu (XD X) M (xs (t + 1)) (xs (t + 2)) r hr) q1305 q1306 q125 q1307 (by decide +kernel) rfl rfl rfl rfl (bk (by omega)) (bk (by omega)) dL_law_1601 (fun v1601 => [.int v1601]) (fun _ => rfl) (fun v1601 M1601 => ?_) (fun e M9 => jh_none)
  refine j_istore hC [(5, .int v1601), (4, .int (nI t)), (3, .ref (gadr (XG X) (7, 0, 0))), (2, .ref (gadr (XG X) (5, 0, 0))), (1, .ref (gadr (XG X) (4, 0, 0))), (0, .ref b)] hnl dL_law_1604 rfl rfl ?_
  refine j_aload_n hC 3 dL_law_1606 rfl ?_
  refine j_scr (j := 1) hC hS hL (by omega) 5 1 rfl rfl dL_law_1607 dL_law_1608 dL_law_1610 (by decide) dL_law_1611 dL_law_1612 ?_
  refine j_scr (j := 2) hC hS hL (by omega) 5 1 rfl rfl dL_law_1613 dL_law_1614 dL_law_1616 (by decide) dL_law_1617 dL_law_1618 ?_
  refine j_lm lm_bd ?_
  refine j_callV (nA := 2) (rest := []) hC [.int (xs (t + 1)), .int (xs (t + 2))] rfl (fun r hr => mX8_best (XL X) (XG X) hM fu (XD X) M1601 (xs (t + 1)) (xs (t + 2)) r hr) q1898 q1899 q1900 q136 q1901 (dmMo hM rfl) rfl rfl (by decide +kernel) rfl rfl rfl rfl (bk (by omega)) (bk (by omega)) dL_law_1619 (fun v1619 => [.int v1619]) (fun _ => rfl) (fun v1619 M1619 => ?_)
  refine j_istore hC [(6, .int v1619), (5, .int v1601), (4, .int (nI t)), (3, .ref (gadr (XG X) (7, 0, 0))), (2, .ref (gadr (XG X) (5, 0, 0))), (1, .ref (gadr (XG X) (4, 0, 0))), (0, .ref b)] hnl dL_law_1622 rfl rfl ?_
  refine j_aload_n hC 4 dL_law_1624 rfl ?_
  refine j_lm lm_bd ?_
  refine j_callV (nA := 0) (rest := []) hC [] rfl (fun r hr => mX8_thrown (XL X) (XG X) hM fu (XD X) M1619 r hr) q1454 q1455 q1456 q136 q1457 (dmMo hM rfl) rfl rfl (by decide +kernel) rfl rfl rfl rfl (bk (by omega)) (bk (by omega)) dL_law_1625 (fun v1625 => [.int v1625]) (fun _ => rfl) (fun v1625 M1625 => ?_)
  refine j_iload hC 1 dL_law_1628 rfl ?_
  refine j_lm lm_ite ?_
  refine j_icmp_eq (tgt := 1635) hC dL_law_1630 (by decide) (fun h1630 => ?_) (fun h1630 => ?_)
  · refine j_iload hC 1 dL_law_1635 rfl ?_
    refine j_lm lm_ite ?_
    refine j_if_ne (tgt := 1652) hC dL_law_1637 (by decide) (fun h1637 => ?_) (fun h1637 => ?_)
    · refine j_lm lm_ite ?_
      refine j_cmpOut hC hX 3 0 rfl rfl dL_law_1640 dL_law_1641 dL_law_1642 dL_law_1643 dL_law_1645 dL_law_1646 dL_law_1647 ?_ ?_
      · refine j_goto (tgt := 2845) hC dL_law_1652 (by decide) ?_
        exact j_sub [2, 3, 4, 5, 6] rfl (hk0 M1625 _ _ _ (by omega) (by omega))
      · refine j_lm lm_some ?_
        exact hF _ _ _ _ _ _
    · refine j_goto (tgt := 2845) hC dL_law_1652 (by decide) ?_
      exact j_sub [2, 3, 4, 5, 6] rfl (hk0 M1625 _ _ _ (by omega) (by omega))
  · refine j_lm lm_some ?_
    exact hF _ _ _ _ _ _
set_option linter.unusedVariables false in
noncomputable def FL_22 (fu : Nat) (D : List LDen) (kn : List LDen → Mem → Option (PR Int32)) (w : Nat → Int32) (M : Mem) : Option (PR Int32) :=
  tick 2 (bh (FX0_when fu D M (w 1) (w 2)) (fun v1669 M1669 => bd (FX8_when fu D M1669 (w 1) (w 2)) (fun v1687 M1687 => bd (FX8_thrown fu D M1687) (fun v1693 M1693 => if v1693 = v1669 then if v1669 = 0 then if M1693 (7, 0, 0) 0 = v1687 then kn D M1693 else some (0, 0, 0, M1693) else kn D M1693 else some (0, 0, 0, M1693)))) (fun _ _ => none))
set_option linter.unusedVariables false in
theorem wL_22 {X : JX} {b L t : Nat} {xs : Nat → Int32} (hC : JC X cL_law RX0 (some .boolean) 8192 104096 603072 7190634) (hX : dmI dmX (XG X)) (hM : dmI dmM (XG X)) (hst : (XL X).stackTraces = false) (hP : gP (XG X) = []) (h80 : gdm (XG X) (8, 0, 0) = false) (h81 : gdm (XG X) (8, 0, 1) = false) (hnl : nLof X = 7) (hS : JSc X b L xs) (hL : L ≤ 384) (ht : t + 6 ≤ L) {Z : PR Int32 → State → Prop} (hZ : ∀ (r : PR Int32) (c : Nat), Z (r.1, r.2.1, c + r.2.2.1, r.2.2.2) = Z r)
    (hFL : ∀ (D : List LDen) (M : Mem) (pc : Nat) (lv : List (Nat × Value)) (st : List Value) (k n : Nat), J (xL D X) Z (some (0, 0, 0, M)) pc lv st M k n) (hF : ∀ (M : Mem) (pc : Nat) (lv : List (Nat × Value)) (st : List Value) (k n : Nat), J X Z (some (0, 0, 0, M)) pc lv st M k n) (fu : Nat) (kn : List LDen → Mem → Option (PR Int32)) (hkn : ∀ (D : List LDen) (M : Mem) (k n m : Nat), k + m ≤ 603072 → n + 8 * m ≤ 7190634 → J (xL D X) Z (lm m (kn D M)) 2845 [(4, .int (nI t)), (3, .ref (gadr (XG X) (7, 0, 0))), (2, .ref (gadr (XG X) (5, 0, 0))), (1, .ref (gadr (XG X) (4, 0, 0))), (0, .ref b)] [] M k n) (hk0 : ∀ (M : Mem) (k n m : Nat), k + m ≤ 603072 → n + 8 * m ≤ 7190634 → J X Z (lm m (kn (XD X) M)) 2845 [(4, .int (nI t)), (3, .ref (gadr (XG X) (7, 0, 0))), (2, .ref (gadr (XG X) (5, 0, 0))), (1, .ref (gadr (XG X) (4, 0, 0))), (0, .ref b)] [] M k n) {k n m : Nat} (hk : k + m ≤ 603072) (hn : n + 8 * m ≤ 7190634) (M : Mem) : J X Z (lm m (FL_22 fu (XD X) kn (fun j => xs (t + j)) M)) 1655 [(4, .int (nI t)), (3, .ref (gadr (XG X) (7, 0, 0))), (2, .ref (gadr (XG X) (5, 0, 0))), (1, .ref (gadr (XG X) (4, 0, 0))), (0, .ref b)] [] M k n := by
  unfold FL_22
  refine j_aload_n hC 3 dL_law_1655 rfl ?_
  refine j_scr (j := 1) hC hS hL (by omega) 4 0 rfl rfl dL_law_1656 dL_law_1657 dL_law_1659 (by decide) dL_law_1660 dL_law_1661 ?_
  refine j_scr (j := 2) hC hS hL (by omega) 4 0 rfl rfl dL_law_1662 dL_law_1663 dL_law_1665 (by decide) dL_law_1666 dL_law_1667 ?_
  refine j_aload_n hC 1 dL_law_1668 rfl ?_
  refine jm_tickG hZ (fun hc1669 => ?_)
  refine j_lm lm_bhN ?_
  refine j_callSHW (nA := 4) (rest := []) hC [.ref (gadr (XG X) (4, 0, 0)), .int (xs (t + 1)), .int (xs (t + 2)), .ref (gadr (XG X) (7, 0, 0))] rfl (fun r hr => mX0_when (XL X) hst (XG X) hX fu (XD X) M (xs (t + 1)) (xs (t + 2)) r hr) q1312 q1313 q125 q1314 (by decide +kernel) rfl rfl rfl rfl (bk (by omega)) (bk (by omega)) dL_law_1669 (fun v1669 => [.int v1669]) (fun _ => rfl) (fun v1669 M1669 => ?_) (fun e M9 => jh_none)
  refine j_istore hC [(5, .int v1669), (4, .int (nI t)), (3, .ref (gadr (XG X) (7, 0, 0))), (2, .ref (gadr (XG X) (5, 0, 0))), (1, .ref (gadr (XG X) (4, 0, 0))), (0, .ref b)] hnl dL_law_1672 rfl rfl ?_
  refine j_aload_n hC 3 dL_law_1674 rfl ?_
  refine j_scr (j := 1) hC hS hL (by omega) 5 1 rfl rfl dL_law_1675 dL_law_1676 dL_law_1678 (by decide) dL_law_1679 dL_law_1680 ?_
  refine j_scr (j := 2) hC hS hL (by omega) 5 1 rfl rfl dL_law_1681 dL_law_1682 dL_law_1684 (by decide) dL_law_1685 dL_law_1686 ?_
  refine j_lm lm_bd ?_
  refine j_callV (nA := 2) (rest := []) hC [.int (xs (t + 1)), .int (xs (t + 2))] rfl (fun r hr => mX8_when (XL X) (XG X) hM fu (XD X) M1669 (xs (t + 1)) (xs (t + 2)) r hr) q1902 q1903 q1904 q136 q1905 (dmMo hM rfl) rfl rfl (by decide +kernel) rfl rfl rfl rfl (bk (by omega)) (bk (by omega)) dL_law_1687 (fun v1687 => [.int v1687]) (fun _ => rfl) (fun v1687 M1687 => ?_)
  refine j_istore hC [(6, .int v1687), (5, .int v1669), (4, .int (nI t)), (3, .ref (gadr (XG X) (7, 0, 0))), (2, .ref (gadr (XG X) (5, 0, 0))), (1, .ref (gadr (XG X) (4, 0, 0))), (0, .ref b)] hnl dL_law_1690 rfl rfl ?_
  refine j_aload_n hC 4 dL_law_1692 rfl ?_
  refine j_lm lm_bd ?_
  refine j_callV (nA := 0) (rest := []) hC [] rfl (fun r hr => mX8_thrown (XL X) (XG X) hM fu (XD X) M1687 r hr) q1454 q1455 q1456 q136 q1457 (dmMo hM rfl) rfl rfl (by decide +kernel) rfl rfl rfl rfl (bk (by omega)) (bk (by omega)) dL_law_1693 (fun v1693 => [.int v1693]) (fun _ => rfl) (fun v1693 M1693 => ?_)
  refine j_iload hC 1 dL_law_1696 rfl ?_
  refine j_lm lm_ite ?_
  refine j_icmp_eq (tgt := 1703) hC dL_law_1698 (by decide) (fun h1698 => ?_) (fun h1698 => ?_)
  · refine j_iload hC 1 dL_law_1703 rfl ?_
    refine j_lm lm_ite ?_
    refine j_if_ne (tgt := 1720) hC dL_law_1705 (by decide) (fun h1705 => ?_) (fun h1705 => ?_)
    · refine j_lm lm_ite ?_
      refine j_cmpOut hC hX 3 0 rfl rfl dL_law_1708 dL_law_1709 dL_law_1710 dL_law_1711 dL_law_1713 dL_law_1714 dL_law_1715 ?_ ?_
      · refine j_goto (tgt := 2845) hC dL_law_1720 (by decide) ?_
        exact j_sub [2, 3, 4, 5, 6] rfl (hk0 M1693 _ _ _ (by omega) (by omega))
      · refine j_lm lm_some ?_
        exact hF _ _ _ _ _ _
    · refine j_goto (tgt := 2845) hC dL_law_1720 (by decide) ?_
      exact j_sub [2, 3, 4, 5, 6] rfl (hk0 M1693 _ _ _ (by omega) (by omega))
  · refine j_lm lm_some ?_
    exact hF _ _ _ _ _ _
set_option linter.unusedVariables false in
noncomputable def FL_23 (fu : Nat) (D : List LDen) (kn : List LDen → Mem → Option (PR Int32)) (w : Nat → Int32) (M : Mem) : Option (PR Int32) :=
  tick 2 (bh (FX0_surest fu D M (w 1) (bz (w 2)) (bz (w 3))) (fun v1759 M1759 => bd (FX8_surest fu D M1759 (w 1) (bz (w 2)) (bz (w 3))) (fun v1799 M1799 => bd (FX8_thrown fu D M1799) (fun v1805 M1805 => if v1805 = v1759 then if v1759 = 0 then if M1805 (7, 0, 0) 0 = v1799 then kn D M1805 else some (0, 0, 0, M1805) else kn D M1805 else some (0, 0, 0, M1805)))) (fun _ _ => none))
set_option linter.unusedVariables false in
theorem wL_23 {X : JX} {b L t : Nat} {xs : Nat → Int32} (hC : JC X cL_law RX0 (some .boolean) 8192 104096 603072 7190634) (hX : dmI dmX (XG X)) (hM : dmI dmM (XG X)) (hst : (XL X).stackTraces = false) (hP : gP (XG X) = []) (h80 : gdm (XG X) (8, 0, 0) = false) (h81 : gdm (XG X) (8, 0, 1) = false) (hnl : nLof X = 7) (hS : JSc X b L xs) (hL : L ≤ 384) (ht : t + 6 ≤ L) {Z : PR Int32 → State → Prop} (hZ : ∀ (r : PR Int32) (c : Nat), Z (r.1, r.2.1, c + r.2.2.1, r.2.2.2) = Z r)
    (hFL : ∀ (D : List LDen) (M : Mem) (pc : Nat) (lv : List (Nat × Value)) (st : List Value) (k n : Nat), J (xL D X) Z (some (0, 0, 0, M)) pc lv st M k n) (hF : ∀ (M : Mem) (pc : Nat) (lv : List (Nat × Value)) (st : List Value) (k n : Nat), J X Z (some (0, 0, 0, M)) pc lv st M k n) (fu : Nat) (kn : List LDen → Mem → Option (PR Int32)) (hkn : ∀ (D : List LDen) (M : Mem) (k n m : Nat), k + m ≤ 603072 → n + 8 * m ≤ 7190634 → J (xL D X) Z (lm m (kn D M)) 2845 [(4, .int (nI t)), (3, .ref (gadr (XG X) (7, 0, 0))), (2, .ref (gadr (XG X) (5, 0, 0))), (1, .ref (gadr (XG X) (4, 0, 0))), (0, .ref b)] [] M k n) (hk0 : ∀ (M : Mem) (k n m : Nat), k + m ≤ 603072 → n + 8 * m ≤ 7190634 → J X Z (lm m (kn (XD X) M)) 2845 [(4, .int (nI t)), (3, .ref (gadr (XG X) (7, 0, 0))), (2, .ref (gadr (XG X) (5, 0, 0))), (1, .ref (gadr (XG X) (4, 0, 0))), (0, .ref b)] [] M k n) {k n m : Nat} (hk : k + m ≤ 603072) (hn : n + 8 * m ≤ 7190634) (M : Mem) : J X Z (lm m (FL_23 fu (XD X) kn (fun j => xs (t + j)) M)) 1723 [(4, .int (nI t)), (3, .ref (gadr (XG X) (7, 0, 0))), (2, .ref (gadr (XG X) (5, 0, 0))), (1, .ref (gadr (XG X) (4, 0, 0))), (0, .ref b)] [] M k n := by
  unfold FL_23
  refine j_aload_n hC 3 dL_law_1723 rfl ?_
  refine j_scr (j := 1) hC hS hL (by omega) 4 0 rfl rfl dL_law_1724 dL_law_1725 dL_law_1727 (by decide) dL_law_1728 dL_law_1729 ?_
  refine j_scr (j := 2) hC hS hL (by omega) 4 0 rfl rfl dL_law_1730 dL_law_1731 dL_law_1733 (by decide) dL_law_1734 dL_law_1735 ?_
  refine j_bool hC dL_law_1736 dL_law_1739 dL_law_1740 dL_law_1743 ?_
  refine j_scr (j := 3) hC hS hL (by omega) 4 0 rfl rfl dL_law_1744 dL_law_1745 dL_law_1747 (by decide) dL_law_1748 dL_law_1749 ?_
  refine j_bool hC dL_law_1750 dL_law_1753 dL_law_1754 dL_law_1757 ?_
  refine j_aload_n hC 1 dL_law_1758 rfl ?_
  refine jm_tickG hZ (fun hc1759 => ?_)
  refine j_lm lm_bhN ?_
  refine j_callSHW (nA := 5) (rest := []) hC [.ref (gadr (XG X) (4, 0, 0)), .int (xs (t + 1)), .int (bz (xs (t + 2))), .int (bz (xs (t + 3))), .ref (gadr (XG X) (7, 0, 0))] rfl (fun r hr => mX0_surest (XL X) hst (XG X) hX fu (XD X) M (xs (t + 1)) (bz (xs (t + 2))) (bz (xs (t + 3))) r hr) q1319 q1320 q125 q1321 (by decide +kernel) rfl rfl rfl rfl (bk (by omega)) (bk (by omega)) dL_law_1759 (fun v1759 => [.int v1759]) (fun _ => rfl) (fun v1759 M1759 => ?_) (fun e M9 => jh_none)
  refine j_istore hC [(5, .int v1759), (4, .int (nI t)), (3, .ref (gadr (XG X) (7, 0, 0))), (2, .ref (gadr (XG X) (5, 0, 0))), (1, .ref (gadr (XG X) (4, 0, 0))), (0, .ref b)] hnl dL_law_1762 rfl rfl ?_
  refine j_aload_n hC 3 dL_law_1764 rfl ?_
  refine j_scr (j := 1) hC hS hL (by omega) 5 1 rfl rfl dL_law_1765 dL_law_1766 dL_law_1768 (by decide) dL_law_1769 dL_law_1770 ?_
  refine j_scr (j := 2) hC hS hL (by omega) 5 1 rfl rfl dL_law_1771 dL_law_1772 dL_law_1774 (by decide) dL_law_1775 dL_law_1776 ?_
  refine j_bool hC dL_law_1777 dL_law_1780 dL_law_1781 dL_law_1784 ?_
  refine j_scr (j := 3) hC hS hL (by omega) 5 1 rfl rfl dL_law_1785 dL_law_1786 dL_law_1788 (by decide) dL_law_1789 dL_law_1790 ?_
  refine j_bool hC dL_law_1791 dL_law_1794 dL_law_1795 dL_law_1798 ?_
  refine j_lm lm_bd ?_
  refine j_callV (nA := 3) (rest := []) hC [.int (xs (t + 1)), .int (bz (xs (t + 2))), .int (bz (xs (t + 3)))] rfl (fun r hr => mX8_surest (XL X) (XG X) hM fu (XD X) M1759 (xs (t + 1)) (bz (xs (t + 2))) (bz (xs (t + 3))) r hr) q1946 q1947 q1948 q136 q1949 (dmMo hM rfl) rfl rfl (by decide +kernel) rfl rfl rfl rfl (bk (by omega)) (bk (by omega)) dL_law_1799 (fun v1799 => [.int v1799]) (fun _ => rfl) (fun v1799 M1799 => ?_)
  refine j_istore hC [(6, .int v1799), (5, .int v1759), (4, .int (nI t)), (3, .ref (gadr (XG X) (7, 0, 0))), (2, .ref (gadr (XG X) (5, 0, 0))), (1, .ref (gadr (XG X) (4, 0, 0))), (0, .ref b)] hnl dL_law_1802 rfl rfl ?_
  refine j_aload_n hC 4 dL_law_1804 rfl ?_
  refine j_lm lm_bd ?_
  refine j_callV (nA := 0) (rest := []) hC [] rfl (fun r hr => mX8_thrown (XL X) (XG X) hM fu (XD X) M1799 r hr) q1454 q1455 q1456 q136 q1457 (dmMo hM rfl) rfl rfl (by decide +kernel) rfl rfl rfl rfl (bk (by omega)) (bk (by omega)) dL_law_1805 (fun v1805 => [.int v1805]) (fun _ => rfl) (fun v1805 M1805 => ?_)
  refine j_iload hC 1 dL_law_1808 rfl ?_
  refine j_lm lm_ite ?_
  refine j_icmp_eq (tgt := 1815) hC dL_law_1810 (by decide) (fun h1810 => ?_) (fun h1810 => ?_)
  · refine j_iload hC 1 dL_law_1815 rfl ?_
    refine j_lm lm_ite ?_
    refine j_if_ne (tgt := 1832) hC dL_law_1817 (by decide) (fun h1817 => ?_) (fun h1817 => ?_)
    · refine j_lm lm_ite ?_
      refine j_cmpOut hC hX 3 0 rfl rfl dL_law_1820 dL_law_1821 dL_law_1822 dL_law_1823 dL_law_1825 dL_law_1826 dL_law_1827 ?_ ?_
      · refine j_goto (tgt := 2845) hC dL_law_1832 (by decide) ?_
        exact j_sub [2, 3, 4, 5, 6] rfl (hk0 M1805 _ _ _ (by omega) (by omega))
      · refine j_lm lm_some ?_
        exact hF _ _ _ _ _ _
    · refine j_goto (tgt := 2845) hC dL_law_1832 (by decide) ?_
      exact j_sub [2, 3, 4, 5, 6] rfl (hk0 M1805 _ _ _ (by omega) (by omega))
  · refine j_lm lm_some ?_
    exact hF _ _ _ _ _ _
set_option linter.unusedVariables false in
noncomputable def FL_24 (fu : Nat) (D : List LDen) (kn : List LDen → Mem → Option (PR Int32)) (w : Nat → Int32) (M : Mem) : Option (PR Int32) :=
  tick 2 (bh (FX0_rests fu D M (w 1) (bz (w 2))) (fun v1857 M1857 => bd (FX8_rests fu D M1857 (w 1) (bz (w 2))) (fun v1883 M1883 => bd (FX8_thrown fu D M1883) (fun v1889 M1889 => if v1889 = v1857 then if v1857 = 0 then if M1889 (7, 0, 0) 0 = v1883 then kn D M1889 else some (0, 0, 0, M1889) else kn D M1889 else some (0, 0, 0, M1889)))) (fun _ _ => none))
set_option linter.unusedVariables false in
theorem wL_24 {X : JX} {b L t : Nat} {xs : Nat → Int32} (hC : JC X cL_law RX0 (some .boolean) 8192 104096 603072 7190634) (hX : dmI dmX (XG X)) (hM : dmI dmM (XG X)) (hst : (XL X).stackTraces = false) (hP : gP (XG X) = []) (h80 : gdm (XG X) (8, 0, 0) = false) (h81 : gdm (XG X) (8, 0, 1) = false) (hnl : nLof X = 7) (hS : JSc X b L xs) (hL : L ≤ 384) (ht : t + 6 ≤ L) {Z : PR Int32 → State → Prop} (hZ : ∀ (r : PR Int32) (c : Nat), Z (r.1, r.2.1, c + r.2.2.1, r.2.2.2) = Z r)
    (hFL : ∀ (D : List LDen) (M : Mem) (pc : Nat) (lv : List (Nat × Value)) (st : List Value) (k n : Nat), J (xL D X) Z (some (0, 0, 0, M)) pc lv st M k n) (hF : ∀ (M : Mem) (pc : Nat) (lv : List (Nat × Value)) (st : List Value) (k n : Nat), J X Z (some (0, 0, 0, M)) pc lv st M k n) (fu : Nat) (kn : List LDen → Mem → Option (PR Int32)) (hkn : ∀ (D : List LDen) (M : Mem) (k n m : Nat), k + m ≤ 603072 → n + 8 * m ≤ 7190634 → J (xL D X) Z (lm m (kn D M)) 2845 [(4, .int (nI t)), (3, .ref (gadr (XG X) (7, 0, 0))), (2, .ref (gadr (XG X) (5, 0, 0))), (1, .ref (gadr (XG X) (4, 0, 0))), (0, .ref b)] [] M k n) (hk0 : ∀ (M : Mem) (k n m : Nat), k + m ≤ 603072 → n + 8 * m ≤ 7190634 → J X Z (lm m (kn (XD X) M)) 2845 [(4, .int (nI t)), (3, .ref (gadr (XG X) (7, 0, 0))), (2, .ref (gadr (XG X) (5, 0, 0))), (1, .ref (gadr (XG X) (4, 0, 0))), (0, .ref b)] [] M k n) {k n m : Nat} (hk : k + m ≤ 603072) (hn : n + 8 * m ≤ 7190634) (M : Mem) : J X Z (lm m (FL_24 fu (XD X) kn (fun j => xs (t + j)) M)) 1835 [(4, .int (nI t)), (3, .ref (gadr (XG X) (7, 0, 0))), (2, .ref (gadr (XG X) (5, 0, 0))), (1, .ref (gadr (XG X) (4, 0, 0))), (0, .ref b)] [] M k n := by
  unfold FL_24
  refine j_aload_n hC 3 dL_law_1835 rfl ?_
  refine j_scr (j := 1) hC hS hL (by omega) 4 0 rfl rfl dL_law_1836 dL_law_1837 dL_law_1839 (by decide) dL_law_1840 dL_law_1841 ?_
  refine j_scr (j := 2) hC hS hL (by omega) 4 0 rfl rfl dL_law_1842 dL_law_1843 dL_law_1845 (by decide) dL_law_1846 dL_law_1847 ?_
  refine j_bool hC dL_law_1848 dL_law_1851 dL_law_1852 dL_law_1855 ?_
  refine j_aload_n hC 1 dL_law_1856 rfl ?_
  refine jm_tickG hZ (fun hc1857 => ?_)
  refine j_lm lm_bhN ?_
  refine j_callSHW (nA := 4) (rest := []) hC [.ref (gadr (XG X) (4, 0, 0)), .int (xs (t + 1)), .int (bz (xs (t + 2))), .ref (gadr (XG X) (7, 0, 0))] rfl (fun r hr => mX0_rests (XL X) hst (XG X) hX fu (XD X) M (xs (t + 1)) (bz (xs (t + 2))) r hr) q1341 q1342 q125 q1343 (by decide +kernel) rfl rfl rfl rfl (bk (by omega)) (bk (by omega)) dL_law_1857 (fun v1857 => [.int v1857]) (fun _ => rfl) (fun v1857 M1857 => ?_) (fun e M9 => jh_none)
  refine j_istore hC [(5, .int v1857), (4, .int (nI t)), (3, .ref (gadr (XG X) (7, 0, 0))), (2, .ref (gadr (XG X) (5, 0, 0))), (1, .ref (gadr (XG X) (4, 0, 0))), (0, .ref b)] hnl dL_law_1860 rfl rfl ?_
  refine j_aload_n hC 3 dL_law_1862 rfl ?_
  refine j_scr (j := 1) hC hS hL (by omega) 5 1 rfl rfl dL_law_1863 dL_law_1864 dL_law_1866 (by decide) dL_law_1867 dL_law_1868 ?_
  refine j_scr (j := 2) hC hS hL (by omega) 5 1 rfl rfl dL_law_1869 dL_law_1870 dL_law_1872 (by decide) dL_law_1873 dL_law_1874 ?_
  refine j_bool hC dL_law_1875 dL_law_1878 dL_law_1879 dL_law_1882 ?_
  refine j_lm lm_bd ?_
  refine j_callV (nA := 2) (rest := []) hC [.int (xs (t + 1)), .int (bz (xs (t + 2)))] rfl (fun r hr => mX8_rests (XL X) (XG X) hM fu (XD X) M1857 (xs (t + 1)) (bz (xs (t + 2))) r hr) q1961 q1962 q1963 q136 q1964 (dmMo hM rfl) rfl rfl (by decide +kernel) rfl rfl rfl rfl (bk (by omega)) (bk (by omega)) dL_law_1883 (fun v1883 => [.int v1883]) (fun _ => rfl) (fun v1883 M1883 => ?_)
  refine j_istore hC [(6, .int v1883), (5, .int v1857), (4, .int (nI t)), (3, .ref (gadr (XG X) (7, 0, 0))), (2, .ref (gadr (XG X) (5, 0, 0))), (1, .ref (gadr (XG X) (4, 0, 0))), (0, .ref b)] hnl dL_law_1886 rfl rfl ?_
  refine j_aload_n hC 4 dL_law_1888 rfl ?_
  refine j_lm lm_bd ?_
  refine j_callV (nA := 0) (rest := []) hC [] rfl (fun r hr => mX8_thrown (XL X) (XG X) hM fu (XD X) M1883 r hr) q1454 q1455 q1456 q136 q1457 (dmMo hM rfl) rfl rfl (by decide +kernel) rfl rfl rfl rfl (bk (by omega)) (bk (by omega)) dL_law_1889 (fun v1889 => [.int v1889]) (fun _ => rfl) (fun v1889 M1889 => ?_)
  refine j_iload hC 1 dL_law_1892 rfl ?_
  refine j_lm lm_ite ?_
  refine j_icmp_eq (tgt := 1899) hC dL_law_1894 (by decide) (fun h1894 => ?_) (fun h1894 => ?_)
  · refine j_iload hC 1 dL_law_1899 rfl ?_
    refine j_lm lm_ite ?_
    refine j_if_ne (tgt := 1916) hC dL_law_1901 (by decide) (fun h1901 => ?_) (fun h1901 => ?_)
    · refine j_lm lm_ite ?_
      refine j_cmpOut hC hX 3 0 rfl rfl dL_law_1904 dL_law_1905 dL_law_1906 dL_law_1907 dL_law_1909 dL_law_1910 dL_law_1911 ?_ ?_
      · refine j_goto (tgt := 2845) hC dL_law_1916 (by decide) ?_
        exact j_sub [2, 3, 4, 5, 6] rfl (hk0 M1889 _ _ _ (by omega) (by omega))
      · refine j_lm lm_some ?_
        exact hF _ _ _ _ _ _
    · refine j_goto (tgt := 2845) hC dL_law_1916 (by decide) ?_
      exact j_sub [2, 3, 4, 5, 6] rfl (hk0 M1889 _ _ _ (by omega) (by omega))
  · refine j_lm lm_some ?_
    exact hF _ _ _ _ _ _
set_option linter.unusedVariables false in
noncomputable def FL_25 (fu : Nat) (D : List LDen) (kn : List LDen → Mem → Option (PR Int32)) (w : Nat → Int32) (M : Mem) : Option (PR Int32) :=
  tick 2 (bh (FX0_fair fu D M (w 1)) (fun v1927 M1927 => bd (FX8_fair fu D M1927 (w 1)) (fun v1939 M1939 => bd (FX8_thrown fu D M1939) (fun v1945 M1945 => if v1945 = v1927 then if v1927 = 0 then if M1945 (7, 0, 0) 0 = v1939 then kn D M1945 else some (0, 0, 0, M1945) else kn D M1945 else some (0, 0, 0, M1945)))) (fun _ _ => none))
set_option linter.unusedVariables false in
theorem wL_25 {X : JX} {b L t : Nat} {xs : Nat → Int32} (hC : JC X cL_law RX0 (some .boolean) 8192 104096 603072 7190634) (hX : dmI dmX (XG X)) (hM : dmI dmM (XG X)) (hst : (XL X).stackTraces = false) (hP : gP (XG X) = []) (h80 : gdm (XG X) (8, 0, 0) = false) (h81 : gdm (XG X) (8, 0, 1) = false) (hnl : nLof X = 7) (hS : JSc X b L xs) (hL : L ≤ 384) (ht : t + 6 ≤ L) {Z : PR Int32 → State → Prop} (hZ : ∀ (r : PR Int32) (c : Nat), Z (r.1, r.2.1, c + r.2.2.1, r.2.2.2) = Z r)
    (hFL : ∀ (D : List LDen) (M : Mem) (pc : Nat) (lv : List (Nat × Value)) (st : List Value) (k n : Nat), J (xL D X) Z (some (0, 0, 0, M)) pc lv st M k n) (hF : ∀ (M : Mem) (pc : Nat) (lv : List (Nat × Value)) (st : List Value) (k n : Nat), J X Z (some (0, 0, 0, M)) pc lv st M k n) (fu : Nat) (kn : List LDen → Mem → Option (PR Int32)) (hkn : ∀ (D : List LDen) (M : Mem) (k n m : Nat), k + m ≤ 603072 → n + 8 * m ≤ 7190634 → J (xL D X) Z (lm m (kn D M)) 2845 [(4, .int (nI t)), (3, .ref (gadr (XG X) (7, 0, 0))), (2, .ref (gadr (XG X) (5, 0, 0))), (1, .ref (gadr (XG X) (4, 0, 0))), (0, .ref b)] [] M k n) (hk0 : ∀ (M : Mem) (k n m : Nat), k + m ≤ 603072 → n + 8 * m ≤ 7190634 → J X Z (lm m (kn (XD X) M)) 2845 [(4, .int (nI t)), (3, .ref (gadr (XG X) (7, 0, 0))), (2, .ref (gadr (XG X) (5, 0, 0))), (1, .ref (gadr (XG X) (4, 0, 0))), (0, .ref b)] [] M k n) {k n m : Nat} (hk : k + m ≤ 603072) (hn : n + 8 * m ≤ 7190634) (M : Mem) : J X Z (lm m (FL_25 fu (XD X) kn (fun j => xs (t + j)) M)) 1919 [(4, .int (nI t)), (3, .ref (gadr (XG X) (7, 0, 0))), (2, .ref (gadr (XG X) (5, 0, 0))), (1, .ref (gadr (XG X) (4, 0, 0))), (0, .ref b)] [] M k n := by
  unfold FL_25
  refine j_aload_n hC 3 dL_law_1919 rfl ?_
  refine j_scr (j := 1) hC hS hL (by omega) 4 0 rfl rfl dL_law_1920 dL_law_1921 dL_law_1923 (by decide) dL_law_1924 dL_law_1925 ?_
  refine j_aload_n hC 1 dL_law_1926 rfl ?_
  refine jm_tickG hZ (fun hc1927 => ?_)
  refine j_lm lm_bhN ?_
  refine j_callSHW (nA := 3) (rest := []) hC [.ref (gadr (XG X) (4, 0, 0)), .int (xs (t + 1)), .ref (gadr (XG X) (7, 0, 0))] rfl (fun r hr => mX0_fair (XL X) hst (XG X) hX fu (XD X) M (xs (t + 1)) r hr) q1352 q1353 q125 q1354 (by decide +kernel) rfl rfl rfl rfl (bk (by omega)) (bk (by omega)) dL_law_1927 (fun v1927 => [.int v1927]) (fun _ => rfl) (fun v1927 M1927 => ?_) (fun e M9 => jh_none)
  refine j_istore hC [(5, .int v1927), (4, .int (nI t)), (3, .ref (gadr (XG X) (7, 0, 0))), (2, .ref (gadr (XG X) (5, 0, 0))), (1, .ref (gadr (XG X) (4, 0, 0))), (0, .ref b)] hnl dL_law_1930 rfl rfl ?_
  refine j_aload_n hC 3 dL_law_1932 rfl ?_
  refine j_scr (j := 1) hC hS hL (by omega) 5 1 rfl rfl dL_law_1933 dL_law_1934 dL_law_1936 (by decide) dL_law_1937 dL_law_1938 ?_
  refine j_lm lm_bd ?_
  refine j_callV (nA := 1) (rest := []) hC [.int (xs (t + 1))] rfl (fun r hr => mX8_fair (XL X) (XG X) hM fu (XD X) M1927 (xs (t + 1)) r hr) q1969 q1970 q1971 q136 q1972 (dmMo hM rfl) rfl rfl (by decide +kernel) rfl rfl rfl rfl (bk (by omega)) (bk (by omega)) dL_law_1939 (fun v1939 => [.int v1939]) (fun _ => rfl) (fun v1939 M1939 => ?_)
  refine j_istore hC [(6, .int v1939), (5, .int v1927), (4, .int (nI t)), (3, .ref (gadr (XG X) (7, 0, 0))), (2, .ref (gadr (XG X) (5, 0, 0))), (1, .ref (gadr (XG X) (4, 0, 0))), (0, .ref b)] hnl dL_law_1942 rfl rfl ?_
  refine j_aload_n hC 4 dL_law_1944 rfl ?_
  refine j_lm lm_bd ?_
  refine j_callV (nA := 0) (rest := []) hC [] rfl (fun r hr => mX8_thrown (XL X) (XG X) hM fu (XD X) M1939 r hr) q1454 q1455 q1456 q136 q1457 (dmMo hM rfl) rfl rfl (by decide +kernel) rfl rfl rfl rfl (bk (by omega)) (bk (by omega)) dL_law_1945 (fun v1945 => [.int v1945]) (fun _ => rfl) (fun v1945 M1945 => ?_)
  refine j_iload hC 1 dL_law_1948 rfl ?_
  refine j_lm lm_ite ?_
  refine j_icmp_eq (tgt := 1955) hC dL_law_1950 (by decide) (fun h1950 => ?_) (fun h1950 => ?_)
  · refine j_iload hC 1 dL_law_1955 rfl ?_
    refine j_lm lm_ite ?_
    refine j_if_ne (tgt := 1972) hC dL_law_1957 (by decide) (fun h1957 => ?_) (fun h1957 => ?_)
    · refine j_lm lm_ite ?_
      refine j_cmpOut hC hX 3 0 rfl rfl dL_law_1960 dL_law_1961 dL_law_1962 dL_law_1963 dL_law_1965 dL_law_1966 dL_law_1967 ?_ ?_
      · refine j_goto (tgt := 2845) hC dL_law_1972 (by decide) ?_
        exact j_sub [2, 3, 4, 5, 6] rfl (hk0 M1945 _ _ _ (by omega) (by omega))
      · refine j_lm lm_some ?_
        exact hF _ _ _ _ _ _
    · refine j_goto (tgt := 2845) hC dL_law_1972 (by decide) ?_
      exact j_sub [2, 3, 4, 5, 6] rfl (hk0 M1945 _ _ _ (by omega) (by omega))
  · refine j_lm lm_some ?_
    exact hF _ _ _ _ _ _
set_option linter.unusedVariables false in
noncomputable def FL_26 (fu : Nat) (D : List LDen) (kn : List LDen → Mem → Option (PR Int32)) (w : Nat → Int32) (M : Mem) : Option (PR Int32) :=
  tick 1 (bh (FX0_songs fu D M (bz (w 1))) (fun v1991 M1991 => bd (FX8_songs fu D M1991 (bz (w 1))) (fun v2011 M2011 => bd (FX8_thrown fu D M2011) (fun v2017 M2017 => if v2017 = v1991 then if v1991 = 0 then if M2017 (7, 0, 0) 0 = v2011 then kn D M2017 else some (0, 0, 0, M2017) else kn D M2017 else some (0, 0, 0, M2017)))) (fun _ _ => none))
set_option linter.unusedVariables false in
theorem wL_26 {X : JX} {b L t : Nat} {xs : Nat → Int32} (hC : JC X cL_law RX0 (some .boolean) 8192 104096 603072 7190634) (hX : dmI dmX (XG X)) (hM : dmI dmM (XG X)) (hst : (XL X).stackTraces = false) (hP : gP (XG X) = []) (h80 : gdm (XG X) (8, 0, 0) = false) (h81 : gdm (XG X) (8, 0, 1) = false) (hnl : nLof X = 7) (hS : JSc X b L xs) (hL : L ≤ 384) (ht : t + 6 ≤ L) {Z : PR Int32 → State → Prop} (hZ : ∀ (r : PR Int32) (c : Nat), Z (r.1, r.2.1, c + r.2.2.1, r.2.2.2) = Z r)
    (hFL : ∀ (D : List LDen) (M : Mem) (pc : Nat) (lv : List (Nat × Value)) (st : List Value) (k n : Nat), J (xL D X) Z (some (0, 0, 0, M)) pc lv st M k n) (hF : ∀ (M : Mem) (pc : Nat) (lv : List (Nat × Value)) (st : List Value) (k n : Nat), J X Z (some (0, 0, 0, M)) pc lv st M k n) (fu : Nat) (kn : List LDen → Mem → Option (PR Int32)) (hkn : ∀ (D : List LDen) (M : Mem) (k n m : Nat), k + m ≤ 603072 → n + 8 * m ≤ 7190634 → J (xL D X) Z (lm m (kn D M)) 2845 [(4, .int (nI t)), (3, .ref (gadr (XG X) (7, 0, 0))), (2, .ref (gadr (XG X) (5, 0, 0))), (1, .ref (gadr (XG X) (4, 0, 0))), (0, .ref b)] [] M k n) (hk0 : ∀ (M : Mem) (k n m : Nat), k + m ≤ 603072 → n + 8 * m ≤ 7190634 → J X Z (lm m (kn (XD X) M)) 2845 [(4, .int (nI t)), (3, .ref (gadr (XG X) (7, 0, 0))), (2, .ref (gadr (XG X) (5, 0, 0))), (1, .ref (gadr (XG X) (4, 0, 0))), (0, .ref b)] [] M k n) {k n m : Nat} (hk : k + m ≤ 603072) (hn : n + 8 * m ≤ 7190634) (M : Mem) : J X Z (lm m (FL_26 fu (XD X) kn (fun j => xs (t + j)) M)) 1975 [(4, .int (nI t)), (3, .ref (gadr (XG X) (7, 0, 0))), (2, .ref (gadr (XG X) (5, 0, 0))), (1, .ref (gadr (XG X) (4, 0, 0))), (0, .ref b)] [] M k n := by
  unfold FL_26
  refine j_aload_n hC 3 dL_law_1975 rfl ?_
  refine j_scr (j := 1) hC hS hL (by omega) 4 0 rfl rfl dL_law_1976 dL_law_1977 dL_law_1979 (by decide) dL_law_1980 dL_law_1981 ?_
  refine j_bool hC dL_law_1982 dL_law_1985 dL_law_1986 dL_law_1989 ?_
  refine j_aload_n hC 1 dL_law_1990 rfl ?_
  refine jm_tickG hZ (fun hc1991 => ?_)
  refine j_lm lm_bhN ?_
  refine j_callSHW (nA := 3) (rest := []) hC [.ref (gadr (XG X) (4, 0, 0)), .int (bz (xs (t + 1))), .ref (gadr (XG X) (7, 0, 0))] rfl (fun r hr => mX0_songs (XL X) hst (XG X) hX fu (XD X) M (bz (xs (t + 1))) r hr) q1362 q1363 q125 q1364 (by decide +kernel) rfl rfl rfl rfl (bk (by omega)) (bk (by omega)) dL_law_1991 (fun v1991 => [.int v1991]) (fun _ => rfl) (fun v1991 M1991 => ?_) (fun e M9 => jh_none)
  refine j_istore hC [(5, .int v1991), (4, .int (nI t)), (3, .ref (gadr (XG X) (7, 0, 0))), (2, .ref (gadr (XG X) (5, 0, 0))), (1, .ref (gadr (XG X) (4, 0, 0))), (0, .ref b)] hnl dL_law_1994 rfl rfl ?_
  refine j_aload_n hC 3 dL_law_1996 rfl ?_
  refine j_scr (j := 1) hC hS hL (by omega) 5 1 rfl rfl dL_law_1997 dL_law_1998 dL_law_2000 (by decide) dL_law_2001 dL_law_2002 ?_
  refine j_bool hC dL_law_2003 dL_law_2006 dL_law_2007 dL_law_2010 ?_
  refine j_lm lm_bd ?_
  refine j_callV (nA := 1) (rest := []) hC [.int (bz (xs (t + 1)))] rfl (fun r hr => mX8_songs (XL X) (XG X) hM fu (XD X) M1991 (bz (xs (t + 1))) r hr) q2028 q2029 q2030 q136 q2031 (dmMo hM rfl) rfl rfl (by decide +kernel) rfl rfl rfl rfl (bk (by omega)) (bk (by omega)) dL_law_2011 (fun v2011 => [.int v2011]) (fun _ => rfl) (fun v2011 M2011 => ?_)
  refine j_istore hC [(6, .int v2011), (5, .int v1991), (4, .int (nI t)), (3, .ref (gadr (XG X) (7, 0, 0))), (2, .ref (gadr (XG X) (5, 0, 0))), (1, .ref (gadr (XG X) (4, 0, 0))), (0, .ref b)] hnl dL_law_2014 rfl rfl ?_
  refine j_aload_n hC 4 dL_law_2016 rfl ?_
  refine j_lm lm_bd ?_
  refine j_callV (nA := 0) (rest := []) hC [] rfl (fun r hr => mX8_thrown (XL X) (XG X) hM fu (XD X) M2011 r hr) q1454 q1455 q1456 q136 q1457 (dmMo hM rfl) rfl rfl (by decide +kernel) rfl rfl rfl rfl (bk (by omega)) (bk (by omega)) dL_law_2017 (fun v2017 => [.int v2017]) (fun _ => rfl) (fun v2017 M2017 => ?_)
  refine j_iload hC 1 dL_law_2020 rfl ?_
  refine j_lm lm_ite ?_
  refine j_icmp_eq (tgt := 2027) hC dL_law_2022 (by decide) (fun h2022 => ?_) (fun h2022 => ?_)
  · refine j_iload hC 1 dL_law_2027 rfl ?_
    refine j_lm lm_ite ?_
    refine j_if_ne (tgt := 2044) hC dL_law_2029 (by decide) (fun h2029 => ?_) (fun h2029 => ?_)
    · refine j_lm lm_ite ?_
      refine j_cmpOut hC hX 3 0 rfl rfl dL_law_2032 dL_law_2033 dL_law_2034 dL_law_2035 dL_law_2037 dL_law_2038 dL_law_2039 ?_ ?_
      · refine j_goto (tgt := 2845) hC dL_law_2044 (by decide) ?_
        exact j_sub [2, 3, 4, 5, 6] rfl (hk0 M2017 _ _ _ (by omega) (by omega))
      · refine j_lm lm_some ?_
        exact hF _ _ _ _ _ _
    · refine j_goto (tgt := 2845) hC dL_law_2044 (by decide) ?_
      exact j_sub [2, 3, 4, 5, 6] rfl (hk0 M2017 _ _ _ (by omega) (by omega))
  · refine j_lm lm_some ?_
    exact hF _ _ _ _ _ _
set_option linter.unusedVariables false in
noncomputable def FL_27 (fu : Nat) (D : List LDen) (kn : List LDen → Mem → Option (PR Int32)) (w : Nat → Int32) (M : Mem) : Option (PR Int32) :=
  tick 1 (bh (FX0_ask fu D M) (fun v2049 M2049 => bd (FX8_ask fu D M2049) (fun v2055 M2055 => bd (FX8_thrown fu D M2055) (fun v2061 M2061 => if v2061 = v2049 then if v2049 = 0 then if M2061 (7, 0, 0) 0 = v2055 then kn D M2061 else some (0, 0, 0, M2061) else kn D M2061 else some (0, 0, 0, M2061)))) (fun _ _ => none))
set_option linter.unusedVariables false in
theorem wL_27 {X : JX} {b L t : Nat} {xs : Nat → Int32} (hC : JC X cL_law RX0 (some .boolean) 8192 104096 603072 7190634) (hX : dmI dmX (XG X)) (hM : dmI dmM (XG X)) (hst : (XL X).stackTraces = false) (hP : gP (XG X) = []) (h80 : gdm (XG X) (8, 0, 0) = false) (h81 : gdm (XG X) (8, 0, 1) = false) (hnl : nLof X = 7) (hS : JSc X b L xs) (hL : L ≤ 384) (ht : t + 6 ≤ L) {Z : PR Int32 → State → Prop} (hZ : ∀ (r : PR Int32) (c : Nat), Z (r.1, r.2.1, c + r.2.2.1, r.2.2.2) = Z r)
    (hFL : ∀ (D : List LDen) (M : Mem) (pc : Nat) (lv : List (Nat × Value)) (st : List Value) (k n : Nat), J (xL D X) Z (some (0, 0, 0, M)) pc lv st M k n) (hF : ∀ (M : Mem) (pc : Nat) (lv : List (Nat × Value)) (st : List Value) (k n : Nat), J X Z (some (0, 0, 0, M)) pc lv st M k n) (fu : Nat) (kn : List LDen → Mem → Option (PR Int32)) (hkn : ∀ (D : List LDen) (M : Mem) (k n m : Nat), k + m ≤ 603072 → n + 8 * m ≤ 7190634 → J (xL D X) Z (lm m (kn D M)) 2845 [(4, .int (nI t)), (3, .ref (gadr (XG X) (7, 0, 0))), (2, .ref (gadr (XG X) (5, 0, 0))), (1, .ref (gadr (XG X) (4, 0, 0))), (0, .ref b)] [] M k n) (hk0 : ∀ (M : Mem) (k n m : Nat), k + m ≤ 603072 → n + 8 * m ≤ 7190634 → J X Z (lm m (kn (XD X) M)) 2845 [(4, .int (nI t)), (3, .ref (gadr (XG X) (7, 0, 0))), (2, .ref (gadr (XG X) (5, 0, 0))), (1, .ref (gadr (XG X) (4, 0, 0))), (0, .ref b)] [] M k n) {k n m : Nat} (hk : k + m ≤ 603072) (hn : n + 8 * m ≤ 7190634) (M : Mem) : J X Z (lm m (FL_27 fu (XD X) kn (fun j => xs (t + j)) M)) 2047 [(4, .int (nI t)), (3, .ref (gadr (XG X) (7, 0, 0))), (2, .ref (gadr (XG X) (5, 0, 0))), (1, .ref (gadr (XG X) (4, 0, 0))), (0, .ref b)] [] M k n := by
  unfold FL_27
  refine j_aload_n hC 3 dL_law_2047 rfl ?_
  refine j_aload_n hC 1 dL_law_2048 rfl ?_
  refine jm_tickG hZ (fun hc2049 => ?_)
  refine j_lm lm_bhN ?_
  refine j_callSHW (nA := 2) (rest := []) hC [.ref (gadr (XG X) (4, 0, 0)), .ref (gadr (XG X) (7, 0, 0))] rfl (fun r hr => mX0_ask (XL X) hst (XG X) hX fu (XD X) M r hr) q1377 q1378 q125 q1379 (by decide +kernel) rfl rfl rfl rfl (bk (by omega)) (bk (by omega)) dL_law_2049 (fun v2049 => [.int v2049]) (fun _ => rfl) (fun v2049 M2049 => ?_) (fun e M9 => jh_none)
  refine j_istore hC [(5, .int v2049), (4, .int (nI t)), (3, .ref (gadr (XG X) (7, 0, 0))), (2, .ref (gadr (XG X) (5, 0, 0))), (1, .ref (gadr (XG X) (4, 0, 0))), (0, .ref b)] hnl dL_law_2052 rfl rfl ?_
  refine j_aload_n hC 3 dL_law_2054 rfl ?_
  refine j_lm lm_bd ?_
  refine j_callV (nA := 0) (rest := []) hC [] rfl (fun r hr => mX8_ask (XL X) (XG X) hM fu (XD X) M2049 r hr) q2044 q2045 q2046 q136 q2047 (dmMo hM rfl) rfl rfl (by decide +kernel) rfl rfl rfl rfl (bk (by omega)) (bk (by omega)) dL_law_2055 (fun v2055 => [.int v2055]) (fun _ => rfl) (fun v2055 M2055 => ?_)
  refine j_istore hC [(6, .int v2055), (5, .int v2049), (4, .int (nI t)), (3, .ref (gadr (XG X) (7, 0, 0))), (2, .ref (gadr (XG X) (5, 0, 0))), (1, .ref (gadr (XG X) (4, 0, 0))), (0, .ref b)] hnl dL_law_2058 rfl rfl ?_
  refine j_aload_n hC 4 dL_law_2060 rfl ?_
  refine j_lm lm_bd ?_
  refine j_callV (nA := 0) (rest := []) hC [] rfl (fun r hr => mX8_thrown (XL X) (XG X) hM fu (XD X) M2055 r hr) q1454 q1455 q1456 q136 q1457 (dmMo hM rfl) rfl rfl (by decide +kernel) rfl rfl rfl rfl (bk (by omega)) (bk (by omega)) dL_law_2061 (fun v2061 => [.int v2061]) (fun _ => rfl) (fun v2061 M2061 => ?_)
  refine j_iload hC 1 dL_law_2064 rfl ?_
  refine j_lm lm_ite ?_
  refine j_icmp_eq (tgt := 2071) hC dL_law_2066 (by decide) (fun h2066 => ?_) (fun h2066 => ?_)
  · refine j_iload hC 1 dL_law_2071 rfl ?_
    refine j_lm lm_ite ?_
    refine j_if_ne (tgt := 2088) hC dL_law_2073 (by decide) (fun h2073 => ?_) (fun h2073 => ?_)
    · refine j_lm lm_ite ?_
      refine j_cmpOut hC hX 3 0 rfl rfl dL_law_2076 dL_law_2077 dL_law_2078 dL_law_2079 dL_law_2081 dL_law_2082 dL_law_2083 ?_ ?_
      · refine j_goto (tgt := 2845) hC dL_law_2088 (by decide) ?_
        exact j_sub [2, 3, 4, 5, 6] rfl (hk0 M2061 _ _ _ (by omega) (by omega))
      · refine j_lm lm_some ?_
        exact hF _ _ _ _ _ _
    · refine j_goto (tgt := 2845) hC dL_law_2088 (by decide) ?_
      exact j_sub [2, 3, 4, 5, 6] rfl (hk0 M2061 _ _ _ (by omega) (by omega))
  · refine j_lm lm_some ?_
    exact hF _ _ _ _ _ _
set_option linter.unusedVariables false in
noncomputable def FL_28 (fu : Nat) (D : List LDen) (kn : List LDen → Mem → Option (PR Int32)) (w : Nat → Int32) (M : Mem) : Option (PR Int32) :=
  tick 2 (bh (FX0_tell fu D M (w 1) (w 2)) (fun v2105 M2105 => bd (FX8_tell fu D M2105 (w 1) (w 2)) (fun v2123 M2123 => bd (FX8_thrown fu D M2123) (fun v2129 M2129 => if v2129 = v2105 then if v2105 = 0 then if M2129 (7, 0, 0) 0 = v2123 then kn D M2129 else some (0, 0, 0, M2129) else kn D M2129 else some (0, 0, 0, M2129)))) (fun _ _ => none))
set_option linter.unusedVariables false in
theorem wL_28 {X : JX} {b L t : Nat} {xs : Nat → Int32} (hC : JC X cL_law RX0 (some .boolean) 8192 104096 603072 7190634) (hX : dmI dmX (XG X)) (hM : dmI dmM (XG X)) (hst : (XL X).stackTraces = false) (hP : gP (XG X) = []) (h80 : gdm (XG X) (8, 0, 0) = false) (h81 : gdm (XG X) (8, 0, 1) = false) (hnl : nLof X = 7) (hS : JSc X b L xs) (hL : L ≤ 384) (ht : t + 6 ≤ L) {Z : PR Int32 → State → Prop} (hZ : ∀ (r : PR Int32) (c : Nat), Z (r.1, r.2.1, c + r.2.2.1, r.2.2.2) = Z r)
    (hFL : ∀ (D : List LDen) (M : Mem) (pc : Nat) (lv : List (Nat × Value)) (st : List Value) (k n : Nat), J (xL D X) Z (some (0, 0, 0, M)) pc lv st M k n) (hF : ∀ (M : Mem) (pc : Nat) (lv : List (Nat × Value)) (st : List Value) (k n : Nat), J X Z (some (0, 0, 0, M)) pc lv st M k n) (fu : Nat) (kn : List LDen → Mem → Option (PR Int32)) (hkn : ∀ (D : List LDen) (M : Mem) (k n m : Nat), k + m ≤ 603072 → n + 8 * m ≤ 7190634 → J (xL D X) Z (lm m (kn D M)) 2845 [(4, .int (nI t)), (3, .ref (gadr (XG X) (7, 0, 0))), (2, .ref (gadr (XG X) (5, 0, 0))), (1, .ref (gadr (XG X) (4, 0, 0))), (0, .ref b)] [] M k n) (hk0 : ∀ (M : Mem) (k n m : Nat), k + m ≤ 603072 → n + 8 * m ≤ 7190634 → J X Z (lm m (kn (XD X) M)) 2845 [(4, .int (nI t)), (3, .ref (gadr (XG X) (7, 0, 0))), (2, .ref (gadr (XG X) (5, 0, 0))), (1, .ref (gadr (XG X) (4, 0, 0))), (0, .ref b)] [] M k n) {k n m : Nat} (hk : k + m ≤ 603072) (hn : n + 8 * m ≤ 7190634) (M : Mem) : J X Z (lm m (FL_28 fu (XD X) kn (fun j => xs (t + j)) M)) 2091 [(4, .int (nI t)), (3, .ref (gadr (XG X) (7, 0, 0))), (2, .ref (gadr (XG X) (5, 0, 0))), (1, .ref (gadr (XG X) (4, 0, 0))), (0, .ref b)] [] M k n := by
  unfold FL_28
  refine j_aload_n hC 3 dL_law_2091 rfl ?_
  refine j_scr (j := 1) hC hS hL (by omega) 4 0 rfl rfl dL_law_2092 dL_law_2093 dL_law_2095 (by decide) dL_law_2096 dL_law_2097 ?_
  refine j_scr (j := 2) hC hS hL (by omega) 4 0 rfl rfl dL_law_2098 dL_law_2099 dL_law_2101 (by decide) dL_law_2102 dL_law_2103 ?_
  refine j_aload_n hC 1 dL_law_2104 rfl ?_
  refine jm_tickG hZ (fun hc2105 => ?_)
  refine j_lm lm_bhN ?_
  refine j_callSHW (nA := 4) (rest := []) hC [.ref (gadr (XG X) (4, 0, 0)), .int (xs (t + 1)), .int (xs (t + 2)), .ref (gadr (XG X) (7, 0, 0))] rfl (fun r hr => mX0_tell (XL X) hst (XG X) hX fu (XD X) M (xs (t + 1)) (xs (t + 2)) r hr) q1385 q1386 q125 q1387 (by decide +kernel) rfl rfl rfl rfl (bk (by omega)) (bk (by omega)) dL_law_2105 (fun v2105 => [.int v2105]) (fun _ => rfl) (fun v2105 M2105 => ?_) (fun e M9 => jh_none)
  refine j_istore hC [(5, .int v2105), (4, .int (nI t)), (3, .ref (gadr (XG X) (7, 0, 0))), (2, .ref (gadr (XG X) (5, 0, 0))), (1, .ref (gadr (XG X) (4, 0, 0))), (0, .ref b)] hnl dL_law_2108 rfl rfl ?_
  refine j_aload_n hC 3 dL_law_2110 rfl ?_
  refine j_scr (j := 1) hC hS hL (by omega) 5 1 rfl rfl dL_law_2111 dL_law_2112 dL_law_2114 (by decide) dL_law_2115 dL_law_2116 ?_
  refine j_scr (j := 2) hC hS hL (by omega) 5 1 rfl rfl dL_law_2117 dL_law_2118 dL_law_2120 (by decide) dL_law_2121 dL_law_2122 ?_
  refine j_lm lm_bd ?_
  refine j_callV (nA := 2) (rest := []) hC [.int (xs (t + 1)), .int (xs (t + 2))] rfl (fun r hr => mX8_tell (XL X) (XG X) hM fu (XD X) M2105 (xs (t + 1)) (xs (t + 2)) r hr) q1846 q1847 q1848 q136 q1849 (dmMo hM rfl) rfl rfl (by decide +kernel) rfl rfl rfl rfl (bk (by omega)) (bk (by omega)) dL_law_2123 (fun v2123 => [.int v2123]) (fun _ => rfl) (fun v2123 M2123 => ?_)
  refine j_istore hC [(6, .int v2123), (5, .int v2105), (4, .int (nI t)), (3, .ref (gadr (XG X) (7, 0, 0))), (2, .ref (gadr (XG X) (5, 0, 0))), (1, .ref (gadr (XG X) (4, 0, 0))), (0, .ref b)] hnl dL_law_2126 rfl rfl ?_
  refine j_aload_n hC 4 dL_law_2128 rfl ?_
  refine j_lm lm_bd ?_
  refine j_callV (nA := 0) (rest := []) hC [] rfl (fun r hr => mX8_thrown (XL X) (XG X) hM fu (XD X) M2123 r hr) q1454 q1455 q1456 q136 q1457 (dmMo hM rfl) rfl rfl (by decide +kernel) rfl rfl rfl rfl (bk (by omega)) (bk (by omega)) dL_law_2129 (fun v2129 => [.int v2129]) (fun _ => rfl) (fun v2129 M2129 => ?_)
  refine j_iload hC 1 dL_law_2132 rfl ?_
  refine j_lm lm_ite ?_
  refine j_icmp_eq (tgt := 2139) hC dL_law_2134 (by decide) (fun h2134 => ?_) (fun h2134 => ?_)
  · refine j_iload hC 1 dL_law_2139 rfl ?_
    refine j_lm lm_ite ?_
    refine j_if_ne (tgt := 2156) hC dL_law_2141 (by decide) (fun h2141 => ?_) (fun h2141 => ?_)
    · refine j_lm lm_ite ?_
      refine j_cmpOut hC hX 3 0 rfl rfl dL_law_2144 dL_law_2145 dL_law_2146 dL_law_2147 dL_law_2149 dL_law_2150 dL_law_2151 ?_ ?_
      · refine j_goto (tgt := 2845) hC dL_law_2156 (by decide) ?_
        exact j_sub [2, 3, 4, 5, 6] rfl (hk0 M2129 _ _ _ (by omega) (by omega))
      · refine j_lm lm_some ?_
        exact hF _ _ _ _ _ _
    · refine j_goto (tgt := 2845) hC dL_law_2156 (by decide) ?_
      exact j_sub [2, 3, 4, 5, 6] rfl (hk0 M2129 _ _ _ (by omega) (by omega))
  · refine j_lm lm_some ?_
    exact hF _ _ _ _ _ _
set_option linter.unusedVariables false in
noncomputable def FL_29 (fu : Nat) (D : List LDen) (kn : List LDen → Mem → Option (PR Int32)) (w : Nat → Int32) (M : Mem) : Option (PR Int32) :=
  bd (FX1_alike fu D M) (fun v2160 M2160 => bd (FX8_alike fu D M2160) (fun v2164 M2164 => if v2160 = v2164 then kn D M2164 else some (0, 0, 0, M2164)))
set_option linter.unusedVariables false in
theorem wL_29 {X : JX} {b L t : Nat} {xs : Nat → Int32} (hC : JC X cL_law RX0 (some .boolean) 8192 104096 603072 7190634) (hX : dmI dmX (XG X)) (hM : dmI dmM (XG X)) (hst : (XL X).stackTraces = false) (hP : gP (XG X) = []) (h80 : gdm (XG X) (8, 0, 0) = false) (h81 : gdm (XG X) (8, 0, 1) = false) (hnl : nLof X = 7) (hS : JSc X b L xs) (hL : L ≤ 384) (ht : t + 6 ≤ L) {Z : PR Int32 → State → Prop} (hZ : ∀ (r : PR Int32) (c : Nat), Z (r.1, r.2.1, c + r.2.2.1, r.2.2.2) = Z r)
    (hFL : ∀ (D : List LDen) (M : Mem) (pc : Nat) (lv : List (Nat × Value)) (st : List Value) (k n : Nat), J (xL D X) Z (some (0, 0, 0, M)) pc lv st M k n) (hF : ∀ (M : Mem) (pc : Nat) (lv : List (Nat × Value)) (st : List Value) (k n : Nat), J X Z (some (0, 0, 0, M)) pc lv st M k n) (fu : Nat) (kn : List LDen → Mem → Option (PR Int32)) (hkn : ∀ (D : List LDen) (M : Mem) (k n m : Nat), k + m ≤ 603072 → n + 8 * m ≤ 7190634 → J (xL D X) Z (lm m (kn D M)) 2845 [(4, .int (nI t)), (3, .ref (gadr (XG X) (7, 0, 0))), (2, .ref (gadr (XG X) (5, 0, 0))), (1, .ref (gadr (XG X) (4, 0, 0))), (0, .ref b)] [] M k n) (hk0 : ∀ (M : Mem) (k n m : Nat), k + m ≤ 603072 → n + 8 * m ≤ 7190634 → J X Z (lm m (kn (XD X) M)) 2845 [(4, .int (nI t)), (3, .ref (gadr (XG X) (7, 0, 0))), (2, .ref (gadr (XG X) (5, 0, 0))), (1, .ref (gadr (XG X) (4, 0, 0))), (0, .ref b)] [] M k n) {k n m : Nat} (hk : k + m ≤ 603072) (hn : n + 8 * m ≤ 7190634) (M : Mem) : J X Z (lm m (FL_29 fu (XD X) kn (fun j => xs (t + j)) M)) 2159 [(4, .int (nI t)), (3, .ref (gadr (XG X) (7, 0, 0))), (2, .ref (gadr (XG X) (5, 0, 0))), (1, .ref (gadr (XG X) (4, 0, 0))), (0, .ref b)] [] M k n := by
  unfold FL_29
  refine j_aload_n hC 3 dL_law_2159 rfl ?_
  refine j_lm lm_bd ?_
  refine j_callV (nA := 0) (rest := []) hC [] rfl (fun r hr => mX1_alike (XL X) (XG X) hX fu (XD X) M r hr) q565 q566 q567 q126 q568 (dmY hX rfl) rfl rfl (by decide +kernel) rfl rfl rfl rfl (bk (by omega)) (bk (by omega)) dL_law_2160 (fun v2160 => [.int v2160]) (fun _ => rfl) (fun v2160 M2160 => ?_)
  refine j_aload_n hC 2 dL_law_2163 rfl ?_
  refine j_lm lm_bd ?_
  refine j_callV (nA := 0) (rest := [.int v2160]) hC [] rfl (fun r hr => mX8_alike (XL X) (XG X) hM fu (XD X) M2160 r hr) q1906 q1907 q1908 q136 q1909 (dmMo hM rfl) rfl rfl (by decide +kernel) rfl rfl rfl rfl (bk (by omega)) (bk (by omega)) dL_law_2164 (fun v2164 => [.int v2164, .int v2160]) (fun _ => rfl) (fun v2164 M2164 => ?_)
  refine j_lm lm_ite ?_
  refine j_icmp_eq (tgt := 2845) hC dL_law_2167 (by decide) (fun h2167 => ?_) (fun h2167 => ?_)
  · exact j_sub [0, 1, 2, 3, 4] rfl (hk0 M2164 _ _ _ (by omega) (by omega))
  · refine j_lm lm_some ?_
    exact hF _ _ _ _ _ _
set_option linter.unusedVariables false in
noncomputable def FL_30 (fu : Nat) (D : List LDen) (kn : List LDen → Mem → Option (PR Int32)) (w : Nat → Int32) (M : Mem) : Option (PR Int32) :=
  tick 3 (bh (FX0_lasts fu D M (w 1) (w 2) (w 3)) (fun v2192 M2192 => bd (FX8_lasts fu D M2192 (w 1) (w 2) (w 3)) (fun v2216 M2216 => bd (FX8_thrown fu D M2216) (fun v2222 M2222 => if v2222 = v2192 then if v2192 = 0 then if M2222 (7, 0, 0) 0 = v2216 then kn D M2222 else some (0, 0, 0, M2222) else kn D M2222 else some (0, 0, 0, M2222)))) (fun _ _ => none))
set_option linter.unusedVariables false in
theorem wL_30 {X : JX} {b L t : Nat} {xs : Nat → Int32} (hC : JC X cL_law RX0 (some .boolean) 8192 104096 603072 7190634) (hX : dmI dmX (XG X)) (hM : dmI dmM (XG X)) (hst : (XL X).stackTraces = false) (hP : gP (XG X) = []) (h80 : gdm (XG X) (8, 0, 0) = false) (h81 : gdm (XG X) (8, 0, 1) = false) (hnl : nLof X = 7) (hS : JSc X b L xs) (hL : L ≤ 384) (ht : t + 6 ≤ L) {Z : PR Int32 → State → Prop} (hZ : ∀ (r : PR Int32) (c : Nat), Z (r.1, r.2.1, c + r.2.2.1, r.2.2.2) = Z r)
    (hFL : ∀ (D : List LDen) (M : Mem) (pc : Nat) (lv : List (Nat × Value)) (st : List Value) (k n : Nat), J (xL D X) Z (some (0, 0, 0, M)) pc lv st M k n) (hF : ∀ (M : Mem) (pc : Nat) (lv : List (Nat × Value)) (st : List Value) (k n : Nat), J X Z (some (0, 0, 0, M)) pc lv st M k n) (fu : Nat) (kn : List LDen → Mem → Option (PR Int32)) (hkn : ∀ (D : List LDen) (M : Mem) (k n m : Nat), k + m ≤ 603072 → n + 8 * m ≤ 7190634 → J (xL D X) Z (lm m (kn D M)) 2845 [(4, .int (nI t)), (3, .ref (gadr (XG X) (7, 0, 0))), (2, .ref (gadr (XG X) (5, 0, 0))), (1, .ref (gadr (XG X) (4, 0, 0))), (0, .ref b)] [] M k n) (hk0 : ∀ (M : Mem) (k n m : Nat), k + m ≤ 603072 → n + 8 * m ≤ 7190634 → J X Z (lm m (kn (XD X) M)) 2845 [(4, .int (nI t)), (3, .ref (gadr (XG X) (7, 0, 0))), (2, .ref (gadr (XG X) (5, 0, 0))), (1, .ref (gadr (XG X) (4, 0, 0))), (0, .ref b)] [] M k n) {k n m : Nat} (hk : k + m ≤ 603072) (hn : n + 8 * m ≤ 7190634) (M : Mem) : J X Z (lm m (FL_30 fu (XD X) kn (fun j => xs (t + j)) M)) 2172 [(4, .int (nI t)), (3, .ref (gadr (XG X) (7, 0, 0))), (2, .ref (gadr (XG X) (5, 0, 0))), (1, .ref (gadr (XG X) (4, 0, 0))), (0, .ref b)] [] M k n := by
  unfold FL_30
  refine j_aload_n hC 3 dL_law_2172 rfl ?_
  refine j_scr (j := 1) hC hS hL (by omega) 4 0 rfl rfl dL_law_2173 dL_law_2174 dL_law_2176 (by decide) dL_law_2177 dL_law_2178 ?_
  refine j_scr (j := 2) hC hS hL (by omega) 4 0 rfl rfl dL_law_2179 dL_law_2180 dL_law_2182 (by decide) dL_law_2183 dL_law_2184 ?_
  refine j_scr (j := 3) hC hS hL (by omega) 4 0 rfl rfl dL_law_2185 dL_law_2186 dL_law_2188 (by decide) dL_law_2189 dL_law_2190 ?_
  refine j_aload_n hC 1 dL_law_2191 rfl ?_
  refine jm_tickG hZ (fun hc2192 => ?_)
  refine j_lm lm_bhN ?_
  refine j_callSHW (nA := 5) (rest := []) hC [.ref (gadr (XG X) (4, 0, 0)), .int (xs (t + 1)), .int (xs (t + 2)), .int (xs (t + 3)), .ref (gadr (XG X) (7, 0, 0))] rfl (fun r hr => mX0_lasts (XL X) hst (XG X) hX fu (XD X) M (xs (t + 1)) (xs (t + 2)) (xs (t + 3)) r hr) q1392 q1393 q125 q1394 (by decide +kernel) rfl rfl rfl rfl (bk (by omega)) (bk (by omega)) dL_law_2192 (fun v2192 => [.int v2192]) (fun _ => rfl) (fun v2192 M2192 => ?_) (fun e M9 => jh_none)
  refine j_istore hC [(5, .int v2192), (4, .int (nI t)), (3, .ref (gadr (XG X) (7, 0, 0))), (2, .ref (gadr (XG X) (5, 0, 0))), (1, .ref (gadr (XG X) (4, 0, 0))), (0, .ref b)] hnl dL_law_2195 rfl rfl ?_
  refine j_aload_n hC 3 dL_law_2197 rfl ?_
  refine j_scr (j := 1) hC hS hL (by omega) 5 1 rfl rfl dL_law_2198 dL_law_2199 dL_law_2201 (by decide) dL_law_2202 dL_law_2203 ?_
  refine j_scr (j := 2) hC hS hL (by omega) 5 1 rfl rfl dL_law_2204 dL_law_2205 dL_law_2207 (by decide) dL_law_2208 dL_law_2209 ?_
  refine j_scr (j := 3) hC hS hL (by omega) 5 1 rfl rfl dL_law_2210 dL_law_2211 dL_law_2213 (by decide) dL_law_2214 dL_law_2215 ?_
  refine j_lm lm_bd ?_
  refine j_callV (nA := 3) (rest := []) hC [.int (xs (t + 1)), .int (xs (t + 2)), .int (xs (t + 3))] rfl (fun r hr => mX8_lasts (XL X) (XG X) hM fu (XD X) M2192 (xs (t + 1)) (xs (t + 2)) (xs (t + 3)) r hr) q2048 q2049 q2050 q136 q2051 (dmMo hM rfl) rfl rfl (by decide +kernel) rfl rfl rfl rfl (bk (by omega)) (bk (by omega)) dL_law_2216 (fun v2216 => [.int v2216]) (fun _ => rfl) (fun v2216 M2216 => ?_)
  refine j_istore hC [(6, .int v2216), (5, .int v2192), (4, .int (nI t)), (3, .ref (gadr (XG X) (7, 0, 0))), (2, .ref (gadr (XG X) (5, 0, 0))), (1, .ref (gadr (XG X) (4, 0, 0))), (0, .ref b)] hnl dL_law_2219 rfl rfl ?_
  refine j_aload_n hC 4 dL_law_2221 rfl ?_
  refine j_lm lm_bd ?_
  refine j_callV (nA := 0) (rest := []) hC [] rfl (fun r hr => mX8_thrown (XL X) (XG X) hM fu (XD X) M2216 r hr) q1454 q1455 q1456 q136 q1457 (dmMo hM rfl) rfl rfl (by decide +kernel) rfl rfl rfl rfl (bk (by omega)) (bk (by omega)) dL_law_2222 (fun v2222 => [.int v2222]) (fun _ => rfl) (fun v2222 M2222 => ?_)
  refine j_iload hC 1 dL_law_2225 rfl ?_
  refine j_lm lm_ite ?_
  refine j_icmp_eq (tgt := 2232) hC dL_law_2227 (by decide) (fun h2227 => ?_) (fun h2227 => ?_)
  · refine j_iload hC 1 dL_law_2232 rfl ?_
    refine j_lm lm_ite ?_
    refine j_if_ne (tgt := 2249) hC dL_law_2234 (by decide) (fun h2234 => ?_) (fun h2234 => ?_)
    · refine j_lm lm_ite ?_
      refine j_cmpOut hC hX 3 0 rfl rfl dL_law_2237 dL_law_2238 dL_law_2239 dL_law_2240 dL_law_2242 dL_law_2243 dL_law_2244 ?_ ?_
      · refine j_goto (tgt := 2845) hC dL_law_2249 (by decide) ?_
        exact j_sub [2, 3, 4, 5, 6] rfl (hk0 M2222 _ _ _ (by omega) (by omega))
      · refine j_lm lm_some ?_
        exact hF _ _ _ _ _ _
    · refine j_goto (tgt := 2845) hC dL_law_2249 (by decide) ?_
      exact j_sub [2, 3, 4, 5, 6] rfl (hk0 M2222 _ _ _ (by omega) (by omega))
  · refine j_lm lm_some ?_
    exact hF _ _ _ _ _ _
set_option linter.unusedVariables false in
noncomputable def FL_31 (fu : Nat) (D : List LDen) (kn : List LDen → Mem → Option (PR Int32)) (w : Nat → Int32) (M : Mem) : Option (PR Int32) :=
  bd (FX1_rich fu D M) (fun v2253 M2253 => bd (FX8_rich fu D M2253) (fun v2257 M2257 => if v2253 = v2257 then kn D M2257 else some (0, 0, 0, M2257)))
set_option linter.unusedVariables false in
theorem wL_31 {X : JX} {b L t : Nat} {xs : Nat → Int32} (hC : JC X cL_law RX0 (some .boolean) 8192 104096 603072 7190634) (hX : dmI dmX (XG X)) (hM : dmI dmM (XG X)) (hst : (XL X).stackTraces = false) (hP : gP (XG X) = []) (h80 : gdm (XG X) (8, 0, 0) = false) (h81 : gdm (XG X) (8, 0, 1) = false) (hnl : nLof X = 7) (hS : JSc X b L xs) (hL : L ≤ 384) (ht : t + 6 ≤ L) {Z : PR Int32 → State → Prop} (hZ : ∀ (r : PR Int32) (c : Nat), Z (r.1, r.2.1, c + r.2.2.1, r.2.2.2) = Z r)
    (hFL : ∀ (D : List LDen) (M : Mem) (pc : Nat) (lv : List (Nat × Value)) (st : List Value) (k n : Nat), J (xL D X) Z (some (0, 0, 0, M)) pc lv st M k n) (hF : ∀ (M : Mem) (pc : Nat) (lv : List (Nat × Value)) (st : List Value) (k n : Nat), J X Z (some (0, 0, 0, M)) pc lv st M k n) (fu : Nat) (kn : List LDen → Mem → Option (PR Int32)) (hkn : ∀ (D : List LDen) (M : Mem) (k n m : Nat), k + m ≤ 603072 → n + 8 * m ≤ 7190634 → J (xL D X) Z (lm m (kn D M)) 2845 [(4, .int (nI t)), (3, .ref (gadr (XG X) (7, 0, 0))), (2, .ref (gadr (XG X) (5, 0, 0))), (1, .ref (gadr (XG X) (4, 0, 0))), (0, .ref b)] [] M k n) (hk0 : ∀ (M : Mem) (k n m : Nat), k + m ≤ 603072 → n + 8 * m ≤ 7190634 → J X Z (lm m (kn (XD X) M)) 2845 [(4, .int (nI t)), (3, .ref (gadr (XG X) (7, 0, 0))), (2, .ref (gadr (XG X) (5, 0, 0))), (1, .ref (gadr (XG X) (4, 0, 0))), (0, .ref b)] [] M k n) {k n m : Nat} (hk : k + m ≤ 603072) (hn : n + 8 * m ≤ 7190634) (M : Mem) : J X Z (lm m (FL_31 fu (XD X) kn (fun j => xs (t + j)) M)) 2252 [(4, .int (nI t)), (3, .ref (gadr (XG X) (7, 0, 0))), (2, .ref (gadr (XG X) (5, 0, 0))), (1, .ref (gadr (XG X) (4, 0, 0))), (0, .ref b)] [] M k n := by
  unfold FL_31
  refine j_aload_n hC 3 dL_law_2252 rfl ?_
  refine j_lm lm_bd ?_
  refine j_callV (nA := 0) (rest := []) hC [] rfl (fun r hr => mX1_rich (XL X) (XG X) hX fu (XD X) M r hr) q668 q669 q670 q126 q671 (dmY hX rfl) rfl rfl (by decide +kernel) rfl rfl rfl rfl (bk (by omega)) (bk (by omega)) dL_law_2253 (fun v2253 => [.int v2253]) (fun _ => rfl) (fun v2253 M2253 => ?_)
  refine j_aload_n hC 2 dL_law_2256 rfl ?_
  refine j_lm lm_bd ?_
  refine j_callV (nA := 0) (rest := [.int v2253]) hC [] rfl (fun r hr => mX8_rich (XL X) (XG X) hM fu (XD X) M2253 r hr) q2052 q2053 q2054 q136 q2055 (dmMo hM rfl) rfl rfl (by decide +kernel) rfl rfl rfl rfl (bk (by omega)) (bk (by omega)) dL_law_2257 (fun v2257 => [.int v2257, .int v2253]) (fun _ => rfl) (fun v2257 M2257 => ?_)
  refine j_lm lm_ite ?_
  refine j_icmp_eq (tgt := 2845) hC dL_law_2260 (by decide) (fun h2260 => ?_) (fun h2260 => ?_)
  · exact j_sub [0, 1, 2, 3, 4] rfl (hk0 M2257 _ _ _ (by omega) (by omega))
  · refine j_lm lm_some ?_
    exact hF _ _ _ _ _ _
set_option linter.unusedVariables false in
noncomputable def FL_32 (fu : Nat) (D : List LDen) (kn : List LDen → Mem → Option (PR Int32)) (w : Nat → Int32) (M : Mem) : Option (PR Int32) :=
  tick 1 (bh (FX0_won fu D M (w 1) (bz (w 2))) (fun v2287 M2287 => bd (FX8_won fu D M2287 (w 1) (bz (w 2))) (fun v2313 M2313 => bd (FX8_thrown fu D M2313) (fun v2319 M2319 => if v2319 = v2287 then if v2287 = 0 then if M2319 (7, 0, 0) 0 = v2313 then kn D M2319 else some (0, 0, 0, M2319) else kn D M2319 else some (0, 0, 0, M2319)))) (fun _ _ => none))
set_option linter.unusedVariables false in
theorem wL_32 {X : JX} {b L t : Nat} {xs : Nat → Int32} (hC : JC X cL_law RX0 (some .boolean) 8192 104096 603072 7190634) (hX : dmI dmX (XG X)) (hM : dmI dmM (XG X)) (hst : (XL X).stackTraces = false) (hP : gP (XG X) = []) (h80 : gdm (XG X) (8, 0, 0) = false) (h81 : gdm (XG X) (8, 0, 1) = false) (hnl : nLof X = 7) (hS : JSc X b L xs) (hL : L ≤ 384) (ht : t + 6 ≤ L) {Z : PR Int32 → State → Prop} (hZ : ∀ (r : PR Int32) (c : Nat), Z (r.1, r.2.1, c + r.2.2.1, r.2.2.2) = Z r)
    (hFL : ∀ (D : List LDen) (M : Mem) (pc : Nat) (lv : List (Nat × Value)) (st : List Value) (k n : Nat), J (xL D X) Z (some (0, 0, 0, M)) pc lv st M k n) (hF : ∀ (M : Mem) (pc : Nat) (lv : List (Nat × Value)) (st : List Value) (k n : Nat), J X Z (some (0, 0, 0, M)) pc lv st M k n) (fu : Nat) (kn : List LDen → Mem → Option (PR Int32)) (hkn : ∀ (D : List LDen) (M : Mem) (k n m : Nat), k + m ≤ 603072 → n + 8 * m ≤ 7190634 → J (xL D X) Z (lm m (kn D M)) 2845 [(4, .int (nI t)), (3, .ref (gadr (XG X) (7, 0, 0))), (2, .ref (gadr (XG X) (5, 0, 0))), (1, .ref (gadr (XG X) (4, 0, 0))), (0, .ref b)] [] M k n) (hk0 : ∀ (M : Mem) (k n m : Nat), k + m ≤ 603072 → n + 8 * m ≤ 7190634 → J X Z (lm m (kn (XD X) M)) 2845 [(4, .int (nI t)), (3, .ref (gadr (XG X) (7, 0, 0))), (2, .ref (gadr (XG X) (5, 0, 0))), (1, .ref (gadr (XG X) (4, 0, 0))), (0, .ref b)] [] M k n) {k n m : Nat} (hk : k + m ≤ 603072) (hn : n + 8 * m ≤ 7190634) (M : Mem) : J X Z (lm m (FL_32 fu (XD X) kn (fun j => xs (t + j)) M)) 2265 [(4, .int (nI t)), (3, .ref (gadr (XG X) (7, 0, 0))), (2, .ref (gadr (XG X) (5, 0, 0))), (1, .ref (gadr (XG X) (4, 0, 0))), (0, .ref b)] [] M k n := by
  unfold FL_32
  refine j_aload_n hC 3 dL_law_2265 rfl ?_
  refine j_scr (j := 1) hC hS hL (by omega) 4 0 rfl rfl dL_law_2266 dL_law_2267 dL_law_2269 (by decide) dL_law_2270 dL_law_2271 ?_
  refine j_scr (j := 2) hC hS hL (by omega) 4 0 rfl rfl dL_law_2272 dL_law_2273 dL_law_2275 (by decide) dL_law_2276 dL_law_2277 ?_
  refine j_bool hC dL_law_2278 dL_law_2281 dL_law_2282 dL_law_2285 ?_
  refine j_aload_n hC 1 dL_law_2286 rfl ?_
  refine jm_tickG hZ (fun hc2287 => ?_)
  refine j_lm lm_bhN ?_
  refine j_callSHW (nA := 4) (rest := []) hC [.ref (gadr (XG X) (4, 0, 0)), .int (xs (t + 1)), .int (bz (xs (t + 2))), .ref (gadr (XG X) (7, 0, 0))] rfl (fun r hr => mX0_won (XL X) hst (XG X) hX fu (XD X) M (xs (t + 1)) (bz (xs (t + 2))) r hr) q1399 q1400 q125 q1401 (by decide +kernel) rfl rfl rfl rfl (bk (by omega)) (bk (by omega)) dL_law_2287 (fun v2287 => [.int v2287]) (fun _ => rfl) (fun v2287 M2287 => ?_) (fun e M9 => jh_none)
  refine j_istore hC [(5, .int v2287), (4, .int (nI t)), (3, .ref (gadr (XG X) (7, 0, 0))), (2, .ref (gadr (XG X) (5, 0, 0))), (1, .ref (gadr (XG X) (4, 0, 0))), (0, .ref b)] hnl dL_law_2290 rfl rfl ?_
  refine j_aload_n hC 3 dL_law_2292 rfl ?_
  refine j_scr (j := 1) hC hS hL (by omega) 5 1 rfl rfl dL_law_2293 dL_law_2294 dL_law_2296 (by decide) dL_law_2297 dL_law_2298 ?_
  refine j_scr (j := 2) hC hS hL (by omega) 5 1 rfl rfl dL_law_2299 dL_law_2300 dL_law_2302 (by decide) dL_law_2303 dL_law_2304 ?_
  refine j_bool hC dL_law_2305 dL_law_2308 dL_law_2309 dL_law_2312 ?_
  refine j_lm lm_bd ?_
  refine j_callV (nA := 2) (rest := []) hC [.int (xs (t + 1)), .int (bz (xs (t + 2)))] rfl (fun r hr => mX8_won (XL X) (XG X) hM fu (XD X) M2287 (xs (t + 1)) (bz (xs (t + 2))) r hr) q2060 q2061 q2062 q136 q2063 (dmMo hM rfl) rfl rfl (by decide +kernel) rfl rfl rfl rfl (bk (by omega)) (bk (by omega)) dL_law_2313 (fun v2313 => [.int v2313]) (fun _ => rfl) (fun v2313 M2313 => ?_)
  refine j_istore hC [(6, .int v2313), (5, .int v2287), (4, .int (nI t)), (3, .ref (gadr (XG X) (7, 0, 0))), (2, .ref (gadr (XG X) (5, 0, 0))), (1, .ref (gadr (XG X) (4, 0, 0))), (0, .ref b)] hnl dL_law_2316 rfl rfl ?_
  refine j_aload_n hC 4 dL_law_2318 rfl ?_
  refine j_lm lm_bd ?_
  refine j_callV (nA := 0) (rest := []) hC [] rfl (fun r hr => mX8_thrown (XL X) (XG X) hM fu (XD X) M2313 r hr) q1454 q1455 q1456 q136 q1457 (dmMo hM rfl) rfl rfl (by decide +kernel) rfl rfl rfl rfl (bk (by omega)) (bk (by omega)) dL_law_2319 (fun v2319 => [.int v2319]) (fun _ => rfl) (fun v2319 M2319 => ?_)
  refine j_iload hC 1 dL_law_2322 rfl ?_
  refine j_lm lm_ite ?_
  refine j_icmp_eq (tgt := 2329) hC dL_law_2324 (by decide) (fun h2324 => ?_) (fun h2324 => ?_)
  · refine j_iload hC 1 dL_law_2329 rfl ?_
    refine j_lm lm_ite ?_
    refine j_if_ne (tgt := 2346) hC dL_law_2331 (by decide) (fun h2331 => ?_) (fun h2331 => ?_)
    · refine j_lm lm_ite ?_
      refine j_cmpOut hC hX 3 0 rfl rfl dL_law_2334 dL_law_2335 dL_law_2336 dL_law_2337 dL_law_2339 dL_law_2340 dL_law_2341 ?_ ?_
      · refine j_goto (tgt := 2845) hC dL_law_2346 (by decide) ?_
        exact j_sub [2, 3, 4, 5, 6] rfl (hk0 M2319 _ _ _ (by omega) (by omega))
      · refine j_lm lm_some ?_
        exact hF _ _ _ _ _ _
    · refine j_goto (tgt := 2845) hC dL_law_2346 (by decide) ?_
      exact j_sub [2, 3, 4, 5, 6] rfl (hk0 M2319 _ _ _ (by omega) (by omega))
  · refine j_lm lm_some ?_
    exact hF _ _ _ _ _ _
set_option linter.unusedVariables false in
noncomputable def FL_33 (fu : Nat) (D : List LDen) (kn : List LDen → Mem → Option (PR Int32)) (w : Nat → Int32) (M : Mem) : Option (PR Int32) :=
  bd (FX1_cover fu D M) (fun v2350 M2350 => bd (FX8_cover fu D M2350) (fun v2354 M2354 => if v2350 = v2354 then kn D M2354 else some (0, 0, 0, M2354)))
set_option linter.unusedVariables false in
theorem wL_33 {X : JX} {b L t : Nat} {xs : Nat → Int32} (hC : JC X cL_law RX0 (some .boolean) 8192 104096 603072 7190634) (hX : dmI dmX (XG X)) (hM : dmI dmM (XG X)) (hst : (XL X).stackTraces = false) (hP : gP (XG X) = []) (h80 : gdm (XG X) (8, 0, 0) = false) (h81 : gdm (XG X) (8, 0, 1) = false) (hnl : nLof X = 7) (hS : JSc X b L xs) (hL : L ≤ 384) (ht : t + 6 ≤ L) {Z : PR Int32 → State → Prop} (hZ : ∀ (r : PR Int32) (c : Nat), Z (r.1, r.2.1, c + r.2.2.1, r.2.2.2) = Z r)
    (hFL : ∀ (D : List LDen) (M : Mem) (pc : Nat) (lv : List (Nat × Value)) (st : List Value) (k n : Nat), J (xL D X) Z (some (0, 0, 0, M)) pc lv st M k n) (hF : ∀ (M : Mem) (pc : Nat) (lv : List (Nat × Value)) (st : List Value) (k n : Nat), J X Z (some (0, 0, 0, M)) pc lv st M k n) (fu : Nat) (kn : List LDen → Mem → Option (PR Int32)) (hkn : ∀ (D : List LDen) (M : Mem) (k n m : Nat), k + m ≤ 603072 → n + 8 * m ≤ 7190634 → J (xL D X) Z (lm m (kn D M)) 2845 [(4, .int (nI t)), (3, .ref (gadr (XG X) (7, 0, 0))), (2, .ref (gadr (XG X) (5, 0, 0))), (1, .ref (gadr (XG X) (4, 0, 0))), (0, .ref b)] [] M k n) (hk0 : ∀ (M : Mem) (k n m : Nat), k + m ≤ 603072 → n + 8 * m ≤ 7190634 → J X Z (lm m (kn (XD X) M)) 2845 [(4, .int (nI t)), (3, .ref (gadr (XG X) (7, 0, 0))), (2, .ref (gadr (XG X) (5, 0, 0))), (1, .ref (gadr (XG X) (4, 0, 0))), (0, .ref b)] [] M k n) {k n m : Nat} (hk : k + m ≤ 603072) (hn : n + 8 * m ≤ 7190634) (M : Mem) : J X Z (lm m (FL_33 fu (XD X) kn (fun j => xs (t + j)) M)) 2349 [(4, .int (nI t)), (3, .ref (gadr (XG X) (7, 0, 0))), (2, .ref (gadr (XG X) (5, 0, 0))), (1, .ref (gadr (XG X) (4, 0, 0))), (0, .ref b)] [] M k n := by
  unfold FL_33
  refine j_aload_n hC 3 dL_law_2349 rfl ?_
  refine j_lm lm_bd ?_
  refine j_callV (nA := 0) (rest := []) hC [] rfl (fun r hr => mX1_cover (XL X) (XG X) hX fu (XD X) M r hr) q680 q681 q682 q126 q683 (dmY hX rfl) rfl rfl (by decide +kernel) rfl rfl rfl rfl (bk (by omega)) (bk (by omega)) dL_law_2350 (fun v2350 => [.int v2350]) (fun _ => rfl) (fun v2350 M2350 => ?_)
  refine j_aload_n hC 2 dL_law_2353 rfl ?_
  refine j_lm lm_bd ?_
  refine j_callV (nA := 0) (rest := [.int v2350]) hC [] rfl (fun r hr => mX8_cover (XL X) (XG X) hM fu (XD X) M2350 r hr) q2064 q2065 q2066 q136 q2067 (dmMo hM rfl) rfl rfl (by decide +kernel) rfl rfl rfl rfl (bk (by omega)) (bk (by omega)) dL_law_2354 (fun v2354 => [.int v2354, .int v2350]) (fun _ => rfl) (fun v2354 M2354 => ?_)
  refine j_lm lm_ite ?_
  refine j_icmp_eq (tgt := 2845) hC dL_law_2357 (by decide) (fun h2357 => ?_) (fun h2357 => ?_)
  · exact j_sub [0, 1, 2, 3, 4] rfl (hk0 M2354 _ _ _ (by omega) (by omega))
  · refine j_lm lm_some ?_
    exact hF _ _ _ _ _ _
set_option linter.unusedVariables false in
noncomputable def FL_34 (fu : Nat) (D : List LDen) (kn : List LDen → Mem → Option (PR Int32)) (w : Nat → Int32) (M : Mem) : Option (PR Int32) :=
  tick 1 (bh (FX0_widest fu D M (w 1)) (fun v2370 M2370 => bd (FX8_widest fu D M2370 (w 1)) (fun v2382 M2382 => bd (FX8_thrown fu D M2382) (fun v2388 M2388 => if v2388 = v2370 then if v2370 = 0 then if M2388 (7, 0, 0) 0 = v2382 then kn D M2388 else some (0, 0, 0, M2388) else kn D M2388 else some (0, 0, 0, M2388)))) (fun _ _ => none))
set_option linter.unusedVariables false in
theorem wL_34 {X : JX} {b L t : Nat} {xs : Nat → Int32} (hC : JC X cL_law RX0 (some .boolean) 8192 104096 603072 7190634) (hX : dmI dmX (XG X)) (hM : dmI dmM (XG X)) (hst : (XL X).stackTraces = false) (hP : gP (XG X) = []) (h80 : gdm (XG X) (8, 0, 0) = false) (h81 : gdm (XG X) (8, 0, 1) = false) (hnl : nLof X = 7) (hS : JSc X b L xs) (hL : L ≤ 384) (ht : t + 6 ≤ L) {Z : PR Int32 → State → Prop} (hZ : ∀ (r : PR Int32) (c : Nat), Z (r.1, r.2.1, c + r.2.2.1, r.2.2.2) = Z r)
    (hFL : ∀ (D : List LDen) (M : Mem) (pc : Nat) (lv : List (Nat × Value)) (st : List Value) (k n : Nat), J (xL D X) Z (some (0, 0, 0, M)) pc lv st M k n) (hF : ∀ (M : Mem) (pc : Nat) (lv : List (Nat × Value)) (st : List Value) (k n : Nat), J X Z (some (0, 0, 0, M)) pc lv st M k n) (fu : Nat) (kn : List LDen → Mem → Option (PR Int32)) (hkn : ∀ (D : List LDen) (M : Mem) (k n m : Nat), k + m ≤ 603072 → n + 8 * m ≤ 7190634 → J (xL D X) Z (lm m (kn D M)) 2845 [(4, .int (nI t)), (3, .ref (gadr (XG X) (7, 0, 0))), (2, .ref (gadr (XG X) (5, 0, 0))), (1, .ref (gadr (XG X) (4, 0, 0))), (0, .ref b)] [] M k n) (hk0 : ∀ (M : Mem) (k n m : Nat), k + m ≤ 603072 → n + 8 * m ≤ 7190634 → J X Z (lm m (kn (XD X) M)) 2845 [(4, .int (nI t)), (3, .ref (gadr (XG X) (7, 0, 0))), (2, .ref (gadr (XG X) (5, 0, 0))), (1, .ref (gadr (XG X) (4, 0, 0))), (0, .ref b)] [] M k n) {k n m : Nat} (hk : k + m ≤ 603072) (hn : n + 8 * m ≤ 7190634) (M : Mem) : J X Z (lm m (FL_34 fu (XD X) kn (fun j => xs (t + j)) M)) 2362 [(4, .int (nI t)), (3, .ref (gadr (XG X) (7, 0, 0))), (2, .ref (gadr (XG X) (5, 0, 0))), (1, .ref (gadr (XG X) (4, 0, 0))), (0, .ref b)] [] M k n := by
  unfold FL_34
  refine j_aload_n hC 3 dL_law_2362 rfl ?_
  refine j_scr (j := 1) hC hS hL (by omega) 4 0 rfl rfl dL_law_2363 dL_law_2364 dL_law_2366 (by decide) dL_law_2367 dL_law_2368 ?_
  refine j_aload_n hC 1 dL_law_2369 rfl ?_
  refine jm_tickG hZ (fun hc2370 => ?_)
  refine j_lm lm_bhN ?_
  refine j_callSHW (nA := 3) (rest := []) hC [.ref (gadr (XG X) (4, 0, 0)), .int (xs (t + 1)), .ref (gadr (XG X) (7, 0, 0))] rfl (fun r hr => mX0_widest (XL X) hst (XG X) hX fu (XD X) M (xs (t + 1)) r hr) q1406 q1407 q125 q1408 (by decide +kernel) rfl rfl rfl rfl (bk (by omega)) (bk (by omega)) dL_law_2370 (fun v2370 => [.int v2370]) (fun _ => rfl) (fun v2370 M2370 => ?_) (fun e M9 => jh_none)
  refine j_istore hC [(5, .int v2370), (4, .int (nI t)), (3, .ref (gadr (XG X) (7, 0, 0))), (2, .ref (gadr (XG X) (5, 0, 0))), (1, .ref (gadr (XG X) (4, 0, 0))), (0, .ref b)] hnl dL_law_2373 rfl rfl ?_
  refine j_aload_n hC 3 dL_law_2375 rfl ?_
  refine j_scr (j := 1) hC hS hL (by omega) 5 1 rfl rfl dL_law_2376 dL_law_2377 dL_law_2379 (by decide) dL_law_2380 dL_law_2381 ?_
  refine j_lm lm_bd ?_
  refine j_callV (nA := 1) (rest := []) hC [.int (xs (t + 1))] rfl (fun r hr => mX8_widest (XL X) (XG X) hM fu (XD X) M2370 (xs (t + 1)) r hr) q1850 q1851 q1852 q136 q1853 (dmMo hM rfl) rfl rfl (by decide +kernel) rfl rfl rfl rfl (bk (by omega)) (bk (by omega)) dL_law_2382 (fun v2382 => [.int v2382]) (fun _ => rfl) (fun v2382 M2382 => ?_)
  refine j_istore hC [(6, .int v2382), (5, .int v2370), (4, .int (nI t)), (3, .ref (gadr (XG X) (7, 0, 0))), (2, .ref (gadr (XG X) (5, 0, 0))), (1, .ref (gadr (XG X) (4, 0, 0))), (0, .ref b)] hnl dL_law_2385 rfl rfl ?_
  refine j_aload_n hC 4 dL_law_2387 rfl ?_
  refine j_lm lm_bd ?_
  refine j_callV (nA := 0) (rest := []) hC [] rfl (fun r hr => mX8_thrown (XL X) (XG X) hM fu (XD X) M2382 r hr) q1454 q1455 q1456 q136 q1457 (dmMo hM rfl) rfl rfl (by decide +kernel) rfl rfl rfl rfl (bk (by omega)) (bk (by omega)) dL_law_2388 (fun v2388 => [.int v2388]) (fun _ => rfl) (fun v2388 M2388 => ?_)
  refine j_iload hC 1 dL_law_2391 rfl ?_
  refine j_lm lm_ite ?_
  refine j_icmp_eq (tgt := 2398) hC dL_law_2393 (by decide) (fun h2393 => ?_) (fun h2393 => ?_)
  · refine j_iload hC 1 dL_law_2398 rfl ?_
    refine j_lm lm_ite ?_
    refine j_if_ne (tgt := 2415) hC dL_law_2400 (by decide) (fun h2400 => ?_) (fun h2400 => ?_)
    · refine j_lm lm_ite ?_
      refine j_cmpOut hC hX 3 0 rfl rfl dL_law_2403 dL_law_2404 dL_law_2405 dL_law_2406 dL_law_2408 dL_law_2409 dL_law_2410 ?_ ?_
      · refine j_goto (tgt := 2845) hC dL_law_2415 (by decide) ?_
        exact j_sub [2, 3, 4, 5, 6] rfl (hk0 M2388 _ _ _ (by omega) (by omega))
      · refine j_lm lm_some ?_
        exact hF _ _ _ _ _ _
    · refine j_goto (tgt := 2845) hC dL_law_2415 (by decide) ?_
      exact j_sub [2, 3, 4, 5, 6] rfl (hk0 M2388 _ _ _ (by omega) (by omega))
  · refine j_lm lm_some ?_
    exact hF _ _ _ _ _ _
set_option linter.unusedVariables false in
noncomputable def FL_35 (fu : Nat) (D : List LDen) (kn : List LDen → Mem → Option (PR Int32)) (w : Nat → Int32) (M : Mem) : Option (PR Int32) :=
  tick 3 (bh (FX0_trial fu D M (w 1) (w 2) (w 3)) (fun v2438 M2438 => bd (FX8_trial fu D M2438 (w 1) (w 2) (w 3)) (fun v2462 M2462 => bd (FX8_thrown fu D M2462) (fun v2468 M2468 => if v2468 = v2438 then if v2438 = 0 then if M2468 (7, 0, 0) 0 = v2462 then kn D M2468 else some (0, 0, 0, M2468) else kn D M2468 else some (0, 0, 0, M2468)))) (fun _ _ => none))
set_option linter.unusedVariables false in
theorem wL_35 {X : JX} {b L t : Nat} {xs : Nat → Int32} (hC : JC X cL_law RX0 (some .boolean) 8192 104096 603072 7190634) (hX : dmI dmX (XG X)) (hM : dmI dmM (XG X)) (hst : (XL X).stackTraces = false) (hP : gP (XG X) = []) (h80 : gdm (XG X) (8, 0, 0) = false) (h81 : gdm (XG X) (8, 0, 1) = false) (hnl : nLof X = 7) (hS : JSc X b L xs) (hL : L ≤ 384) (ht : t + 6 ≤ L) {Z : PR Int32 → State → Prop} (hZ : ∀ (r : PR Int32) (c : Nat), Z (r.1, r.2.1, c + r.2.2.1, r.2.2.2) = Z r)
    (hFL : ∀ (D : List LDen) (M : Mem) (pc : Nat) (lv : List (Nat × Value)) (st : List Value) (k n : Nat), J (xL D X) Z (some (0, 0, 0, M)) pc lv st M k n) (hF : ∀ (M : Mem) (pc : Nat) (lv : List (Nat × Value)) (st : List Value) (k n : Nat), J X Z (some (0, 0, 0, M)) pc lv st M k n) (fu : Nat) (kn : List LDen → Mem → Option (PR Int32)) (hkn : ∀ (D : List LDen) (M : Mem) (k n m : Nat), k + m ≤ 603072 → n + 8 * m ≤ 7190634 → J (xL D X) Z (lm m (kn D M)) 2845 [(4, .int (nI t)), (3, .ref (gadr (XG X) (7, 0, 0))), (2, .ref (gadr (XG X) (5, 0, 0))), (1, .ref (gadr (XG X) (4, 0, 0))), (0, .ref b)] [] M k n) (hk0 : ∀ (M : Mem) (k n m : Nat), k + m ≤ 603072 → n + 8 * m ≤ 7190634 → J X Z (lm m (kn (XD X) M)) 2845 [(4, .int (nI t)), (3, .ref (gadr (XG X) (7, 0, 0))), (2, .ref (gadr (XG X) (5, 0, 0))), (1, .ref (gadr (XG X) (4, 0, 0))), (0, .ref b)] [] M k n) {k n m : Nat} (hk : k + m ≤ 603072) (hn : n + 8 * m ≤ 7190634) (M : Mem) : J X Z (lm m (FL_35 fu (XD X) kn (fun j => xs (t + j)) M)) 2418 [(4, .int (nI t)), (3, .ref (gadr (XG X) (7, 0, 0))), (2, .ref (gadr (XG X) (5, 0, 0))), (1, .ref (gadr (XG X) (4, 0, 0))), (0, .ref b)] [] M k n := by
  unfold FL_35
  refine j_aload_n hC 3 dL_law_2418 rfl ?_
  refine j_scr (j := 1) hC hS hL (by omega) 4 0 rfl rfl dL_law_2419 dL_law_2420 dL_law_2422 (by decide) dL_law_2423 dL_law_2424 ?_
  refine j_scr (j := 2) hC hS hL (by omega) 4 0 rfl rfl dL_law_2425 dL_law_2426 dL_law_2428 (by decide) dL_law_2429 dL_law_2430 ?_
  refine j_scr (j := 3) hC hS hL (by omega) 4 0 rfl rfl dL_law_2431 dL_law_2432 dL_law_2434 (by decide) dL_law_2435 dL_law_2436 ?_
  refine j_aload_n hC 1 dL_law_2437 rfl ?_
  refine jm_tickG hZ (fun hc2438 => ?_)
  refine j_lm lm_bhN ?_
  refine j_callSHW (nA := 5) (rest := []) hC [.ref (gadr (XG X) (4, 0, 0)), .int (xs (t + 1)), .int (xs (t + 2)), .int (xs (t + 3)), .ref (gadr (XG X) (7, 0, 0))] rfl (fun r hr => mX0_trial (XL X) hst (XG X) hX fu (XD X) M (xs (t + 1)) (xs (t + 2)) (xs (t + 3)) r hr) q1413 q1414 q125 q1415 (by decide +kernel) rfl rfl rfl rfl (bk (by omega)) (bk (by omega)) dL_law_2438 (fun v2438 => [.int v2438]) (fun _ => rfl) (fun v2438 M2438 => ?_) (fun e M9 => jh_none)
  refine j_istore hC [(5, .int v2438), (4, .int (nI t)), (3, .ref (gadr (XG X) (7, 0, 0))), (2, .ref (gadr (XG X) (5, 0, 0))), (1, .ref (gadr (XG X) (4, 0, 0))), (0, .ref b)] hnl dL_law_2441 rfl rfl ?_
  refine j_aload_n hC 3 dL_law_2443 rfl ?_
  refine j_scr (j := 1) hC hS hL (by omega) 5 1 rfl rfl dL_law_2444 dL_law_2445 dL_law_2447 (by decide) dL_law_2448 dL_law_2449 ?_
  refine j_scr (j := 2) hC hS hL (by omega) 5 1 rfl rfl dL_law_2450 dL_law_2451 dL_law_2453 (by decide) dL_law_2454 dL_law_2455 ?_
  refine j_scr (j := 3) hC hS hL (by omega) 5 1 rfl rfl dL_law_2456 dL_law_2457 dL_law_2459 (by decide) dL_law_2460 dL_law_2461 ?_
  refine j_lm lm_bd ?_
  refine j_callV (nA := 3) (rest := []) hC [.int (xs (t + 1)), .int (xs (t + 2)), .int (xs (t + 3))] rfl (fun r hr => mX8_trial (XL X) (XG X) hM fu (XD X) M2438 (xs (t + 1)) (xs (t + 2)) (xs (t + 3)) r hr) q2073 q2074 q2075 q136 q2076 (dmMo hM rfl) rfl rfl (by decide +kernel) rfl rfl rfl rfl (bk (by omega)) (bk (by omega)) dL_law_2462 (fun v2462 => [.int v2462]) (fun _ => rfl) (fun v2462 M2462 => ?_)
  refine j_istore hC [(6, .int v2462), (5, .int v2438), (4, .int (nI t)), (3, .ref (gadr (XG X) (7, 0, 0))), (2, .ref (gadr (XG X) (5, 0, 0))), (1, .ref (gadr (XG X) (4, 0, 0))), (0, .ref b)] hnl dL_law_2465 rfl rfl ?_
  refine j_aload_n hC 4 dL_law_2467 rfl ?_
  refine j_lm lm_bd ?_
  refine j_callV (nA := 0) (rest := []) hC [] rfl (fun r hr => mX8_thrown (XL X) (XG X) hM fu (XD X) M2462 r hr) q1454 q1455 q1456 q136 q1457 (dmMo hM rfl) rfl rfl (by decide +kernel) rfl rfl rfl rfl (bk (by omega)) (bk (by omega)) dL_law_2468 (fun v2468 => [.int v2468]) (fun _ => rfl) (fun v2468 M2468 => ?_)
  refine j_iload hC 1 dL_law_2471 rfl ?_
  refine j_lm lm_ite ?_
  refine j_icmp_eq (tgt := 2478) hC dL_law_2473 (by decide) (fun h2473 => ?_) (fun h2473 => ?_)
  · refine j_iload hC 1 dL_law_2478 rfl ?_
    refine j_lm lm_ite ?_
    refine j_if_ne (tgt := 2495) hC dL_law_2480 (by decide) (fun h2480 => ?_) (fun h2480 => ?_)
    · refine j_lm lm_ite ?_
      refine j_cmpOut hC hX 3 0 rfl rfl dL_law_2483 dL_law_2484 dL_law_2485 dL_law_2486 dL_law_2488 dL_law_2489 dL_law_2490 ?_ ?_
      · refine j_goto (tgt := 2845) hC dL_law_2495 (by decide) ?_
        exact j_sub [2, 3, 4, 5, 6] rfl (hk0 M2468 _ _ _ (by omega) (by omega))
      · refine j_lm lm_some ?_
        exact hF _ _ _ _ _ _
    · refine j_goto (tgt := 2845) hC dL_law_2495 (by decide) ?_
      exact j_sub [2, 3, 4, 5, 6] rfl (hk0 M2468 _ _ _ (by omega) (by omega))
  · refine j_lm lm_some ?_
    exact hF _ _ _ _ _ _
set_option linter.unusedVariables false in
noncomputable def FL_36 (fu : Nat) (D : List LDen) (kn : List LDen → Mem → Option (PR Int32)) (w : Nat → Int32) (M : Mem) : Option (PR Int32) :=
  tick 3 (bh (FX0_span fu D M (w 1) (w 2) (w 3) (bz (w 4))) (fun v2532 M2532 => bd (FX8_span fu D M2532 (w 1) (w 2) (w 3) (bz (w 4))) (fun v2570 M2570 => bd (FX8_thrown fu D M2570) (fun v2576 M2576 => if v2576 = v2532 then if v2532 = 0 then if M2576 (7, 0, 0) 0 = v2570 then kn D M2576 else some (0, 0, 0, M2576) else kn D M2576 else some (0, 0, 0, M2576)))) (fun _ _ => none))
set_option linter.unusedVariables false in
theorem wL_36 {X : JX} {b L t : Nat} {xs : Nat → Int32} (hC : JC X cL_law RX0 (some .boolean) 8192 104096 603072 7190634) (hX : dmI dmX (XG X)) (hM : dmI dmM (XG X)) (hst : (XL X).stackTraces = false) (hP : gP (XG X) = []) (h80 : gdm (XG X) (8, 0, 0) = false) (h81 : gdm (XG X) (8, 0, 1) = false) (hnl : nLof X = 7) (hS : JSc X b L xs) (hL : L ≤ 384) (ht : t + 6 ≤ L) {Z : PR Int32 → State → Prop} (hZ : ∀ (r : PR Int32) (c : Nat), Z (r.1, r.2.1, c + r.2.2.1, r.2.2.2) = Z r)
    (hFL : ∀ (D : List LDen) (M : Mem) (pc : Nat) (lv : List (Nat × Value)) (st : List Value) (k n : Nat), J (xL D X) Z (some (0, 0, 0, M)) pc lv st M k n) (hF : ∀ (M : Mem) (pc : Nat) (lv : List (Nat × Value)) (st : List Value) (k n : Nat), J X Z (some (0, 0, 0, M)) pc lv st M k n) (fu : Nat) (kn : List LDen → Mem → Option (PR Int32)) (hkn : ∀ (D : List LDen) (M : Mem) (k n m : Nat), k + m ≤ 603072 → n + 8 * m ≤ 7190634 → J (xL D X) Z (lm m (kn D M)) 2845 [(4, .int (nI t)), (3, .ref (gadr (XG X) (7, 0, 0))), (2, .ref (gadr (XG X) (5, 0, 0))), (1, .ref (gadr (XG X) (4, 0, 0))), (0, .ref b)] [] M k n) (hk0 : ∀ (M : Mem) (k n m : Nat), k + m ≤ 603072 → n + 8 * m ≤ 7190634 → J X Z (lm m (kn (XD X) M)) 2845 [(4, .int (nI t)), (3, .ref (gadr (XG X) (7, 0, 0))), (2, .ref (gadr (XG X) (5, 0, 0))), (1, .ref (gadr (XG X) (4, 0, 0))), (0, .ref b)] [] M k n) {k n m : Nat} (hk : k + m ≤ 603072) (hn : n + 8 * m ≤ 7190634) (M : Mem) : J X Z (lm m (FL_36 fu (XD X) kn (fun j => xs (t + j)) M)) 2498 [(4, .int (nI t)), (3, .ref (gadr (XG X) (7, 0, 0))), (2, .ref (gadr (XG X) (5, 0, 0))), (1, .ref (gadr (XG X) (4, 0, 0))), (0, .ref b)] [] M k n := by
  unfold FL_36
  refine j_aload_n hC 3 dL_law_2498 rfl ?_
  refine j_scr (j := 1) hC hS hL (by omega) 4 0 rfl rfl dL_law_2499 dL_law_2500 dL_law_2502 (by decide) dL_law_2503 dL_law_2504 ?_
  refine j_scr (j := 2) hC hS hL (by omega) 4 0 rfl rfl dL_law_2505 dL_law_2506 dL_law_2508 (by decide) dL_law_2509 dL_law_2510 ?_
  refine j_scr (j := 3) hC hS hL (by omega) 4 0 rfl rfl dL_law_2511 dL_law_2512 dL_law_2514 (by decide) dL_law_2515 dL_law_2516 ?_
  refine j_scr (j := 4) hC hS hL (by omega) 4 0 rfl rfl dL_law_2517 dL_law_2518 dL_law_2520 (by decide) dL_law_2521 dL_law_2522 ?_
  refine j_bool hC dL_law_2523 dL_law_2526 dL_law_2527 dL_law_2530 ?_
  refine j_aload_n hC 1 dL_law_2531 rfl ?_
  refine jm_tickG hZ (fun hc2532 => ?_)
  refine j_lm lm_bhN ?_
  refine j_callSHW (nA := 6) (rest := []) hC [.ref (gadr (XG X) (4, 0, 0)), .int (xs (t + 1)), .int (xs (t + 2)), .int (xs (t + 3)), .int (bz (xs (t + 4))), .ref (gadr (XG X) (7, 0, 0))] rfl (fun r hr => mX0_span (XL X) hst (XG X) hX fu (XD X) M (xs (t + 1)) (xs (t + 2)) (xs (t + 3)) (bz (xs (t + 4))) r hr) q1424 q1425 q125 q1426 (by decide +kernel) rfl rfl rfl rfl (bk (by omega)) (bk (by omega)) dL_law_2532 (fun v2532 => [.int v2532]) (fun _ => rfl) (fun v2532 M2532 => ?_) (fun e M9 => jh_none)
  refine j_istore hC [(5, .int v2532), (4, .int (nI t)), (3, .ref (gadr (XG X) (7, 0, 0))), (2, .ref (gadr (XG X) (5, 0, 0))), (1, .ref (gadr (XG X) (4, 0, 0))), (0, .ref b)] hnl dL_law_2535 rfl rfl ?_
  refine j_aload_n hC 3 dL_law_2537 rfl ?_
  refine j_scr (j := 1) hC hS hL (by omega) 5 1 rfl rfl dL_law_2538 dL_law_2539 dL_law_2541 (by decide) dL_law_2542 dL_law_2543 ?_
  refine j_scr (j := 2) hC hS hL (by omega) 5 1 rfl rfl dL_law_2544 dL_law_2545 dL_law_2547 (by decide) dL_law_2548 dL_law_2549 ?_
  refine j_scr (j := 3) hC hS hL (by omega) 5 1 rfl rfl dL_law_2550 dL_law_2551 dL_law_2553 (by decide) dL_law_2554 dL_law_2555 ?_
  refine j_scr (j := 4) hC hS hL (by omega) 5 1 rfl rfl dL_law_2556 dL_law_2557 dL_law_2559 (by decide) dL_law_2560 dL_law_2561 ?_
  refine j_bool hC dL_law_2562 dL_law_2565 dL_law_2566 dL_law_2569 ?_
  refine j_lm lm_bd ?_
  refine j_callV (nA := 4) (rest := []) hC [.int (xs (t + 1)), .int (xs (t + 2)), .int (xs (t + 3)), .int (bz (xs (t + 4)))] rfl (fun r hr => mX8_span (XL X) (XG X) hM fu (XD X) M2532 (xs (t + 1)) (xs (t + 2)) (xs (t + 3)) (bz (xs (t + 4))) r hr) q2081 q2082 q2083 q136 q2084 (dmMo hM rfl) rfl rfl (by decide +kernel) rfl rfl rfl rfl (bk (by omega)) (bk (by omega)) dL_law_2570 (fun v2570 => [.int v2570]) (fun _ => rfl) (fun v2570 M2570 => ?_)
  refine j_istore hC [(6, .int v2570), (5, .int v2532), (4, .int (nI t)), (3, .ref (gadr (XG X) (7, 0, 0))), (2, .ref (gadr (XG X) (5, 0, 0))), (1, .ref (gadr (XG X) (4, 0, 0))), (0, .ref b)] hnl dL_law_2573 rfl rfl ?_
  refine j_aload_n hC 4 dL_law_2575 rfl ?_
  refine j_lm lm_bd ?_
  refine j_callV (nA := 0) (rest := []) hC [] rfl (fun r hr => mX8_thrown (XL X) (XG X) hM fu (XD X) M2570 r hr) q1454 q1455 q1456 q136 q1457 (dmMo hM rfl) rfl rfl (by decide +kernel) rfl rfl rfl rfl (bk (by omega)) (bk (by omega)) dL_law_2576 (fun v2576 => [.int v2576]) (fun _ => rfl) (fun v2576 M2576 => ?_)
  refine j_iload hC 1 dL_law_2579 rfl ?_
  refine j_lm lm_ite ?_
  refine j_icmp_eq (tgt := 2586) hC dL_law_2581 (by decide) (fun h2581 => ?_) (fun h2581 => ?_)
  · refine j_iload hC 1 dL_law_2586 rfl ?_
    refine j_lm lm_ite ?_
    refine j_if_ne (tgt := 2603) hC dL_law_2588 (by decide) (fun h2588 => ?_) (fun h2588 => ?_)
    · refine j_lm lm_ite ?_
      refine j_cmpOut hC hX 3 0 rfl rfl dL_law_2591 dL_law_2592 dL_law_2593 dL_law_2594 dL_law_2596 dL_law_2597 dL_law_2598 ?_ ?_
      · refine j_goto (tgt := 2845) hC dL_law_2603 (by decide) ?_
        exact j_sub [2, 3, 4, 5, 6] rfl (hk0 M2576 _ _ _ (by omega) (by omega))
      · refine j_lm lm_some ?_
        exact hF _ _ _ _ _ _
    · refine j_goto (tgt := 2845) hC dL_law_2603 (by decide) ?_
      exact j_sub [2, 3, 4, 5, 6] rfl (hk0 M2576 _ _ _ (by omega) (by omega))
  · refine j_lm lm_some ?_
    exact hF _ _ _ _ _ _
set_option linter.unusedVariables false in
noncomputable def FL_37 (fu : Nat) (D : List LDen) (kn : List LDen → Mem → Option (PR Int32)) (w : Nat → Int32) (M : Mem) : Option (PR Int32) :=
  tick 1 (bh (FX0_led fu D M (w 1) (bz (w 2))) (fun v2628 M2628 => bd (FX8_led fu D M2628 (w 1) (bz (w 2))) (fun v2654 M2654 => bd (FX8_thrown fu D M2654) (fun v2660 M2660 => if v2660 = v2628 then if v2628 = 0 then if M2660 (7, 0, 0) 0 = v2654 then kn D M2660 else some (0, 0, 0, M2660) else kn D M2660 else some (0, 0, 0, M2660)))) (fun _ _ => none))
set_option linter.unusedVariables false in
theorem wL_37 {X : JX} {b L t : Nat} {xs : Nat → Int32} (hC : JC X cL_law RX0 (some .boolean) 8192 104096 603072 7190634) (hX : dmI dmX (XG X)) (hM : dmI dmM (XG X)) (hst : (XL X).stackTraces = false) (hP : gP (XG X) = []) (h80 : gdm (XG X) (8, 0, 0) = false) (h81 : gdm (XG X) (8, 0, 1) = false) (hnl : nLof X = 7) (hS : JSc X b L xs) (hL : L ≤ 384) (ht : t + 6 ≤ L) {Z : PR Int32 → State → Prop} (hZ : ∀ (r : PR Int32) (c : Nat), Z (r.1, r.2.1, c + r.2.2.1, r.2.2.2) = Z r)
    (hFL : ∀ (D : List LDen) (M : Mem) (pc : Nat) (lv : List (Nat × Value)) (st : List Value) (k n : Nat), J (xL D X) Z (some (0, 0, 0, M)) pc lv st M k n) (hF : ∀ (M : Mem) (pc : Nat) (lv : List (Nat × Value)) (st : List Value) (k n : Nat), J X Z (some (0, 0, 0, M)) pc lv st M k n) (fu : Nat) (kn : List LDen → Mem → Option (PR Int32)) (hkn : ∀ (D : List LDen) (M : Mem) (k n m : Nat), k + m ≤ 603072 → n + 8 * m ≤ 7190634 → J (xL D X) Z (lm m (kn D M)) 2845 [(4, .int (nI t)), (3, .ref (gadr (XG X) (7, 0, 0))), (2, .ref (gadr (XG X) (5, 0, 0))), (1, .ref (gadr (XG X) (4, 0, 0))), (0, .ref b)] [] M k n) (hk0 : ∀ (M : Mem) (k n m : Nat), k + m ≤ 603072 → n + 8 * m ≤ 7190634 → J X Z (lm m (kn (XD X) M)) 2845 [(4, .int (nI t)), (3, .ref (gadr (XG X) (7, 0, 0))), (2, .ref (gadr (XG X) (5, 0, 0))), (1, .ref (gadr (XG X) (4, 0, 0))), (0, .ref b)] [] M k n) {k n m : Nat} (hk : k + m ≤ 603072) (hn : n + 8 * m ≤ 7190634) (M : Mem) : J X Z (lm m (FL_37 fu (XD X) kn (fun j => xs (t + j)) M)) 2606 [(4, .int (nI t)), (3, .ref (gadr (XG X) (7, 0, 0))), (2, .ref (gadr (XG X) (5, 0, 0))), (1, .ref (gadr (XG X) (4, 0, 0))), (0, .ref b)] [] M k n := by
  unfold FL_37
  refine j_aload_n hC 3 dL_law_2606 rfl ?_
  refine j_scr (j := 1) hC hS hL (by omega) 4 0 rfl rfl dL_law_2607 dL_law_2608 dL_law_2610 (by decide) dL_law_2611 dL_law_2612 ?_
  refine j_scr (j := 2) hC hS hL (by omega) 4 0 rfl rfl dL_law_2613 dL_law_2614 dL_law_2616 (by decide) dL_law_2617 dL_law_2618 ?_
  refine j_bool hC dL_law_2619 dL_law_2622 dL_law_2623 dL_law_2626 ?_
  refine j_aload_n hC 1 dL_law_2627 rfl ?_
  refine jm_tickG hZ (fun hc2628 => ?_)
  refine j_lm lm_bhN ?_
  refine j_callSHW (nA := 4) (rest := []) hC [.ref (gadr (XG X) (4, 0, 0)), .int (xs (t + 1)), .int (bz (xs (t + 2))), .ref (gadr (XG X) (7, 0, 0))] rfl (fun r hr => mX0_led (XL X) hst (XG X) hX fu (XD X) M (xs (t + 1)) (bz (xs (t + 2))) r hr) q1431 q1432 q125 q1433 (by decide +kernel) rfl rfl rfl rfl (bk (by omega)) (bk (by omega)) dL_law_2628 (fun v2628 => [.int v2628]) (fun _ => rfl) (fun v2628 M2628 => ?_) (fun e M9 => jh_none)
  refine j_istore hC [(5, .int v2628), (4, .int (nI t)), (3, .ref (gadr (XG X) (7, 0, 0))), (2, .ref (gadr (XG X) (5, 0, 0))), (1, .ref (gadr (XG X) (4, 0, 0))), (0, .ref b)] hnl dL_law_2631 rfl rfl ?_
  refine j_aload_n hC 3 dL_law_2633 rfl ?_
  refine j_scr (j := 1) hC hS hL (by omega) 5 1 rfl rfl dL_law_2634 dL_law_2635 dL_law_2637 (by decide) dL_law_2638 dL_law_2639 ?_
  refine j_scr (j := 2) hC hS hL (by omega) 5 1 rfl rfl dL_law_2640 dL_law_2641 dL_law_2643 (by decide) dL_law_2644 dL_law_2645 ?_
  refine j_bool hC dL_law_2646 dL_law_2649 dL_law_2650 dL_law_2653 ?_
  refine j_lm lm_bd ?_
  refine j_callV (nA := 2) (rest := []) hC [.int (xs (t + 1)), .int (bz (xs (t + 2)))] rfl (fun r hr => mX8_led (XL X) (XG X) hM fu (XD X) M2628 (xs (t + 1)) (bz (xs (t + 2))) r hr) q2085 q2086 q2087 q136 q2088 (dmMo hM rfl) rfl rfl (by decide +kernel) rfl rfl rfl rfl (bk (by omega)) (bk (by omega)) dL_law_2654 (fun v2654 => [.int v2654]) (fun _ => rfl) (fun v2654 M2654 => ?_)
  refine j_istore hC [(6, .int v2654), (5, .int v2628), (4, .int (nI t)), (3, .ref (gadr (XG X) (7, 0, 0))), (2, .ref (gadr (XG X) (5, 0, 0))), (1, .ref (gadr (XG X) (4, 0, 0))), (0, .ref b)] hnl dL_law_2657 rfl rfl ?_
  refine j_aload_n hC 4 dL_law_2659 rfl ?_
  refine j_lm lm_bd ?_
  refine j_callV (nA := 0) (rest := []) hC [] rfl (fun r hr => mX8_thrown (XL X) (XG X) hM fu (XD X) M2654 r hr) q1454 q1455 q1456 q136 q1457 (dmMo hM rfl) rfl rfl (by decide +kernel) rfl rfl rfl rfl (bk (by omega)) (bk (by omega)) dL_law_2660 (fun v2660 => [.int v2660]) (fun _ => rfl) (fun v2660 M2660 => ?_)
  refine j_iload hC 1 dL_law_2663 rfl ?_
  refine j_lm lm_ite ?_
  refine j_icmp_eq (tgt := 2670) hC dL_law_2665 (by decide) (fun h2665 => ?_) (fun h2665 => ?_)
  · refine j_iload hC 1 dL_law_2670 rfl ?_
    refine j_lm lm_ite ?_
    refine j_if_ne (tgt := 2687) hC dL_law_2672 (by decide) (fun h2672 => ?_) (fun h2672 => ?_)
    · refine j_lm lm_ite ?_
      refine j_cmpOut hC hX 3 0 rfl rfl dL_law_2675 dL_law_2676 dL_law_2677 dL_law_2678 dL_law_2680 dL_law_2681 dL_law_2682 ?_ ?_
      · refine j_goto (tgt := 2845) hC dL_law_2687 (by decide) ?_
        exact j_sub [2, 3, 4, 5, 6] rfl (hk0 M2660 _ _ _ (by omega) (by omega))
      · refine j_lm lm_some ?_
        exact hF _ _ _ _ _ _
    · refine j_goto (tgt := 2845) hC dL_law_2687 (by decide) ?_
      exact j_sub [2, 3, 4, 5, 6] rfl (hk0 M2660 _ _ _ (by omega) (by omega))
  · refine j_lm lm_some ?_
    exact hF _ _ _ _ _ _
set_option linter.unusedVariables false in
noncomputable def FL_38 (fu : Nat) (D : List LDen) (kn : List LDen → Mem → Option (PR Int32)) (w : Nat → Int32) (M : Mem) : Option (PR Int32) :=
  tick 1 (bh (FX0_log fu D M (w 1) (w 2)) (fun v2704 M2704 => bd (FX8_log fu D M2704 (w 1) (w 2)) (fun v2722 M2722 => bd (FX8_thrown fu D M2722) (fun v2728 M2728 => if v2728 = v2704 then if v2704 = 0 then if M2728 (7, 0, 0) 0 = v2722 then kn D M2728 else some (0, 0, 0, M2728) else kn D M2728 else some (0, 0, 0, M2728)))) (fun _ _ => none))
set_option linter.unusedVariables false in
theorem wL_38 {X : JX} {b L t : Nat} {xs : Nat → Int32} (hC : JC X cL_law RX0 (some .boolean) 8192 104096 603072 7190634) (hX : dmI dmX (XG X)) (hM : dmI dmM (XG X)) (hst : (XL X).stackTraces = false) (hP : gP (XG X) = []) (h80 : gdm (XG X) (8, 0, 0) = false) (h81 : gdm (XG X) (8, 0, 1) = false) (hnl : nLof X = 7) (hS : JSc X b L xs) (hL : L ≤ 384) (ht : t + 6 ≤ L) {Z : PR Int32 → State → Prop} (hZ : ∀ (r : PR Int32) (c : Nat), Z (r.1, r.2.1, c + r.2.2.1, r.2.2.2) = Z r)
    (hFL : ∀ (D : List LDen) (M : Mem) (pc : Nat) (lv : List (Nat × Value)) (st : List Value) (k n : Nat), J (xL D X) Z (some (0, 0, 0, M)) pc lv st M k n) (hF : ∀ (M : Mem) (pc : Nat) (lv : List (Nat × Value)) (st : List Value) (k n : Nat), J X Z (some (0, 0, 0, M)) pc lv st M k n) (fu : Nat) (kn : List LDen → Mem → Option (PR Int32)) (hkn : ∀ (D : List LDen) (M : Mem) (k n m : Nat), k + m ≤ 603072 → n + 8 * m ≤ 7190634 → J (xL D X) Z (lm m (kn D M)) 2845 [(4, .int (nI t)), (3, .ref (gadr (XG X) (7, 0, 0))), (2, .ref (gadr (XG X) (5, 0, 0))), (1, .ref (gadr (XG X) (4, 0, 0))), (0, .ref b)] [] M k n) (hk0 : ∀ (M : Mem) (k n m : Nat), k + m ≤ 603072 → n + 8 * m ≤ 7190634 → J X Z (lm m (kn (XD X) M)) 2845 [(4, .int (nI t)), (3, .ref (gadr (XG X) (7, 0, 0))), (2, .ref (gadr (XG X) (5, 0, 0))), (1, .ref (gadr (XG X) (4, 0, 0))), (0, .ref b)] [] M k n) {k n m : Nat} (hk : k + m ≤ 603072) (hn : n + 8 * m ≤ 7190634) (M : Mem) : J X Z (lm m (FL_38 fu (XD X) kn (fun j => xs (t + j)) M)) 2690 [(4, .int (nI t)), (3, .ref (gadr (XG X) (7, 0, 0))), (2, .ref (gadr (XG X) (5, 0, 0))), (1, .ref (gadr (XG X) (4, 0, 0))), (0, .ref b)] [] M k n := by
  unfold FL_38
  refine j_aload_n hC 3 dL_law_2690 rfl ?_
  refine j_scr (j := 1) hC hS hL (by omega) 4 0 rfl rfl dL_law_2691 dL_law_2692 dL_law_2694 (by decide) dL_law_2695 dL_law_2696 ?_
  refine j_scr (j := 2) hC hS hL (by omega) 4 0 rfl rfl dL_law_2697 dL_law_2698 dL_law_2700 (by decide) dL_law_2701 dL_law_2702 ?_
  refine j_aload_n hC 1 dL_law_2703 rfl ?_
  refine jm_tickG hZ (fun hc2704 => ?_)
  refine j_lm lm_bhN ?_
  refine j_callSHW (nA := 4) (rest := []) hC [.ref (gadr (XG X) (4, 0, 0)), .int (xs (t + 1)), .int (xs (t + 2)), .ref (gadr (XG X) (7, 0, 0))] rfl (fun r hr => mX0_log (XL X) hst (XG X) hX fu (XD X) M (xs (t + 1)) (xs (t + 2)) r hr) q1447 q1448 q125 q1449 (by decide +kernel) rfl rfl rfl rfl (bk (by omega)) (bk (by omega)) dL_law_2704 (fun v2704 => [.int v2704]) (fun _ => rfl) (fun v2704 M2704 => ?_) (fun e M9 => jh_none)
  refine j_istore hC [(5, .int v2704), (4, .int (nI t)), (3, .ref (gadr (XG X) (7, 0, 0))), (2, .ref (gadr (XG X) (5, 0, 0))), (1, .ref (gadr (XG X) (4, 0, 0))), (0, .ref b)] hnl dL_law_2707 rfl rfl ?_
  refine j_aload_n hC 3 dL_law_2709 rfl ?_
  refine j_scr (j := 1) hC hS hL (by omega) 5 1 rfl rfl dL_law_2710 dL_law_2711 dL_law_2713 (by decide) dL_law_2714 dL_law_2715 ?_
  refine j_scr (j := 2) hC hS hL (by omega) 5 1 rfl rfl dL_law_2716 dL_law_2717 dL_law_2719 (by decide) dL_law_2720 dL_law_2721 ?_
  refine j_lm lm_bd ?_
  refine j_callV (nA := 2) (rest := []) hC [.int (xs (t + 1)), .int (xs (t + 2))] rfl (fun r hr => mX8_log (XL X) (XG X) hM fu (XD X) M2704 (xs (t + 1)) (xs (t + 2)) r hr) q2093 q2094 q2095 q136 q2096 (dmMo hM rfl) rfl rfl (by decide +kernel) rfl rfl rfl rfl (bk (by omega)) (bk (by omega)) dL_law_2722 (fun v2722 => [.int v2722]) (fun _ => rfl) (fun v2722 M2722 => ?_)
  refine j_istore hC [(6, .int v2722), (5, .int v2704), (4, .int (nI t)), (3, .ref (gadr (XG X) (7, 0, 0))), (2, .ref (gadr (XG X) (5, 0, 0))), (1, .ref (gadr (XG X) (4, 0, 0))), (0, .ref b)] hnl dL_law_2725 rfl rfl ?_
  refine j_aload_n hC 4 dL_law_2727 rfl ?_
  refine j_lm lm_bd ?_
  refine j_callV (nA := 0) (rest := []) hC [] rfl (fun r hr => mX8_thrown (XL X) (XG X) hM fu (XD X) M2722 r hr) q1454 q1455 q1456 q136 q1457 (dmMo hM rfl) rfl rfl (by decide +kernel) rfl rfl rfl rfl (bk (by omega)) (bk (by omega)) dL_law_2728 (fun v2728 => [.int v2728]) (fun _ => rfl) (fun v2728 M2728 => ?_)
  refine j_iload hC 1 dL_law_2731 rfl ?_
  refine j_lm lm_ite ?_
  refine j_icmp_eq (tgt := 2738) hC dL_law_2733 (by decide) (fun h2733 => ?_) (fun h2733 => ?_)
  · refine j_iload hC 1 dL_law_2738 rfl ?_
    refine j_lm lm_ite ?_
    refine j_if_ne (tgt := 2755) hC dL_law_2740 (by decide) (fun h2740 => ?_) (fun h2740 => ?_)
    · refine j_lm lm_ite ?_
      refine j_cmpOut hC hX 3 0 rfl rfl dL_law_2743 dL_law_2744 dL_law_2745 dL_law_2746 dL_law_2748 dL_law_2749 dL_law_2750 ?_ ?_
      · refine j_goto (tgt := 2845) hC dL_law_2755 (by decide) ?_
        exact j_sub [2, 3, 4, 5, 6] rfl (hk0 M2728 _ _ _ (by omega) (by omega))
      · refine j_lm lm_some ?_
        exact hF _ _ _ _ _ _
    · refine j_goto (tgt := 2845) hC dL_law_2755 (by decide) ?_
      exact j_sub [2, 3, 4, 5, 6] rfl (hk0 M2728 _ _ _ (by omega) (by omega))
  · refine j_lm lm_some ?_
    exact hF _ _ _ _ _ _
set_option linter.unusedVariables false in
noncomputable def FL_39 (fu : Nat) (D : List LDen) (kn : List LDen → Mem → Option (PR Int32)) (w : Nat → Int32) (M : Mem) : Option (PR Int32) :=
  bd (FX1_seed fu D M (w 1)) (fun v2765 M2765 => bd (FX8_seed fu D M2765 (w 1)) (fun v2775 M2775 => if v2765 = v2775 then kn D M2775 else some (0, 0, 0, M2775)))
set_option linter.unusedVariables false in
theorem wL_39 {X : JX} {b L t : Nat} {xs : Nat → Int32} (hC : JC X cL_law RX0 (some .boolean) 8192 104096 603072 7190634) (hX : dmI dmX (XG X)) (hM : dmI dmM (XG X)) (hst : (XL X).stackTraces = false) (hP : gP (XG X) = []) (h80 : gdm (XG X) (8, 0, 0) = false) (h81 : gdm (XG X) (8, 0, 1) = false) (hnl : nLof X = 7) (hS : JSc X b L xs) (hL : L ≤ 384) (ht : t + 6 ≤ L) {Z : PR Int32 → State → Prop} (hZ : ∀ (r : PR Int32) (c : Nat), Z (r.1, r.2.1, c + r.2.2.1, r.2.2.2) = Z r)
    (hFL : ∀ (D : List LDen) (M : Mem) (pc : Nat) (lv : List (Nat × Value)) (st : List Value) (k n : Nat), J (xL D X) Z (some (0, 0, 0, M)) pc lv st M k n) (hF : ∀ (M : Mem) (pc : Nat) (lv : List (Nat × Value)) (st : List Value) (k n : Nat), J X Z (some (0, 0, 0, M)) pc lv st M k n) (fu : Nat) (kn : List LDen → Mem → Option (PR Int32)) (hkn : ∀ (D : List LDen) (M : Mem) (k n m : Nat), k + m ≤ 603072 → n + 8 * m ≤ 7190634 → J (xL D X) Z (lm m (kn D M)) 2845 [(4, .int (nI t)), (3, .ref (gadr (XG X) (7, 0, 0))), (2, .ref (gadr (XG X) (5, 0, 0))), (1, .ref (gadr (XG X) (4, 0, 0))), (0, .ref b)] [] M k n) (hk0 : ∀ (M : Mem) (k n m : Nat), k + m ≤ 603072 → n + 8 * m ≤ 7190634 → J X Z (lm m (kn (XD X) M)) 2845 [(4, .int (nI t)), (3, .ref (gadr (XG X) (7, 0, 0))), (2, .ref (gadr (XG X) (5, 0, 0))), (1, .ref (gadr (XG X) (4, 0, 0))), (0, .ref b)] [] M k n) {k n m : Nat} (hk : k + m ≤ 603072) (hn : n + 8 * m ≤ 7190634) (M : Mem) : J X Z (lm m (FL_39 fu (XD X) kn (fun j => xs (t + j)) M)) 2758 [(4, .int (nI t)), (3, .ref (gadr (XG X) (7, 0, 0))), (2, .ref (gadr (XG X) (5, 0, 0))), (1, .ref (gadr (XG X) (4, 0, 0))), (0, .ref b)] [] M k n := by
  unfold FL_39
  refine j_aload_n hC 3 dL_law_2758 rfl ?_
  refine j_scr (j := 1) hC hS hL (by omega) 4 0 rfl rfl dL_law_2759 dL_law_2760 dL_law_2762 (by decide) dL_law_2763 dL_law_2764 ?_
  refine j_lm lm_bd ?_
  refine j_callV (nA := 1) (rest := []) hC [.int (xs (t + 1))] rfl (fun r hr => mX1_seed (XL X) (XG X) hX fu (XD X) M (xs (t + 1)) r hr) q690 q691 q692 q126 q693 (dmY hX rfl) rfl rfl (by decide +kernel) rfl rfl rfl rfl (bk (by omega)) (bk (by omega)) dL_law_2765 (fun v2765 => [.int v2765]) (fun _ => rfl) (fun v2765 M2765 => ?_)
  refine j_aload_n hC 2 dL_law_2768 rfl ?_
  refine j_scr (j := 1) hC hS hL (by omega) 4 0 rfl rfl dL_law_2769 dL_law_2770 dL_law_2772 (by decide) dL_law_2773 dL_law_2774 ?_
  refine j_lm lm_bd ?_
  refine j_callV (nA := 1) (rest := [.int v2765]) hC [.int (xs (t + 1))] rfl (fun r hr => mX8_seed (XL X) (XG X) hM fu (XD X) M2765 (xs (t + 1)) r hr) q2097 q2098 q2099 q136 q2100 (dmMo hM rfl) rfl rfl (by decide +kernel) rfl rfl rfl rfl (bk (by omega)) (bk (by omega)) dL_law_2775 (fun v2775 => [.int v2775, .int v2765]) (fun _ => rfl) (fun v2775 M2775 => ?_)
  refine j_lm lm_ite ?_
  refine j_icmp_eq (tgt := 2845) hC dL_law_2778 (by decide) (fun h2778 => ?_) (fun h2778 => ?_)
  · exact j_sub [0, 1, 2, 3, 4] rfl (hk0 M2775 _ _ _ (by omega) (by omega))
  · refine j_lm lm_some ?_
    exact hF _ _ _ _ _ _
set_option linter.unusedVariables false in
noncomputable def FL_40 (fu : Nat) (D : List LDen) (kn : List LDen → Mem → Option (PR Int32)) (w : Nat → Int32) (M : Mem) : Option (PR Int32) :=
  bd (FX1_undo fu D M) (fun v2784 M2784 => bd (FX8_undo fu D M2784) (fun v2788 M2788 => if v2784 = v2788 then kn D M2788 else some (0, 0, 0, M2788)))
set_option linter.unusedVariables false in
theorem wL_40 {X : JX} {b L t : Nat} {xs : Nat → Int32} (hC : JC X cL_law RX0 (some .boolean) 8192 104096 603072 7190634) (hX : dmI dmX (XG X)) (hM : dmI dmM (XG X)) (hst : (XL X).stackTraces = false) (hP : gP (XG X) = []) (h80 : gdm (XG X) (8, 0, 0) = false) (h81 : gdm (XG X) (8, 0, 1) = false) (hnl : nLof X = 7) (hS : JSc X b L xs) (hL : L ≤ 384) (ht : t + 6 ≤ L) {Z : PR Int32 → State → Prop} (hZ : ∀ (r : PR Int32) (c : Nat), Z (r.1, r.2.1, c + r.2.2.1, r.2.2.2) = Z r)
    (hFL : ∀ (D : List LDen) (M : Mem) (pc : Nat) (lv : List (Nat × Value)) (st : List Value) (k n : Nat), J (xL D X) Z (some (0, 0, 0, M)) pc lv st M k n) (hF : ∀ (M : Mem) (pc : Nat) (lv : List (Nat × Value)) (st : List Value) (k n : Nat), J X Z (some (0, 0, 0, M)) pc lv st M k n) (fu : Nat) (kn : List LDen → Mem → Option (PR Int32)) (hkn : ∀ (D : List LDen) (M : Mem) (k n m : Nat), k + m ≤ 603072 → n + 8 * m ≤ 7190634 → J (xL D X) Z (lm m (kn D M)) 2845 [(4, .int (nI t)), (3, .ref (gadr (XG X) (7, 0, 0))), (2, .ref (gadr (XG X) (5, 0, 0))), (1, .ref (gadr (XG X) (4, 0, 0))), (0, .ref b)] [] M k n) (hk0 : ∀ (M : Mem) (k n m : Nat), k + m ≤ 603072 → n + 8 * m ≤ 7190634 → J X Z (lm m (kn (XD X) M)) 2845 [(4, .int (nI t)), (3, .ref (gadr (XG X) (7, 0, 0))), (2, .ref (gadr (XG X) (5, 0, 0))), (1, .ref (gadr (XG X) (4, 0, 0))), (0, .ref b)] [] M k n) {k n m : Nat} (hk : k + m ≤ 603072) (hn : n + 8 * m ≤ 7190634) (M : Mem) : J X Z (lm m (FL_40 fu (XD X) kn (fun j => xs (t + j)) M)) 2783 [(4, .int (nI t)), (3, .ref (gadr (XG X) (7, 0, 0))), (2, .ref (gadr (XG X) (5, 0, 0))), (1, .ref (gadr (XG X) (4, 0, 0))), (0, .ref b)] [] M k n := by
  unfold FL_40
  refine j_aload_n hC 3 dL_law_2783 rfl ?_
  refine j_lm lm_bd ?_
  refine j_callV (nA := 0) (rest := []) hC [] rfl (fun r hr => mX1_undo (XL X) (XG X) hX fu (XD X) M r hr) q694 q695 q696 q126 q697 (dmY hX rfl) rfl rfl (by decide +kernel) rfl rfl rfl rfl (bk (by omega)) (bk (by omega)) dL_law_2784 (fun v2784 => [.int v2784]) (fun _ => rfl) (fun v2784 M2784 => ?_)
  refine j_aload_n hC 2 dL_law_2787 rfl ?_
  refine j_lm lm_bd ?_
  refine j_callV (nA := 0) (rest := [.int v2784]) hC [] rfl (fun r hr => mX8_undo (XL X) (XG X) hM fu (XD X) M2784 r hr) q1563 q1564 q1565 q136 q1566 (dmMo hM rfl) rfl rfl (by decide +kernel) rfl rfl rfl rfl (bk (by omega)) (bk (by omega)) dL_law_2788 (fun v2788 => [.int v2788, .int v2784]) (fun _ => rfl) (fun v2788 M2788 => ?_)
  refine j_lm lm_ite ?_
  refine j_icmp_eq (tgt := 2845) hC dL_law_2791 (by decide) (fun h2791 => ?_) (fun h2791 => ?_)
  · exact j_sub [0, 1, 2, 3, 4] rfl (hk0 M2788 _ _ _ (by omega) (by omega))
  · refine j_lm lm_some ?_
    exact hF _ _ _ _ _ _
set_option linter.unusedVariables false in
noncomputable def FL_41 (fu : Nat) (D : List LDen) (kn : List LDen → Mem → Option (PR Int32)) (w : Nat → Int32) (M : Mem) : Option (PR Int32) :=
  bd (FX1_image fu D M) (fun _ M2797 => bd (FX8_image fu D M2797) (fun _ M2801 => kn D M2801))
set_option linter.unusedVariables false in
theorem wL_41 {X : JX} {b L t : Nat} {xs : Nat → Int32} (hC : JC X cL_law RX0 (some .boolean) 8192 104096 603072 7190634) (hX : dmI dmX (XG X)) (hM : dmI dmM (XG X)) (hst : (XL X).stackTraces = false) (hP : gP (XG X) = []) (h80 : gdm (XG X) (8, 0, 0) = false) (h81 : gdm (XG X) (8, 0, 1) = false) (hnl : nLof X = 7) (hS : JSc X b L xs) (hL : L ≤ 384) (ht : t + 6 ≤ L) {Z : PR Int32 → State → Prop} (hZ : ∀ (r : PR Int32) (c : Nat), Z (r.1, r.2.1, c + r.2.2.1, r.2.2.2) = Z r)
    (hFL : ∀ (D : List LDen) (M : Mem) (pc : Nat) (lv : List (Nat × Value)) (st : List Value) (k n : Nat), J (xL D X) Z (some (0, 0, 0, M)) pc lv st M k n) (hF : ∀ (M : Mem) (pc : Nat) (lv : List (Nat × Value)) (st : List Value) (k n : Nat), J X Z (some (0, 0, 0, M)) pc lv st M k n) (fu : Nat) (kn : List LDen → Mem → Option (PR Int32)) (hkn : ∀ (D : List LDen) (M : Mem) (k n m : Nat), k + m ≤ 603072 → n + 8 * m ≤ 7190634 → J (xL D X) Z (lm m (kn D M)) 2845 [(4, .int (nI t)), (3, .ref (gadr (XG X) (7, 0, 0))), (2, .ref (gadr (XG X) (5, 0, 0))), (1, .ref (gadr (XG X) (4, 0, 0))), (0, .ref b)] [] M k n) (hk0 : ∀ (M : Mem) (k n m : Nat), k + m ≤ 603072 → n + 8 * m ≤ 7190634 → J X Z (lm m (kn (XD X) M)) 2845 [(4, .int (nI t)), (3, .ref (gadr (XG X) (7, 0, 0))), (2, .ref (gadr (XG X) (5, 0, 0))), (1, .ref (gadr (XG X) (4, 0, 0))), (0, .ref b)] [] M k n) {k n m : Nat} (hk : k + m ≤ 603072) (hn : n + 8 * m ≤ 7190634) (M : Mem) : J X Z (lm m (FL_41 fu (XD X) kn (fun j => xs (t + j)) M)) 2796 [(4, .int (nI t)), (3, .ref (gadr (XG X) (7, 0, 0))), (2, .ref (gadr (XG X) (5, 0, 0))), (1, .ref (gadr (XG X) (4, 0, 0))), (0, .ref b)] [] M k n := by
  unfold FL_41
  refine j_aload_n hC 3 dL_law_2796 rfl ?_
  refine j_lm lm_bd ?_
  refine j_callV (nA := 0) (rest := []) hC [] rfl (fun r hr => mX1_image (XL X) (XG X) hX fu (XD X) M r hr) q711 q712 q713 q126 q714 (dmY hX rfl) rfl rfl (by decide +kernel) rfl rfl rfl rfl (bk (by omega)) (bk (by omega)) dL_law_2797 (fun _ => []) (fun _ => rfl) (fun v2797 M2797 => ?_)
  refine j_aload_n hC 2 dL_law_2800 rfl ?_
  refine j_lm lm_bd ?_
  refine j_callV (nA := 0) (rest := []) hC [] rfl (fun r hr => mX8_image (XL X) (XG X) hM fu (XD X) M2797 r hr) q1555 q1556 q1557 q136 q1558 (dmMo hM rfl) rfl rfl (by decide +kernel) rfl rfl rfl rfl (bk (by omega)) (bk (by omega)) dL_law_2801 (fun _ => []) (fun _ => rfl) (fun v2801 M2801 => ?_)
  refine j_goto (tgt := 2845) hC dL_law_2804 (by decide) ?_
  exact j_sub [0, 1, 2, 3, 4] rfl (hk0 M2801 _ _ _ (by omega) (by omega))
set_option linter.unusedVariables false in
noncomputable def FL_42 (fu : Nat) (D : List LDen) (kn : List LDen → Mem → Option (PR Int32)) (w : Nat → Int32) (M : Mem) : Option (PR Int32) :=
  bd (FX1_back fu D M) (fun v2808 M2808 => bd (FX8_back fu D M2808) (fun v2812 M2812 => if v2808 = v2812 then kn D M2812 else some (0, 0, 0, M2812)))
set_option linter.unusedVariables false in
theorem wL_42 {X : JX} {b L t : Nat} {xs : Nat → Int32} (hC : JC X cL_law RX0 (some .boolean) 8192 104096 603072 7190634) (hX : dmI dmX (XG X)) (hM : dmI dmM (XG X)) (hst : (XL X).stackTraces = false) (hP : gP (XG X) = []) (h80 : gdm (XG X) (8, 0, 0) = false) (h81 : gdm (XG X) (8, 0, 1) = false) (hnl : nLof X = 7) (hS : JSc X b L xs) (hL : L ≤ 384) (ht : t + 6 ≤ L) {Z : PR Int32 → State → Prop} (hZ : ∀ (r : PR Int32) (c : Nat), Z (r.1, r.2.1, c + r.2.2.1, r.2.2.2) = Z r)
    (hFL : ∀ (D : List LDen) (M : Mem) (pc : Nat) (lv : List (Nat × Value)) (st : List Value) (k n : Nat), J (xL D X) Z (some (0, 0, 0, M)) pc lv st M k n) (hF : ∀ (M : Mem) (pc : Nat) (lv : List (Nat × Value)) (st : List Value) (k n : Nat), J X Z (some (0, 0, 0, M)) pc lv st M k n) (fu : Nat) (kn : List LDen → Mem → Option (PR Int32)) (hkn : ∀ (D : List LDen) (M : Mem) (k n m : Nat), k + m ≤ 603072 → n + 8 * m ≤ 7190634 → J (xL D X) Z (lm m (kn D M)) 2845 [(4, .int (nI t)), (3, .ref (gadr (XG X) (7, 0, 0))), (2, .ref (gadr (XG X) (5, 0, 0))), (1, .ref (gadr (XG X) (4, 0, 0))), (0, .ref b)] [] M k n) (hk0 : ∀ (M : Mem) (k n m : Nat), k + m ≤ 603072 → n + 8 * m ≤ 7190634 → J X Z (lm m (kn (XD X) M)) 2845 [(4, .int (nI t)), (3, .ref (gadr (XG X) (7, 0, 0))), (2, .ref (gadr (XG X) (5, 0, 0))), (1, .ref (gadr (XG X) (4, 0, 0))), (0, .ref b)] [] M k n) {k n m : Nat} (hk : k + m ≤ 603072) (hn : n + 8 * m ≤ 7190634) (M : Mem) : J X Z (lm m (FL_42 fu (XD X) kn (fun j => xs (t + j)) M)) 2807 [(4, .int (nI t)), (3, .ref (gadr (XG X) (7, 0, 0))), (2, .ref (gadr (XG X) (5, 0, 0))), (1, .ref (gadr (XG X) (4, 0, 0))), (0, .ref b)] [] M k n := by
  unfold FL_42
  refine j_aload_n hC 3 dL_law_2807 rfl ?_
  refine j_lm lm_bd ?_
  refine j_callV (nA := 0) (rest := []) hC [] rfl (fun r hr => mX1_back (XL X) (XG X) hX fu (XD X) M r hr) q715 q716 q717 q126 q718 (dmY hX rfl) rfl rfl (by decide +kernel) rfl rfl rfl rfl (bk (by omega)) (bk (by omega)) dL_law_2808 (fun v2808 => [.int v2808]) (fun _ => rfl) (fun v2808 M2808 => ?_)
  refine j_aload_n hC 2 dL_law_2811 rfl ?_
  refine j_lm lm_bd ?_
  refine j_callV (nA := 0) (rest := [.int v2808]) hC [] rfl (fun r hr => mX8_back (XL X) (XG X) hM fu (XD X) M2808 r hr) q1559 q1560 q1561 q136 q1562 (dmMo hM rfl) rfl rfl (by decide +kernel) rfl rfl rfl rfl (bk (by omega)) (bk (by omega)) dL_law_2812 (fun v2812 => [.int v2812, .int v2808]) (fun _ => rfl) (fun v2812 M2812 => ?_)
  refine j_lm lm_ite ?_
  refine j_icmp_eq (tgt := 2845) hC dL_law_2815 (by decide) (fun h2815 => ?_) (fun h2815 => ?_)
  · exact j_sub [0, 1, 2, 3, 4] rfl (hk0 M2812 _ _ _ (by omega) (by omega))
  · refine j_lm lm_some ?_
    exact hF _ _ _ _ _ _
set_option linter.unusedVariables false in
noncomputable def FL_43 (fu : Nat) (D : List LDen) (kn : List LDen → Mem → Option (PR Int32)) (w : Nat → Int32) (M : Mem) : Option (PR Int32) :=
  bd (FX1_count fu D M (w 1)) (fun v2827 M2827 => bd (FX8_count fu D M2827 (w 1)) (fun v2837 M2837 => if v2827 = v2837 then kn D M2837 else some (0, 0, 0, M2837)))
set_option linter.unusedVariables false in
theorem wL_43 {X : JX} {b L t : Nat} {xs : Nat → Int32} (hC : JC X cL_law RX0 (some .boolean) 8192 104096 603072 7190634) (hX : dmI dmX (XG X)) (hM : dmI dmM (XG X)) (hst : (XL X).stackTraces = false) (hP : gP (XG X) = []) (h80 : gdm (XG X) (8, 0, 0) = false) (h81 : gdm (XG X) (8, 0, 1) = false) (hnl : nLof X = 7) (hS : JSc X b L xs) (hL : L ≤ 384) (ht : t + 6 ≤ L) {Z : PR Int32 → State → Prop} (hZ : ∀ (r : PR Int32) (c : Nat), Z (r.1, r.2.1, c + r.2.2.1, r.2.2.2) = Z r)
    (hFL : ∀ (D : List LDen) (M : Mem) (pc : Nat) (lv : List (Nat × Value)) (st : List Value) (k n : Nat), J (xL D X) Z (some (0, 0, 0, M)) pc lv st M k n) (hF : ∀ (M : Mem) (pc : Nat) (lv : List (Nat × Value)) (st : List Value) (k n : Nat), J X Z (some (0, 0, 0, M)) pc lv st M k n) (fu : Nat) (kn : List LDen → Mem → Option (PR Int32)) (hkn : ∀ (D : List LDen) (M : Mem) (k n m : Nat), k + m ≤ 603072 → n + 8 * m ≤ 7190634 → J (xL D X) Z (lm m (kn D M)) 2845 [(4, .int (nI t)), (3, .ref (gadr (XG X) (7, 0, 0))), (2, .ref (gadr (XG X) (5, 0, 0))), (1, .ref (gadr (XG X) (4, 0, 0))), (0, .ref b)] [] M k n) (hk0 : ∀ (M : Mem) (k n m : Nat), k + m ≤ 603072 → n + 8 * m ≤ 7190634 → J X Z (lm m (kn (XD X) M)) 2845 [(4, .int (nI t)), (3, .ref (gadr (XG X) (7, 0, 0))), (2, .ref (gadr (XG X) (5, 0, 0))), (1, .ref (gadr (XG X) (4, 0, 0))), (0, .ref b)] [] M k n) {k n m : Nat} (hk : k + m ≤ 603072) (hn : n + 8 * m ≤ 7190634) (M : Mem) : J X Z (lm m (FL_43 fu (XD X) kn (fun j => xs (t + j)) M)) 2820 [(4, .int (nI t)), (3, .ref (gadr (XG X) (7, 0, 0))), (2, .ref (gadr (XG X) (5, 0, 0))), (1, .ref (gadr (XG X) (4, 0, 0))), (0, .ref b)] [] M k n := by
  unfold FL_43
  refine j_aload_n hC 3 dL_law_2820 rfl ?_
  refine j_scr (j := 1) hC hS hL (by omega) 4 0 rfl rfl dL_law_2821 dL_law_2822 dL_law_2824 (by decide) dL_law_2825 dL_law_2826 ?_
  refine j_lm lm_bd ?_
  refine j_callV (nA := 1) (rest := []) hC [.int (xs (t + 1))] rfl (fun r hr => mX1_count (XL X) (XG X) hX fu (XD X) M (xs (t + 1)) r hr) q719 q720 q721 q126 q722 (dmY hX rfl) rfl rfl (by decide +kernel) rfl rfl rfl rfl (bk (by omega)) (bk (by omega)) dL_law_2827 (fun v2827 => [.int v2827]) (fun _ => rfl) (fun v2827 M2827 => ?_)
  refine j_aload_n hC 2 dL_law_2830 rfl ?_
  refine j_scr (j := 1) hC hS hL (by omega) 4 0 rfl rfl dL_law_2831 dL_law_2832 dL_law_2834 (by decide) dL_law_2835 dL_law_2836 ?_
  refine j_lm lm_bd ?_
  refine j_callV (nA := 1) (rest := [.int v2827]) hC [.int (xs (t + 1))] rfl (fun r hr => mX8_count (XL X) (XG X) hM fu (XD X) M2827 (xs (t + 1)) r hr) q2101 q2102 q2103 q136 q2104 (dmMo hM rfl) rfl rfl (by decide +kernel) rfl rfl rfl rfl (bk (by omega)) (bk (by omega)) dL_law_2837 (fun v2837 => [.int v2837, .int v2827]) (fun _ => rfl) (fun v2837 M2837 => ?_)
  refine j_lm lm_ite ?_
  refine j_icmp_eq (tgt := 2845) hC dL_law_2840 (by decide) (fun h2840 => ?_) (fun h2840 => ?_)
  · exact j_sub [0, 1, 2, 3, 4] rfl (hk0 M2837 _ _ _ (by omega) (by omega))
  · refine j_lm lm_some ?_
    exact hF _ _ _ _ _ _
