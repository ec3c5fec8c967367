/-! State, Bird, Case: the walks (printed by gen/gen.py) -/
set_option linter.unusedVariables false in
set_option maxRecDepth 100000 in
theorem wX4_be {X : JX} (hC : JC X cX4_be RX4 none 1 12 0 0) (hG : dmI dmX (XG X)) (hnl : nLof X = 2) (fu : Nat) (s : Nat) (hs : s < 15) (b : Nat) (hb : b < 6) (o : Nat) (ho : o < 15) (ob : Nat) (hob : ob < 6) (M : Mem) : J X (ZN X foV) (FX4_be fu (XD X) s b o ob M) 0 [(0, .ref (gadr (XG X) (1, s, b))), (1, .ref (gadr (XG X) (1, o, ob)))] [] M 0 0 := by
  unfold FX4_be
  refine j_aload_n hC 0 dX4_be_0 rfl ?_
  refine j_aload_n hC 1 dX4_be_1 rfl ?_
  refine j_getI (fk := 0) hC (dmB hG ho hob) rfl rfl in_X4 rfl rfl q200 rfl dX4_be_2 ?_
  refine j_put (fk := 0) (ty := .int) hC (dmB hG hs hb) rfl rfl in_X4 rfl rfl q200 tyX4 tyX4_ok nmX4 rfl rfl (by decide +kernel) rfl rfl dX4_be_5 ?_
  refine j_lt (fun M5 => ?_)
  refine j_aload_n hC 0 dX4_be_8 rfl ?_
  refine j_aload_n hC 1 dX4_be_9 rfl ?_
  refine j_getI (fk := 1) hC (dmB hG ho hob) rfl rfl in_X4 rfl rfl q204 rfl dX4_be_10 ?_
  refine j_put (fk := 1) (ty := .int) hC (dmB hG hs hb) rfl rfl in_X4 rfl rfl q204 tyX4 tyX4_ok nmX4 rfl rfl (by decide +kernel) rfl rfl dX4_be_13 ?_
  refine j_lt (fun M13 => ?_)
  refine j_aload_n hC 0 dX4_be_16 rfl ?_
  refine j_aload_n hC 1 dX4_be_17 rfl ?_
  refine j_getI (fk := 2) hC (dmB hG ho hob) rfl rfl in_X4 rfl rfl q209 rfl dX4_be_18 ?_
  refine j_put (fk := 2) (ty := .int) hC (dmB hG hs hb) rfl rfl in_X4 rfl rfl q209 tyX4 tyX4_ok nmX4 rfl rfl (by decide +kernel) rfl rfl dX4_be_21 ?_
  refine j_lt (fun M21 => ?_)
  refine j_aload_n hC 0 dX4_be_24 rfl ?_
  refine j_aload_n hC 1 dX4_be_25 rfl ?_
  refine j_getI (fk := 3) hC (dmB hG ho hob) rfl rfl in_X4 rfl rfl q212 rfl dX4_be_26 ?_
  refine j_put (fk := 3) (ty := .int) hC (dmB hG hs hb) rfl rfl in_X4 rfl rfl q212 tyX4 tyX4_ok nmX4 rfl rfl (by decide +kernel) rfl rfl dX4_be_29 ?_
  refine j_lt (fun M29 => ?_)
  exact j_vret hC dX4_be_32
set_option linter.unusedVariables false in
set_option maxRecDepth 100000 in
theorem mX4_be (l : Launch) (Γ : xG) (hG : dmI dmX Γ) (fu : Nat) (D : List LDen) (s : Nat) (hs : s < 15) (b : Nat) (hb : b < 6) (o : Nat) (ho : o < 15) (ob : Nat) (hob : ob < 6) (M : Mem) (r : Int32 × Mem) (hr : FX4_be fu D s b o ob M = some r) : CN l yX4_be (ws_ yX4_be cX4_be 2 none) 1 12 Γ D [.ref (gadr Γ (1, s, b)), .ref (gadr Γ (1, o, ob))] M (foV r.1) r.2 := by
  refine CN.of (own := RX4) (lv0 := lv_args 0 [.ref (gadr Γ (1, s, b)), .ref (gadr Γ (1, o, ob))]) (by decide +kernel) rfl (Nat.le_of_ble_eq_true rfl) rfl (fun X e1 e2 e3 e4 hC => ?_) r hr
  subst e1
  subst e2
  exact wX4_be hC hG e4 fu s hs b hb o ho ob hob M
set_option linter.unusedVariables false in
set_option maxRecDepth 100000 in
theorem wX5_be {X : JX} (hC : JC X cX5_be RX5 none 1 12 0 0) (hG : dmI dmX (XG X)) (hnl : nLof X = 2) (fu : Nat) (s : Nat) (hs : s < 15) (c : Nat) (hc : c < 12) (o : Nat) (ho : o < 15) (oc : Nat) (hoc : oc < 12) (M : Mem) : J X (ZN X foV) (FX5_be fu (XD X) s c o oc M) 0 [(0, .ref (gadr (XG X) (2, s, c))), (1, .ref (gadr (XG X) (2, o, oc)))] [] M 0 0 := by
  unfold FX5_be
  refine j_aload_n hC 0 dX5_be_0 rfl ?_
  refine j_aload_n hC 1 dX5_be_1 rfl ?_
  refine j_getI (fk := 0) hC (dmC hG ho hoc) rfl rfl in_X5 rfl rfl q231 rfl dX5_be_2 ?_
  refine j_put (fk := 0) (ty := .int) hC (dmC hG hs hc) rfl rfl in_X5 rfl rfl q231 tyX5 tyX5_ok nmX5 rfl rfl (by decide +kernel) rfl rfl dX5_be_5 ?_
  refine j_lt (fun M5 => ?_)
  refine j_aload_n hC 0 dX5_be_8 rfl ?_
  refine j_aload_n hC 1 dX5_be_9 rfl ?_
  refine j_getI (fk := 1) hC (dmC hG ho hoc) rfl rfl in_X5 rfl rfl q235 rfl dX5_be_10 ?_
  refine j_put (fk := 1) (ty := .int) hC (dmC hG hs hc) rfl rfl in_X5 rfl rfl q235 tyX5 tyX5_ok nmX5 rfl rfl (by decide +kernel) rfl rfl dX5_be_13 ?_
  refine j_lt (fun M13 => ?_)
  refine j_aload_n hC 0 dX5_be_16 rfl ?_
  refine j_aload_n hC 1 dX5_be_17 rfl ?_
  refine j_getI (fk := 2) hC (dmC hG ho hoc) rfl rfl in_X5 rfl rfl q239 rfl dX5_be_18 ?_
  refine j_put (fk := 2) (ty := .int) hC (dmC hG hs hc) rfl rfl in_X5 rfl rfl q239 tyX5 tyX5_ok nmX5 rfl rfl (by decide +kernel) rfl rfl dX5_be_21 ?_
  refine j_lt (fun M21 => ?_)
  refine j_aload_n hC 0 dX5_be_24 rfl ?_
  refine j_aload_n hC 1 dX5_be_25 rfl ?_
  refine j_getI (fk := 3) hC (dmC hG ho hoc) rfl rfl in_X5 rfl rfl q243 rfl dX5_be_26 ?_
  refine j_put (fk := 3) (ty := .int) hC (dmC hG hs hc) rfl rfl in_X5 rfl rfl q243 tyX5 tyX5_ok nmX5 rfl rfl (by decide +kernel) rfl rfl dX5_be_29 ?_
  refine j_lt (fun M29 => ?_)
  exact j_vret hC dX5_be_32
set_option linter.unusedVariables false in
set_option maxRecDepth 100000 in
theorem mX5_be (l : Launch) (Γ : xG) (hG : dmI dmX Γ) (fu : Nat) (D : List LDen) (s : Nat) (hs : s < 15) (c : Nat) (hc : c < 12) (o : Nat) (ho : o < 15) (oc : Nat) (hoc : oc < 12) (M : Mem) (r : Int32 × Mem) (hr : FX5_be fu D s c o oc M = some r) : CN l yX5_be (ws_ yX5_be cX5_be 2 none) 1 12 Γ D [.ref (gadr Γ (2, s, c)), .ref (gadr Γ (2, o, oc))] M (foV r.1) r.2 := by
  refine CN.of (own := RX5) (lv0 := lv_args 0 [.ref (gadr Γ (2, s, c)), .ref (gadr Γ (2, o, oc))]) (by decide +kernel) rfl (Nat.le_of_ble_eq_true rfl) rfl (fun X e1 e2 e3 e4 hC => ?_) r hr
  subst e1
  subst e2
  exact wX5_be hC hG e4 fu s hs c hc o ho oc hoc M
set_option linter.unusedVariables false in
set_option maxRecDepth 100000 in
theorem wX3_draw {X : JX} (hC : JC X cX3_draw RX3 (some .int) 1 12 0 0) (hG : dmI dmX (XG X)) (hnl : nLof X = 2) (fu : Nat) (s : Nat) (hs : s < 15) (M : Mem) (x1 : Int32) : J X (ZN X foI) (FX3_draw fu (XD X) s M x1) 0 [(0, .ref (gadr (XG X) (0, s, 0))), (1, .int x1)] [] M 0 0 := by
  unfold FX3_draw
  refine j_aload_n hC 0 dX3_draw_0 rfl ?_
  refine j_ldc (v := 1103515245) hC dX3_draw_1 q1214 ?_
  refine j_aload_n hC 0 dX3_draw_3 rfl ?_
  refine j_getI (fk := 18) hC (dmS hG hs rfl) rfl rfl in_X3 rfl rfl q304 rfl dX3_draw_4 ?_
  refine j_imul hC dX3_draw_7 ?_
  refine j_sipush (v := 12345) hC dX3_draw_8 (by decide) ?_
  refine j_iadd hC dX3_draw_11 ?_
  refine j_put (fk := 18) (ty := .int) hC (dmS hG hs rfl) rfl rfl in_X3 rfl rfl q304 tyX3 tyX3_ok nmX3 rfl rfl (by decide +kernel) rfl rfl dX3_draw_12 ?_
  refine j_lt (fun M12 => ?_)
  refine j_aload_n hC 0 dX3_draw_15 rfl ?_
  refine j_getI (fk := 18) hC (dmS hG hs rfl) rfl rfl in_X3 rfl rfl q304 rfl dX3_draw_16 ?_
  refine j_bipush (v := 16) hC dX3_draw_19 (by decide) ?_
  refine j_iushr hC dX3_draw_21 rfl ?_
  refine j_sipush (v := 32767) hC dX3_draw_22 (by decide) ?_
  refine j_iand hC dX3_draw_25 ?_
  refine j_iload_n hC 1 dX3_draw_26 rfl ?_
  refine j_irem hC dX3_draw_27 ?_
  exact j_iret hC dX3_draw_28
set_option linter.unusedVariables false in
set_option maxRecDepth 100000 in
theorem mX3_draw (l : Launch) (Γ : xG) (hG : dmI dmX Γ) (fu : Nat) (D : List LDen) (s : Nat) (hs : s < 15) (M : Mem) (x1 : Int32) (r : Int32 × Mem) (hr : FX3_draw fu D s M x1 = some r) : CN l yX3_draw (ws_ yX3_draw cX3_draw 2 (some .int)) 1 12 Γ D [.ref (gadr Γ (0, s, 0)), .int x1] M (foI r.1) r.2 := by
  refine CN.of (own := RX3) (lv0 := lv_args 0 [.ref (gadr Γ (0, s, 0)), .int x1]) (by decide +kernel) rfl (Nat.le_of_ble_eq_true rfl) rfl (fun X e1 e2 e3 e4 hC => ?_) r hr
  subst e1
  subst e2
  exact wX3_draw hC hG e4 fu s hs M x1
set_option linter.unusedVariables false in
set_option maxRecDepth 100000 in
theorem wX3_isYard_21 {X : JX} (hC : JC X cX3_isYard RX3 (some .boolean) 1 12 0 0) (hG : dmI dmX (XG X)) (hnl : nLof X = 2) (fu : Nat) (s : Nat) (hs : s < 15) (M : Mem) (t0 : Int32) : J X (ZN X foI) (FX3_isYard_21 fu (XD X) s M t0) 21 [] [.int t0] M 0 0 := by
  unfold FX3_isYard_21
  exact j_zret hC rfl dX3_isYard_21
set_option linter.unusedVariables false in
set_option maxRecDepth 100000 in
theorem wX3_isYard_20 {X : JX} (hC : JC X cX3_isYard RX3 (some .boolean) 1 12 0 0) (hG : dmI dmX (XG X)) (hnl : nLof X = 2) (fu : Nat) (s : Nat) (hs : s < 15) (M : Mem) : J X (ZN X foI) (FX3_isYard_20 fu (XD X) s M) 20 [] [] M 0 0 := by
  unfold FX3_isYard_20
  refine j_iconst (v := 0) hC dX3_isYard_20 (by decide) ?_
  exact j_sub [] rfl (wX3_isYard_21 hC hG hnl fu s hs M 0)
set_option linter.unusedVariables false in
set_option maxRecDepth 100000 in
theorem wX3_isYard {X : JX} (hC : JC X cX3_isYard RX3 (some .boolean) 1 12 0 0) (hG : dmI dmX (XG X)) (hnl : nLof X = 2) (fu : Nat) (s : Nat) (hs : s < 15) (M : Mem) (x1 : Int32) : J X (ZN X foI) (FX3_isYard fu (XD X) s M x1) 0 [(0, .ref (gadr (XG X) (0, s, 0))), (1, .int x1)] [] M 0 0 := by
  unfold FX3_isYard
  refine j_iload_n hC 1 dX3_isYard_0 rfl ?_
  refine j_aload_n hC 0 dX3_isYard_1 rfl ?_
  refine j_getI (fk := 14) hC (dmS hG hs rfl) rfl rfl in_X3 rfl rfl q293 rfl dX3_isYard_2 ?_
  refine j_icmp_lt (tgt := 20) hC dX3_isYard_5 (by decide) (fun h5 => ?_) (fun h5 => ?_)
  · exact j_sub [] rfl (wX3_isYard_20 hC hG hnl fu s hs M)
  · refine j_iload_n hC 1 dX3_isYard_8 rfl ?_
    refine j_aload_n hC 0 dX3_isYard_9 rfl ?_
    refine j_getI (fk := 15) hC (dmS hG hs rfl) rfl rfl in_X3 rfl rfl q296 rfl dX3_isYard_10 ?_
    refine j_icmp_gt (tgt := 20) hC dX3_isYard_13 (by decide) (fun h13 => ?_) (fun h13 => ?_)
    · exact j_sub [] rfl (wX3_isYard_20 hC hG hnl fu s hs M)
    · refine j_iconst (v := 1) hC dX3_isYard_16 (by decide) ?_
      refine j_goto (tgt := 21) hC dX3_isYard_17 (by decide) ?_
      exact j_sub [] rfl (wX3_isYard_21 hC hG hnl fu s hs M 1)
set_option linter.unusedVariables false in
set_option maxRecDepth 100000 in
theorem mX3_isYard (l : Launch) (Γ : xG) (hG : dmI dmX Γ) (fu : Nat) (D : List LDen) (s : Nat) (hs : s < 15) (M : Mem) (x1 : Int32) (r : Int32 × Mem) (hr : FX3_isYard fu D s M x1 = some r) : CN l yX3_isYard (ws_ yX3_isYard cX3_isYard 2 (some .boolean)) 1 12 Γ D [.ref (gadr Γ (0, s, 0)), .int x1] M (foI r.1) r.2 := by
  refine CN.of (own := RX3) (lv0 := lv_args 0 [.ref (gadr Γ (0, s, 0)), .int x1]) (by decide +kernel) rfl (Nat.le_of_ble_eq_true rfl) rfl (fun X e1 e2 e3 e4 hC => ?_) r hr
  subst e1
  subst e2
  exact wX3_isYard hC hG e4 fu s hs M x1
set_option linter.unusedVariables false in
set_option maxRecDepth 100000 in
theorem wX3_tells_95 {X : JX} (hC : JC X cX3_tells RX3 none 2 33 0 0) (hG : dmI dmX (XG X)) (hnl : nLof X = 5) (fu : Nat) (s : Nat) (hs : s < 15) (M : Mem) (t0 t1 : Int32) : J X (ZN X foV) (FX3_tells_95 fu (XD X) s M t0 t1) 95 [] [.int t0, .int t1, .ref (gadr (XG X) (0, s, 6))] M 0 0 := by
  unfold FX3_tells_95
  refine j_iast hC (dmS hG hs rfl) rfl dX3_tells_95 (fun h95 => ?_)
  refine j_lt (fun M95 => ?_)
  exact j_vret hC dX3_tells_96
set_option linter.unusedVariables false in
set_option maxRecDepth 100000 in
theorem wX3_tells_75 {X : JX} (hC : JC X cX3_tells RX3 none 2 33 0 0) (hG : dmI dmX (XG X)) (hnl : nLof X = 5) (fu : Nat) (s : Nat) (hs : s < 15) (M : Mem) (x3 t0 t1 : Int32) : J X (ZN X foV) (FX3_tells_75 fu (XD X) s M x3 t0 t1) 75 [(0, .ref (gadr (XG X) (0, s, 0))), (3, .int x3)] [.int t0, .int t1, .ref (gadr (XG X) (0, s, 6))] M 0 0 := by
  unfold FX3_tells_75
  refine j_iast hC (dmS hG hs rfl) rfl dX3_tells_75 (fun h75 => ?_)
  refine j_lt (fun M75 => ?_)
  refine j_aload_n hC 0 dX3_tells_76 rfl ?_
  refine j_getR (fk := 5) hC (dmS hG hs rfl) rfl rfl in_X3 rfl rfl q270 rfl dX3_tells_77 ?_
  refine j_bipush (v := 7) hC dX3_tells_80 (by decide) ?_
  refine j_aload_n hC 0 dX3_tells_82 rfl ?_
  refine j_iload_n hC 1 dX3_tells_83 rfl ?_
  refine j_callV (nA := 1) (rest := [.int 7, .ref (gadr (XG X) (0, s, 6))]) hC [.int x3] rfl (fun r hr => mX3_isYard (XL X) (XG X) hG fu (XD X) s hs M75 x3 r hr) q585 q586 q587 q128 q588 (dmS hG hs rfl) rfl rfl (by decide +kernel) rfl rfl rfl rfl rfl rfl dX3_tells_84 (fun v84 => [.int v84, .int 7, .ref (gadr (XG X) (0, s, 6))]) (fun _ => rfl) (fun v84 M84 => ?_)
  refine j_if_eq (tgt := 94) hC dX3_tells_87 (by decide) (fun h87 => ?_) (fun h87 => ?_)
  · refine j_iconst (v := 0) hC dX3_tells_94 (by decide) ?_
    exact j_sub [] rfl (wX3_tells_95 hC hG hnl fu s hs M84 0 7)
  · refine j_iconst (v := 1) hC dX3_tells_90 (by decide) ?_
    refine j_goto (tgt := 95) hC dX3_tells_91 (by decide) ?_
    exact j_sub [] rfl (wX3_tells_95 hC hG hnl fu s hs M84 1 7)
set_option linter.unusedVariables false in
set_option maxRecDepth 100000 in
theorem wX3_tells {X : JX} (hC : JC X cX3_tells RX3 none 2 33 0 0) (hG : dmI dmX (XG X)) (hnl : nLof X = 5) (fu : Nat) (s : Nat) (hs : s < 15) (M : Mem) (x1 x2 x3 x4 : Int32) : J X (ZN X foV) (FX3_tells fu (XD X) s M x1 x2 x3 x4) 0 [(0, .ref (gadr (XG X) (0, s, 0))), (1, .int x1), (2, .int x2), (3, .int x3), (4, .int x4)] [] M 0 0 := by
  unfold FX3_tells
  refine j_aload_n hC 0 dX3_tells_0 rfl ?_
  refine j_getR (fk := 5) hC (dmS hG hs rfl) rfl rfl in_X3 rfl rfl q270 rfl dX3_tells_1 ?_
  refine j_iconst (v := 0) hC dX3_tells_4 (by decide) ?_
  refine j_iload_n hC 1 dX3_tells_5 rfl ?_
  refine j_iast hC (dmS hG hs rfl) rfl dX3_tells_6 (fun h6 => ?_)
  refine j_lt (fun M6 => ?_)
  refine j_aload_n hC 0 dX3_tells_7 rfl ?_
  refine j_getR (fk := 5) hC (dmS hG hs rfl) rfl rfl in_X3 rfl rfl q270 rfl dX3_tells_8 ?_
  refine j_iconst (v := 1) hC dX3_tells_11 (by decide) ?_
  refine j_iload_n hC 2 dX3_tells_12 rfl ?_
  refine j_iast hC (dmS hG hs rfl) rfl dX3_tells_13 (fun h13 => ?_)
  refine j_lt (fun M13 => ?_)
  refine j_aload_n hC 0 dX3_tells_14 rfl ?_
  refine j_getR (fk := 5) hC (dmS hG hs rfl) rfl rfl in_X3 rfl rfl q270 rfl dX3_tells_15 ?_
  refine j_iconst (v := 2) hC dX3_tells_18 (by decide) ?_
  refine j_iload_n hC 3 dX3_tells_19 rfl ?_
  refine j_iast hC (dmS hG hs rfl) rfl dX3_tells_20 (fun h20 => ?_)
  refine j_lt (fun M20 => ?_)
  refine j_aload_n hC 0 dX3_tells_21 rfl ?_
  refine j_getR (fk := 5) hC (dmS hG hs rfl) rfl rfl in_X3 rfl rfl q270 rfl dX3_tells_22 ?_
  refine j_iconst (v := 3) hC dX3_tells_25 (by decide) ?_
  refine j_aload_n hC 0 dX3_tells_26 rfl ?_
  refine j_getR (fk := 0) hC (dmS hG hs rfl) rfl rfl in_X3 rfl rfl q255 rfl dX3_tells_27 ?_
  refine j_iload_n hC 1 dX3_tells_30 rfl ?_
  refine j_aald3 (d := (1, s, x1.toNatClampNeg)) hC (dmS hG hs rfl) rfl rfl dX3_tells_31 (fun h31 => ?_)
  refine j_getNI (fk := 1) hC (dmB hG hs (vin_lt h31)) rfl rfl in_X4 rfl rfl q206 rfl dX3_tells_32 ?_
  refine j_iast hC (dmS hG hs rfl) rfl dX3_tells_35 (fun h35 => ?_)
  refine j_lt (fun M35 => ?_)
  refine j_aload_n hC 0 dX3_tells_36 rfl ?_
  refine j_getR (fk := 5) hC (dmS hG hs rfl) rfl rfl in_X3 rfl rfl q270 rfl dX3_tells_37 ?_
  refine j_iconst (v := 4) hC dX3_tells_40 (by decide) ?_
  refine j_aload_n hC 0 dX3_tells_41 rfl ?_
  refine j_getI (fk := 16) hC (dmS hG hs rfl) rfl rfl in_X3 rfl rfl q299 rfl dX3_tells_42 ?_
  refine j_iast hC (dmS hG hs rfl) rfl dX3_tells_45 (fun h45 => ?_)
  refine j_lt (fun M45 => ?_)
  refine j_aload_n hC 0 dX3_tells_46 rfl ?_
  refine j_getR (fk := 5) hC (dmS hG hs rfl) rfl rfl in_X3 rfl rfl q270 rfl dX3_tells_47 ?_
  refine j_iconst (v := 5) hC dX3_tells_50 (by decide) ?_
  refine j_iload hC 4 dX3_tells_51 rfl ?_
  refine j_iast hC (dmS hG hs rfl) rfl dX3_tells_53 (fun h53 => ?_)
  refine j_lt (fun M53 => ?_)
  refine j_aload_n hC 0 dX3_tells_54 rfl ?_
  refine j_getR (fk := 5) hC (dmS hG hs rfl) rfl rfl in_X3 rfl rfl q270 rfl dX3_tells_55 ?_
  refine j_bipush (v := 6) hC dX3_tells_58 (by decide) ?_
  refine j_iload_n hC 2 dX3_tells_60 rfl ?_
  refine j_aload_n hC 0 dX3_tells_61 rfl ?_
  refine j_getI (fk := 13) hC (dmS hG hs rfl) rfl rfl in_X3 rfl rfl q289 rfl dX3_tells_62 ?_
  refine j_iconst (v := 2) hC dX3_tells_65 (by decide) ?_
  refine j_idivL hC dX3_tells_66 (by decide) ?_
  refine j_icmp_le (tgt := 74) hC dX3_tells_67 (by decide) (fun h67 => ?_) (fun h67 => ?_)
  · refine j_iconst (v := 0) hC dX3_tells_74 (by decide) ?_
    exact j_sub [0, 3] rfl (wX3_tells_75 hC hG hnl fu s hs M53 x3 0 6)
  · refine j_iconst (v := 1) hC dX3_tells_70 (by decide) ?_
    refine j_goto (tgt := 75) hC dX3_tells_71 (by decide) ?_
    exact j_sub [0, 3] rfl (wX3_tells_75 hC hG hnl fu s hs M53 x3 1 6)
set_option linter.unusedVariables false in
set_option maxRecDepth 100000 in
theorem mX3_tells (l : Launch) (Γ : xG) (hG : dmI dmX Γ) (fu : Nat) (D : List LDen) (s : Nat) (hs : s < 15) (M : Mem) (x1 x2 x3 x4 : Int32) (r : Int32 × Mem) (hr : FX3_tells fu D s M x1 x2 x3 x4 = some r) : CN l yX3_tells (ws_ yX3_tells cX3_tells 5 none) 2 33 Γ D [.ref (gadr Γ (0, s, 0)), .int x1, .int x2, .int x3, .int x4] M (foV r.1) r.2 := by
  refine CN.of (own := RX3) (lv0 := lv_args 0 [.ref (gadr Γ (0, s, 0)), .int x1, .int x2, .int x3, .int x4]) (by decide +kernel) rfl (Nat.le_of_ble_eq_true rfl) rfl (fun X e1 e2 e3 e4 hC => ?_) r hr
  subst e1
  subst e2
  exact wX3_tells hC hG e4 fu s hs M x1 x2 x3 x4
set_option linter.unusedVariables false in
set_option maxRecDepth 100000 in
theorem wX3_stock {X : JX} (hC : JC X cX3_stock RX3 (some .int) 1 12 0 0) (hG : dmI dmX (XG X)) (hnl : nLof X = 3) (fu : Nat) (s : Nat) (hs : s < 15) (M : Mem) (x1 x2 : Int32) : J X (ZN X foI) (FX3_stock fu (XD X) s M x1 x2) 0 [(0, .ref (gadr (XG X) (0, s, 0))), (1, .int x1), (2, .int x2)] [] M 0 0 := by
  unfold FX3_stock
  refine j_aload_n hC 0 dX3_stock_0 rfl ?_
  refine j_getR (fk := 3) hC (dmS hG hs rfl) rfl rfl in_X3 rfl rfl q264 rfl dX3_stock_1 ?_
  refine j_bipush (v := 6) hC dX3_stock_4 (by decide) ?_
  refine j_iload_n hC 1 dX3_stock_6 rfl ?_
  refine j_imul hC dX3_stock_7 ?_
  refine j_iload_n hC 2 dX3_stock_8 rfl ?_
  refine j_iadd hC dX3_stock_9 ?_
  refine j_iald hC (dmS hG hs rfl) rfl dX3_stock_10 (fun h10 => ?_)
  exact j_iret hC dX3_stock_11
set_option linter.unusedVariables false in
set_option maxRecDepth 100000 in
theorem mX3_stock (l : Launch) (Γ : xG) (hG : dmI dmX Γ) (fu : Nat) (D : List LDen) (s : Nat) (hs : s < 15) (M : Mem) (x1 x2 : Int32) (r : Int32 × Mem) (hr : FX3_stock fu D s M x1 x2 = some r) : CN l yX3_stock (ws_ yX3_stock cX3_stock 3 (some .int)) 1 12 Γ D [.ref (gadr Γ (0, s, 0)), .int x1, .int x2] M (foI r.1) r.2 := by
  refine CN.of (own := RX3) (lv0 := lv_args 0 [.ref (gadr Γ (0, s, 0)), .int x1, .int x2]) (by decide +kernel) rfl (Nat.le_of_ble_eq_true rfl) rfl (fun X e1 e2 e3 e4 hC => ?_) r hr
  subst e1
  subst e2
  exact wX3_stock hC hG e4 fu s hs M x1 x2
set_option linter.unusedVariables false in
set_option maxRecDepth 100000 in
theorem wX3_choices_56 {X : JX} (hC : JC X cX3_choices RX3 (some .int) 2 34 0 0) (hG : dmI dmX (XG X)) (hnl : nLof X = 6) (fu : Nat) (s : Nat) (hs : s < 15) (n3 : Nat) (hn3 : n3 < 12) (kn13 : Mem × Int32 × Int32 × Int32 → Option (Int32 × Mem)) (hk13 : ∀ (M : Mem) (x2 x4 x5 : Int32), J X (ZN X foI) (kn13 (M, x2, x4, x5)) 13 [(0, .ref (gadr (XG X) (0, s, 0))), (2, .int x2), (3, .ref (gadr (XG X) (2, s, n3))), (4, .int x4), (5, .int x5)] [] M 0 0) (M : Mem) (x2 x5 t0 t1 : Int32) : J X (ZN X foI) (FX3_choices_56 fu (XD X) s kn13 n3 M x2 x5 t0 t1) 56 [(0, .ref (gadr (XG X) (0, s, 0))), (2, .int x2), (3, .ref (gadr (XG X) (2, s, n3))), (5, .int x5)] [.int t0, .int t1] M 0 0 := by
  unfold FX3_choices_56
  refine j_ior hC dX3_choices_56 ?_
  refine j_ltT (fun y57 => ?_)
  refine j_istore hC [(4, .int y57), (0, .ref (gadr (XG X) (0, s, 0))), (2, .int x2), (3, .ref (gadr (XG X) (2, s, n3))), (5, .int x5)] hnl dX3_choices_57 rfl rfl ?_
  refine j_iincL hC 4 (fun y59 => [(5, .int y59), (4, .int y57), (0, .ref (gadr (XG X) (0, s, 0))), (2, .int x2), (3, .ref (gadr (XG X) (2, s, n3)))]) hnl dX3_choices_59 rfl (by decide) rfl (fun _ => rfl) (fun y59 => ?_)
  refine j_goto (tgt := 13) hC dX3_choices_62 (by decide) ?_
  exact j_sub [2, 3, 4, 1, 0] rfl (hk13 M x2 y57 y59)
set_option linter.unusedVariables false in
set_option maxRecDepth 100000 in
theorem wX3_choices_40 {X : JX} (hC : JC X cX3_choices RX3 (some .int) 2 34 0 0) (hG : dmI dmX (XG X)) (hnl : nLof X = 6) (fu : Nat) (s : Nat) (hs : s < 15) (n3 : Nat) (hn3 : n3 < 12) (kn13 : Mem × Int32 × Int32 × Int32 → Option (Int32 × Mem)) (hk13 : ∀ (M : Mem) (x2 x4 x5 : Int32), J X (ZN X foI) (kn13 (M, x2, x4, x5)) 13 [(0, .ref (gadr (XG X) (0, s, 0))), (2, .int x2), (3, .ref (gadr (XG X) (2, s, n3))), (4, .int x4), (5, .int x5)] [] M 0 0) (M : Mem) (x2 x5 t0 t2 : Int32) : J X (ZN X foI) (FX3_choices_40 fu (XD X) s kn13 n3 M x2 x5 t0 t2) 40 [(0, .ref (gadr (XG X) (0, s, 0))), (2, .int x2), (3, .ref (gadr (XG X) (2, s, n3))), (5, .int x5)] [.int t0, .ref (gadr (XG X) (0, s, 0)), .int t2] M 0 0 := by
  unfold FX3_choices_40
  refine j_iload hC 3 dX3_choices_40 rfl ?_
  refine j_callV (nA := 2) (rest := [.int t2]) hC [.int t0, .int x5] rfl (fun r hr => mX3_stock (XL X) (XG X) hG fu (XD X) s hs M t0 x5 r hr) q1152 q677 q678 q128 q679 (dmS hG hs rfl) rfl rfl (by decide +kernel) rfl rfl rfl rfl rfl rfl dX3_choices_42 (fun v42 => [.int v42, .int t2]) (fun _ => rfl) (fun v42 M42 => ?_)
  refine j_if_le (tgt := 55) hC dX3_choices_45 (by decide) (fun h45 => ?_) (fun h45 => ?_)
  · refine j_iconst (v := 0) hC dX3_choices_55 (by decide) ?_
    exact j_sub [0, 1, 2, 3] rfl (wX3_choices_56 hC hG hnl fu s hs n3 hn3 kn13 hk13 M42 x2 x5 0 t2)
  · refine j_iconst (v := 1) hC dX3_choices_48 (by decide) ?_
    refine j_iload hC 3 dX3_choices_49 rfl ?_
    refine j_ishl hC dX3_choices_51 ?_
    refine j_goto (tgt := 56) hC dX3_choices_52 (by decide) ?_
    exact j_sub [0, 1, 2, 3] rfl (wX3_choices_56 hC hG hnl fu s hs n3 hn3 kn13 hk13 M42 x2 x5 (1 <<< (x5 &&& 31)) t2)
set_option linter.unusedVariables false in
set_option maxRecDepth 100000 in
theorem wgX3_choices_13 {X : JX} (hC : JC X cX3_choices RX3 (some .int) 2 34 0 0) (hG : dmI dmX (XG X)) (hnl : nLof X = 6) (fu : Nat) (s : Nat) (hs : s < 15) (n3 : Nat) (hn3 : n3 < 12) (kn13 : Mem × Int32 × Int32 × Int32 → Option (Int32 × Mem)) (hk13 : ∀ (M : Mem) (x2 x4 x5 : Int32), J X (ZN X foI) (kn13 (M, x2, x4, x5)) 13 [(0, .ref (gadr (XG X) (0, s, 0))), (2, .int x2), (3, .ref (gadr (XG X) (2, s, n3))), (4, .int x4), (5, .int x5)] [] M 0 0) (M : Mem) (x2 x4 x5 : Int32) : J X (ZN X foI) (GX3_choices_13 fu (XD X) s kn13 n3 M x2 x4 x5) 13 [(0, .ref (gadr (XG X) (0, s, 0))), (2, .int x2), (3, .ref (gadr (XG X) (2, s, n3))), (4, .int x4), (5, .int x5)] [] M 0 0 := by
  unfold GX3_choices_13
  refine j_iload hC 4 dX3_choices_13 rfl ?_
  refine j_aload_n hC 0 dX3_choices_15 rfl ?_
  refine j_getI (fk := 7) hC (dmS hG hs rfl) rfl rfl in_X3 rfl rfl q272 rfl dX3_choices_16 ?_
  refine j_icmp_ge (tgt := 65) hC dX3_choices_19 (by decide) (fun h19 => ?_) (fun h19 => ?_)
  · refine j_iload hC 3 dX3_choices_65 rfl ?_
    refine j_aload_n hC 2 dX3_choices_67 rfl ?_
    refine j_getNI (fk := 2) hC (dmC hG hs hn3) rfl rfl in_X5 rfl rfl q240 rfl dX3_choices_68 ?_
    refine j_iand hC dX3_choices_71 ?_
    exact j_iret hC dX3_choices_72
  · refine j_iload hC 3 dX3_choices_22 rfl ?_
    refine j_aload_n hC 0 dX3_choices_24 rfl ?_
    refine j_iload_n hC 1 dX3_choices_25 rfl ?_
    refine j_if_eq (tgt := 36) hC dX3_choices_26 (by decide) (fun h26 => ?_) (fun h26 => ?_)
    · refine j_aload_n hC 2 dX3_choices_36 rfl ?_
      refine j_getNI (fk := 0) hC (dmC hG hs hn3) rfl rfl in_X5 rfl rfl q232 rfl dX3_choices_37 ?_
      exact j_sub [0, 1, 2, 4] rfl (wX3_choices_40 hC hG hnl fu s hs n3 hn3 kn13 hk13 M x2 x5 (M (2, s, n3) 0) x4)
    · refine j_aload_n hC 2 dX3_choices_29 rfl ?_
      refine j_getNI (fk := 1) hC (dmC hG hs hn3) rfl rfl in_X5 rfl rfl q236 rfl dX3_choices_30 ?_
      refine j_goto (tgt := 40) hC dX3_choices_33 (by decide) ?_
      exact j_sub [0, 1, 2, 4] rfl (wX3_choices_40 hC hG hnl fu s hs n3 hn3 kn13 hk13 M x2 x5 (M (2, s, n3) 1) x4)
set_option linter.unusedVariables false in
set_option maxRecDepth 100000 in
theorem wX3_choices_13 {X : JX} (hC : JC X cX3_choices RX3 (some .int) 2 34 0 0) (hG : dmI dmX (XG X)) (hnl : nLof X = 6) (fu : Nat) (s : Nat) (hs : s < 15) (n3 : Nat) (hn3 : n3 < 12) (M : Mem) (x2 x4 x5 : Int32) : J X (ZN X foI) (FX3_choices_13 fu (XD X) s n3 M x2 x4 x5) 13 [(0, .ref (gadr (XG X) (0, s, 0))), (2, .int x2), (3, .ref (gadr (XG X) (2, s, n3))), (4, .int x4), (5, .int x5)] [] M 0 0 := by
  exact j_lp (lvf := fun z => [(0, .ref (gadr (XG X) (0, s, 0))), (2, .int (z.2.1)), (3, .ref (gadr (XG X) (2, s, n3))), (4, .int (z.2.2.1)), (5, .int (z.2.2.2))]) (Mf := fun z => z.1) (fun kn hk z => wgX3_choices_13 hC hG hnl fu s hs n3 hn3 kn (fun M x2 x4 x5 => hk (M, x2, x4, x5)) z.1 z.2.1 z.2.2.1 z.2.2.2) fu (M, x2, x4, x5)
set_option linter.unusedVariables false in
set_option maxRecDepth 100000 in
theorem wX3_choices {X : JX} (hC : JC X cX3_choices RX3 (some .int) 2 34 0 0) (hG : dmI dmX (XG X)) (hnl : nLof X = 6) (fu : Nat) (s : Nat) (hs : s < 15) (M : Mem) (x1 x2 : Int32) : J X (ZN X foI) (FX3_choices fu (XD X) s M x1 x2) 0 [(0, .ref (gadr (XG X) (0, s, 0))), (1, .int x1), (2, .int x2)] [] M 0 0 := by
  unfold FX3_choices
  refine j_aload_n hC 0 dX3_choices_0 rfl ?_
  refine j_getR (fk := 1) hC (dmS hG hs rfl) rfl rfl in_X3 rfl rfl q259 rfl dX3_choices_1 ?_
  refine j_iload_n hC 1 dX3_choices_4 rfl ?_
  refine j_aald4 (d := (2, s, x1.toNatClampNeg)) hC (dmS hG hs rfl) rfl rfl dX3_choices_5 (fun h5 => ?_)
  refine j_astore_n hC [(3, .ref (gadr (XG X) (2, s, x1.toNatClampNeg))), (0, .ref (gadr (XG X) (0, s, 0))), (1, .int x1), (2, .int x2)] hnl dX3_choices_6 rfl rfl ?_
  refine j_iconst (v := 0) hC dX3_choices_7 (by decide) ?_
  refine j_istore hC [(4, .int 0), (3, .ref (gadr (XG X) (2, s, x1.toNatClampNeg))), (0, .ref (gadr (XG X) (0, s, 0))), (1, .int x1), (2, .int x2)] hnl dX3_choices_8 rfl rfl ?_
  refine j_iconst (v := 0) hC dX3_choices_10 (by decide) ?_
  refine j_istore hC [(5, .int 0), (4, .int 0), (3, .ref (gadr (XG X) (2, s, x1.toNatClampNeg))), (0, .ref (gadr (XG X) (0, s, 0))), (1, .int x1), (2, .int x2)] hnl dX3_choices_11 rfl rfl ?_
  exact j_sub [3, 5, 2, 1, 0] rfl (wX3_choices_13 hC hG hnl fu s hs (x1.toNatClampNeg) (vin_lt h5) M x2 0 0)
set_option linter.unusedVariables false in
set_option maxRecDepth 100000 in
theorem mX3_choices (l : Launch) (Γ : xG) (hG : dmI dmX Γ) (fu : Nat) (D : List LDen) (s : Nat) (hs : s < 15) (M : Mem) (x1 x2 : Int32) (r : Int32 × Mem) (hr : FX3_choices fu D s M x1 x2 = some r) : CN l yX3_choices (ws_ yX3_choices cX3_choices 6 (some .int)) 2 34 Γ D [.ref (gadr Γ (0, s, 0)), .int x1, .int x2] M (foI r.1) r.2 := by
  refine CN.of (own := RX3) (lv0 := lv_args 0 [.ref (gadr Γ (0, s, 0)), .int x1, .int x2]) (by decide +kernel) rfl (Nat.le_of_ble_eq_true rfl) rfl (fun X e1 e2 e3 e4 hC => ?_) r hr
  subst e1
  subst e2
  exact wX3_choices hC hG e4 fu s hs M x1 x2
set_option linter.unusedVariables false in
set_option maxRecDepth 100000 in
theorem wX3_writes {X : JX} (hC : JC X cX3_writes RX3 none 1 12 0 0) (hG : dmI dmX (XG X)) (hnl : nLof X = 7) (fu : Nat) (s : Nat) (hs : s < 15) (M : Mem) (x1 x2 x3 x4 x5 : Int32) : J X (ZN X foV) (FX3_writes fu (XD X) s M x1 x2 x3 x4 x5) 0 [(0, .ref (gadr (XG X) (0, s, 0))), (1, .int x1), (2, .int x2), (3, .int x3), (4, .int x4), (5, .int x5)] [] M 0 0 := by
  unfold FX3_writes
  refine j_aload_n hC 0 dX3_writes_0 rfl ?_
  refine j_getI (fk := 19) hC (dmS hG hs rfl) rfl rfl in_X3 rfl rfl q306 rfl dX3_writes_1 ?_
  refine j_bipush (v := 60) hC dX3_writes_4 (by decide) ?_
  refine j_iremL hC dX3_writes_6 (by decide) ?_
  refine j_bipush (v := 6) hC dX3_writes_7 (by decide) ?_
  refine j_imul hC dX3_writes_9 ?_
  refine j_ltT (fun y10 => ?_)
  refine j_istore hC [(6, .int y10), (0, .ref (gadr (XG X) (0, s, 0))), (1, .int x1), (2, .int x2), (3, .int x3), (4, .int x4), (5, .int x5)] hnl dX3_writes_10 rfl rfl ?_
  refine j_aload_n hC 1 dX3_writes_12 rfl ?_
  refine j_getR (fk := 6) hC (dmS hG hs rfl) rfl rfl in_X3 rfl rfl q271 rfl dX3_writes_13 ?_
  refine j_iload hC 0 dX3_writes_16 rfl ?_
  refine j_aload_n hC 1 dX3_writes_18 rfl ?_
  refine j_getI (fk := 17) hC (dmS hG hs rfl) rfl rfl in_X3 rfl rfl q302 rfl dX3_writes_19 ?_
  refine j_iast hC (dmS hG hs rfl) rfl dX3_writes_22 (fun h22 => ?_)
  refine j_lt (fun M22 => ?_)
  refine j_aload_n hC 1 dX3_writes_23 rfl ?_
  refine j_getR (fk := 6) hC (dmS hG hs rfl) rfl rfl in_X3 rfl rfl q271 rfl dX3_writes_24 ?_
  refine j_iload hC 0 dX3_writes_27 rfl ?_
  refine j_iconst (v := 1) hC dX3_writes_29 (by decide) ?_
  refine j_iadd hC dX3_writes_30 ?_
  refine j_iload_n hC 2 dX3_writes_31 rfl ?_
  refine j_iast hC (dmS hG hs rfl) rfl dX3_writes_32 (fun h32 => ?_)
  refine j_lt (fun M32 => ?_)
  refine j_aload_n hC 1 dX3_writes_33 rfl ?_
  refine j_getR (fk := 6) hC (dmS hG hs rfl) rfl rfl in_X3 rfl rfl q271 rfl dX3_writes_34 ?_
  refine j_iload hC 0 dX3_writes_37 rfl ?_
  refine j_iconst (v := 2) hC dX3_writes_39 (by decide) ?_
  refine j_iadd hC dX3_writes_40 ?_
  refine j_iload_n hC 3 dX3_writes_41 rfl ?_
  refine j_iast hC (dmS hG hs rfl) rfl dX3_writes_42 (fun h42 => ?_)
  refine j_lt (fun M42 => ?_)
  refine j_aload_n hC 1 dX3_writes_43 rfl ?_
  refine j_getR (fk := 6) hC (dmS hG hs rfl) rfl rfl in_X3 rfl rfl q271 rfl dX3_writes_44 ?_
  refine j_iload hC 0 dX3_writes_47 rfl ?_
  refine j_iconst (v := 3) hC dX3_writes_49 (by decide) ?_
  refine j_iadd hC dX3_writes_50 ?_
  refine j_iload_n hC 4 dX3_writes_51 rfl ?_
  refine j_iast hC (dmS hG hs rfl) rfl dX3_writes_52 (fun h52 => ?_)
  refine j_lt (fun M52 => ?_)
  refine j_aload_n hC 1 dX3_writes_53 rfl ?_
  refine j_getR (fk := 6) hC (dmS hG hs rfl) rfl rfl in_X3 rfl rfl q271 rfl dX3_writes_54 ?_
  refine j_iload hC 0 dX3_writes_57 rfl ?_
  refine j_iconst (v := 4) hC dX3_writes_59 (by decide) ?_
  refine j_iadd hC dX3_writes_60 ?_
  refine j_iload hC 5 dX3_writes_61 rfl ?_
  refine j_iast hC (dmS hG hs rfl) rfl dX3_writes_63 (fun h63 => ?_)
  refine j_lt (fun M63 => ?_)
  refine j_aload_n hC 1 dX3_writes_64 rfl ?_
  refine j_getR (fk := 6) hC (dmS hG hs rfl) rfl rfl in_X3 rfl rfl q271 rfl dX3_writes_65 ?_
  refine j_iload hC 0 dX3_writes_68 rfl ?_
  refine j_iconst (v := 5) hC dX3_writes_70 (by decide) ?_
  refine j_iadd hC dX3_writes_71 ?_
  refine j_iload hC 6 dX3_writes_72 rfl ?_
  refine j_iast hC (dmS hG hs rfl) rfl dX3_writes_74 (fun h74 => ?_)
  refine j_lt (fun M74 => ?_)
  refine j_aload_n hC 1 dX3_writes_75 rfl ?_
  refine j_dup hC dX3_writes_76 rfl ?_
  refine j_getI (fk := 19) hC (dmS hG hs rfl) rfl rfl in_X3 rfl rfl q306 rfl dX3_writes_77 ?_
  refine j_iconst (v := 1) hC dX3_writes_80 (by decide) ?_
  refine j_iadd hC dX3_writes_81 ?_
  refine j_put (fk := 19) (ty := .int) hC (dmS hG hs rfl) rfl rfl in_X3 rfl rfl q306 tyX3 tyX3_ok nmX3 rfl rfl (by decide +kernel) rfl rfl dX3_writes_82 ?_
  refine j_lt (fun M82 => ?_)
  exact j_vret hC dX3_writes_85
set_option linter.unusedVariables false in
set_option maxRecDepth 100000 in
theorem mX3_writes (l : Launch) (Γ : xG) (hG : dmI dmX Γ) (fu : Nat) (D : List LDen) (s : Nat) (hs : s < 15) (M : Mem) (x1 x2 x3 x4 x5 : Int32) (r : Int32 × Mem) (hr : FX3_writes fu D s M x1 x2 x3 x4 x5 = some r) : CN l yX3_writes (ws_ yX3_writes cX3_writes 7 none) 1 12 Γ D [.ref (gadr Γ (0, s, 0)), .int x1, .int x2, .int x3, .int x4, .int x5] M (foV r.1) r.2 := by
  refine CN.of (own := RX3) (lv0 := lv_args 0 [.ref (gadr Γ (0, s, 0)), .int x1, .int x2, .int x3, .int x4, .int x5]) (by decide +kernel) rfl (Nat.le_of_ble_eq_true rfl) rfl (fun X e1 e2 e3 e4 hC => ?_) r hr
  subst e1
  subst e2
  exact wX3_writes hC hG e4 fu s hs M x1 x2 x3 x4 x5
set_option linter.unusedVariables false in
set_option maxRecDepth 100000 in
theorem wX3_isKept_22 {X : JX} (hC : JC X cX3_isKept RX3 (some .boolean) 1 30 0 0) (hG : dmI dmX (XG X)) (hnl : nLof X = 2) (fu : Nat) (s : Nat) (hs : s < 15) (M : Mem) (t0 : Int32) : J X (ZN X foI) (FX3_isKept_22 fu (XD X) s M t0) 22 [] [.int t0] M 0 0 := by
  unfold FX3_isKept_22
  exact j_zret hC rfl dX3_isKept_22
set_option linter.unusedVariables false in
set_option maxRecDepth 100000 in
theorem wX3_isKept_21 {X : JX} (hC : JC X cX3_isKept RX3 (some .boolean) 1 30 0 0) (hG : dmI dmX (XG X)) (hnl : nLof X = 2) (fu : Nat) (s : Nat) (hs : s < 15) (M : Mem) : J X (ZN X foI) (FX3_isKept_21 fu (XD X) s M) 21 [] [] M 0 0 := by
  unfold FX3_isKept_21
  refine j_iconst (v := 0) hC dX3_isKept_21 (by decide) ?_
  exact j_sub [] rfl (wX3_isKept_22 hC hG hnl fu s hs M 0)
set_option linter.unusedVariables false in
set_option maxRecDepth 100000 in
theorem wX3_isKept {X : JX} (hC : JC X cX3_isKept RX3 (some .boolean) 1 30 0 0) (hG : dmI dmX (XG X)) (hnl : nLof X = 2) (fu : Nat) (s : Nat) (hs : s < 15) (M : Mem) (x1 : Int32) : J X (ZN X foI) (FX3_isKept fu (XD X) s M x1) 0 [(0, .ref (gadr (XG X) (0, s, 0))), (1, .int x1)] [] M 0 0 := by
  unfold FX3_isKept
  refine j_iload_n hC 1 dX3_isKept_0 rfl ?_
  refine j_if_lt (tgt := 21) hC dX3_isKept_1 (by decide) (fun h1 => ?_) (fun h1 => ?_)
  · exact j_sub [] rfl (wX3_isKept_21 hC hG hnl fu s hs M)
  · refine j_iload_n hC 1 dX3_isKept_4 rfl ?_
    refine j_bipush (v := 60) hC dX3_isKept_5 (by decide) ?_
    refine j_aload_n hC 0 dX3_isKept_7 rfl ?_
    refine j_getI (fk := 19) hC (dmS hG hs rfl) rfl rfl in_X3 rfl rfl q306 rfl dX3_isKept_8 ?_
    refine j_min hC q639 q640 q155 q641 dX3_isKept_11 rfl (Nat.le_of_ble_eq_true rfl) (Nat.le_of_ble_eq_true rfl) (Nat.le_of_ble_eq_true rfl) ?_
    refine j_icmp_ge (tgt := 21) hC dX3_isKept_14 (by decide) (fun h14 => ?_) (fun h14 => ?_)
    · exact j_sub [] rfl (wX3_isKept_21 hC hG hnl fu s hs M)
    · refine j_iconst (v := 1) hC dX3_isKept_17 (by decide) ?_
      refine j_goto (tgt := 22) hC dX3_isKept_18 (by decide) ?_
      exact j_sub [] rfl (wX3_isKept_22 hC hG hnl fu s hs M 1)
set_option linter.unusedVariables false in
set_option maxRecDepth 100000 in
theorem mX3_isKept (l : Launch) (Γ : xG) (hG : dmI dmX Γ) (fu : Nat) (D : List LDen) (s : Nat) (hs : s < 15) (M : Mem) (x1 : Int32) (r : Int32 × Mem) (hr : FX3_isKept fu D s M x1 = some r) : CN l yX3_isKept (ws_ yX3_isKept cX3_isKept 2 (some .boolean)) 1 30 Γ D [.ref (gadr Γ (0, s, 0)), .int x1] M (foI r.1) r.2 := by
  refine CN.of (own := RX3) (lv0 := lv_args 0 [.ref (gadr Γ (0, s, 0)), .int x1]) (by decide +kernel) rfl (Nat.le_of_ble_eq_true rfl) rfl (fun X e1 e2 e3 e4 hC => ?_) r hr
  subst e1
  subst e2
  exact wX3_isKept hC hG e4 fu s hs M x1
set_option linter.unusedVariables false in
set_option maxRecDepth 100000 in
theorem wX3_row_33 {X : JX} (hC : JC X cX3_row RX3 (some .int) 2 51 0 0) (hG : dmI dmX (XG X)) (hnl : nLof X = 3) (fu : Nat) (s : Nat) (hs : s < 15) (M : Mem) (t0 : Int32) : J X (ZN X foI) (FX3_row_33 fu (XD X) s M t0) 33 [] [.int t0] M 0 0 := by
  unfold FX3_row_33
  exact j_iret hC dX3_row_33
set_option linter.unusedVariables false in
set_option maxRecDepth 100000 in
theorem wX3_row {X : JX} (hC : JC X cX3_row RX3 (some .int) 2 51 0 0) (hG : dmI dmX (XG X)) (hnl : nLof X = 3) (fu : Nat) (s : Nat) (hs : s < 15) (M : Mem) (x1 x2 : Int32) : J X (ZN X foI) (FX3_row fu (XD X) s M x1 x2) 0 [(0, .ref (gadr (XG X) (0, s, 0))), (1, .int x1), (2, .int x2)] [] M 0 0 := by
  unfold FX3_row
  refine j_aload_n hC 0 dX3_row_0 rfl ?_
  refine j_iload_n hC 1 dX3_row_1 rfl ?_
  refine j_callV (nA := 1) (rest := []) hC [.int x1] rfl (fun r hr => mX3_isKept (XL X) (XG X) hG fu (XD X) s hs M x1 r hr) q1446 q1439 q1440 q128 q1441 (dmS hG hs rfl) rfl rfl (by decide +kernel) rfl rfl rfl rfl rfl rfl dX3_row_2 (fun v2 => [.int v2]) (fun _ => rfl) (fun v2 M2 => ?_)
  refine j_if_eq (tgt := 32) hC dX3_row_5 (by decide) (fun h5 => ?_) (fun h5 => ?_)
  · refine j_iconst (v := (-1)) hC dX3_row_32 (by decide) ?_
    exact j_sub [] rfl (wX3_row_33 hC hG hnl fu s hs M2 (-1))
  · refine j_aload_n hC 0 dX3_row_8 rfl ?_
    refine j_getR (fk := 6) hC (dmS hG hs rfl) rfl rfl in_X3 rfl rfl q271 rfl dX3_row_9 ?_
    refine j_aload_n hC 0 dX3_row_12 rfl ?_
    refine j_getI (fk := 19) hC (dmS hG hs rfl) rfl rfl in_X3 rfl rfl q306 rfl dX3_row_13 ?_
    refine j_iconst (v := 1) hC dX3_row_16 (by decide) ?_
    refine j_isub hC dX3_row_17 ?_
    refine j_iload_n hC 1 dX3_row_18 rfl ?_
    refine j_isub hC dX3_row_19 ?_
    refine j_bipush (v := 60) hC dX3_row_20 (by decide) ?_
    refine j_iremL hC dX3_row_22 (by decide) ?_
    refine j_bipush (v := 6) hC dX3_row_23 (by decide) ?_
    refine j_imul hC dX3_row_25 ?_
    refine j_iload_n hC 2 dX3_row_26 rfl ?_
    refine j_iadd hC dX3_row_27 ?_
    refine j_iald hC (dmS hG hs rfl) rfl dX3_row_28 (fun h28 => ?_)
    refine j_goto (tgt := 33) hC dX3_row_29 (by decide) ?_
    exact j_sub [] rfl (wX3_row_33 hC hG hnl fu s hs M2 (M2 (0, s, 7) ((((rm (((M2 (0, s, 0) 19) - 1) - x1) 60) * 6) + x2).toNatClampNeg)))
set_option linter.unusedVariables false in
set_option maxRecDepth 100000 in
theorem mX3_row (l : Launch) (Γ : xG) (hG : dmI dmX Γ) (fu : Nat) (D : List LDen) (s : Nat) (hs : s < 15) (M : Mem) (x1 x2 : Int32) (r : Int32 × Mem) (hr : FX3_row fu D s M x1 x2 = some r) : CN l yX3_row (ws_ yX3_row cX3_row 3 (some .int)) 2 51 Γ D [.ref (gadr Γ (0, s, 0)), .int x1, .int x2] M (foI r.1) r.2 := by
  refine CN.of (own := RX3) (lv0 := lv_args 0 [.ref (gadr Γ (0, s, 0)), .int x1, .int x2]) (by decide +kernel) rfl (Nat.le_of_ble_eq_true rfl) rfl (fun X e1 e2 e3 e4 hC => ?_) r hr
  subst e1
  subst e2
  exact wX3_row hC hG e4 fu s hs M x1 x2
