/-! FeatherYard, Ways: the walks (printed by gen/gen.py) -/
set_option maxRecDepth 100000
set_option linter.unusedVariables false in
set_option maxRecDepth 100000 in
theorem wgX1_four_3 {X : JX} (hC : JC X cX1_four RX1 none 1 12 0 0) (hG : dmI dmX (XG X)) (hnl : nLof X = 3) (fu : Nat) (kn3 : Mem × Int32 × Int32 → Option (Int32 × Mem)) (hk3 : ∀ (M : Mem) (x1 x2 : Int32), J X (ZN X foV) (kn3 (M, x1, x2)) 3 [(0, .ref (gadr (XG X) (4, 0, 0))), (1, .int x1), (2, .int x2)] [] M 0 0) (M : Mem) (x1 x2 : Int32) : J X (ZN X foV) (GX1_four_3 fu (XD X) kn3 M x1 x2) 3 [(0, .ref (gadr (XG X) (4, 0, 0))), (1, .int x1), (2, .int x2)] [] M 0 0 := by
  unfold GX1_four_3
  refine j_iload_n hC 2 dX1_four_3 rfl ?_
  refine j_if_lt (tgt := 45) hC dX1_four_4 (by decide) (fun h4 => ?_) (fun h4 => ?_)
  · exact j_vret hC dX1_four_45
  · refine j_aload_n hC 0 dX1_four_7 rfl ?_
    refine j_getR (fk := 0) hC (dmY hG rfl) rfl rfl in_X1 rfl rfl q495 rfl dX1_four_8 ?_
    refine j_getNR (fk := 0) hC (dmY hG rfl) rfl rfl in_X2 rfl rfl q424 rfl dX1_four_11 ?_
    refine j_aload_n hC 0 dX1_four_14 rfl ?_
    refine j_getR (fk := 0) hC (dmY hG rfl) rfl rfl in_X1 rfl rfl q495 rfl dX1_four_15 ?_
    refine j_getNI (fk := 6) hC (dmY hG rfl) rfl rfl in_X2 rfl rfl q431 rfl dX1_four_18 ?_
    refine j_iload_n hC 1 dX1_four_21 rfl ?_
    refine j_iload_n hC 2 dX1_four_22 rfl ?_
    refine j_ishr hC dX1_four_23 ?_
    refine j_i2b hC dX1_four_24 ?_
    refine j_bast hC (dmY hG rfl) rfl dX1_four_25 (fun h25 => ?_)
    refine j_lt (fun M25 => ?_)
    refine j_aload_n hC 0 dX1_four_26 rfl ?_
    refine j_getR (fk := 0) hC (dmY hG rfl) rfl rfl in_X1 rfl rfl q495 rfl dX1_four_27 ?_
    refine j_dup hC dX1_four_30 rfl ?_
    refine j_getNI (fk := 6) hC (dmY hG rfl) rfl rfl in_X2 rfl rfl q431 rfl dX1_four_31 ?_
    refine j_iconst (v := 1) hC dX1_four_34 (by decide) ?_
    refine j_iadd hC dX1_four_35 ?_
    refine j_putN (fk := 6) (ty := .int) hC (dmY hG rfl) rfl rfl in_X2 rfl rfl q431 tyX2 tyX2_ok nmX2 rfl rfl (by decide +kernel) rfl rfl dX1_four_36 ?_
    refine j_lt (fun M36 => ?_)
    refine j_iincL hC 2 (fun y39 => [(2, .int y39), (0, .ref (gadr (XG X) (4, 0, 0))), (1, .int x1)]) hnl dX1_four_39 rfl (by decide) rfl (fun _ => rfl) (fun y39 => ?_)
    refine j_goto (tgt := 3) hC dX1_four_42 (by decide) ?_
    exact j_sub [1, 2, 0] rfl (hk3 M36 x1 y39)
set_option linter.unusedVariables false in
set_option maxRecDepth 100000 in
theorem wX1_four_3 {X : JX} (hC : JC X cX1_four RX1 none 1 12 0 0) (hG : dmI dmX (XG X)) (hnl : nLof X = 3) (fu : Nat) (M : Mem) (x1 x2 : Int32) : J X (ZN X foV) (FX1_four_3 fu (XD X) M x1 x2) 3 [(0, .ref (gadr (XG X) (4, 0, 0))), (1, .int x1), (2, .int x2)] [] M 0 0 := by
  exact j_lp (lvf := fun z => [(0, .ref (gadr (XG X) (4, 0, 0))), (1, .int (z.2.1)), (2, .int (z.2.2))]) (Mf := fun z => z.1) (fun kn hk z => wgX1_four_3 hC hG hnl fu kn (fun M x1 x2 => hk (M, x1, x2)) z.1 z.2.1 z.2.2) fu (M, x1, x2)
set_option linter.unusedVariables false in
set_option maxRecDepth 100000 in
theorem wX1_four {X : JX} (hC : JC X cX1_four RX1 none 1 12 0 0) (hG : dmI dmX (XG X)) (hnl : nLof X = 3) (fu : Nat) (M : Mem) (x1 : Int32) : J X (ZN X foV) (FX1_four fu (XD X) M x1) 0 [(0, .ref (gadr (XG X) (4, 0, 0))), (1, .int x1)] [] M 0 0 := by
  unfold FX1_four
  refine j_bipush (v := 24) hC dX1_four_0 (by decide) ?_
  refine j_istore_n hC [(2, .int 24), (0, .ref (gadr (XG X) (4, 0, 0))), (1, .int x1)] hnl dX1_four_2 rfl rfl ?_
  exact j_sub [1, 2, 0] rfl (wX1_four_3 hC hG hnl fu M x1 24)
set_option linter.unusedVariables false in
set_option maxRecDepth 100000 in
theorem mX1_four (l : Launch) (Γ : xG) (hG : dmI dmX Γ) (fu : Nat) (D : List LDen) (M : Mem) (x1 : Int32) (r : Int32 × Mem) (hr : FX1_four fu D M x1 = some r) : CN l yX1_four (ws_ yX1_four cX1_four 3 none) 1 12 Γ D [.ref (gadr Γ (4, 0, 0)), .int x1] M (foV r.1) r.2 := by
  refine CN.of (own := RX1) (lv0 := lv_args 0 [.ref (gadr Γ (4, 0, 0)), .int x1]) (by decide +kernel) rfl (Nat.le_of_ble_eq_true rfl) rfl (fun X e1 e2 e3 e4 hC => ?_) r hr
  subst e1
  subst e2
  exact wX1_four hC hG e4 fu M x1
set_option linter.unusedVariables false in
set_option maxRecDepth 100000 in
theorem wX1_feed {X : JX} (hC : JC X cX1_feed RX1 (some .int) 2 34 0 0) (hG : dmI dmX (XG X)) (hnl : nLof X = 6) (fu : Nat) (M : Mem) (x1 x2 x3 x4 x5 : Int32) : J X (ZN X foI) (FX1_feed fu (XD X) M x1 x2 x3 x4 x5) 0 [(0, .ref (gadr (XG X) (4, 0, 0))), (1, .int x1), (2, .int x2), (3, .int x3), (4, .int x4), (5, .int x5)] [] M 0 0 := by
  unfold FX1_feed
  refine j_aload_n hC 0 dX1_feed_0 rfl ?_
  refine j_getR (fk := 0) hC (dmY hG rfl) rfl rfl in_X1 rfl rfl q495 rfl dX1_feed_1 ?_
  refine j_getNI (fk := 6) hC (dmY hG rfl) rfl rfl in_X2 rfl rfl q431 rfl dX1_feed_4 ?_
  refine j_bipush (v := 20) hC dX1_feed_7 (by decide) ?_
  refine j_iadd hC dX1_feed_9 ?_
  refine j_sipush (v := 400) hC dX1_feed_10 (by decide) ?_
  refine j_icmp_le (tgt := 18) hC dX1_feed_13 (by decide) (fun h13 => ?_) (fun h13 => ?_)
  · refine j_aload_n hC 0 dX1_feed_18 rfl ?_
    refine j_iload_n hC 1 dX1_feed_19 rfl ?_
    refine j_callV (nA := 1) (rest := []) hC [.int x1] rfl (fun r hr => mX1_four (XL X) (XG X) hG fu (XD X) M x1 r hr) q550 q552 qs1 q126 q553 (dmY hG rfl) rfl rfl (by decide +kernel) rfl rfl rfl rfl rfl rfl dX1_feed_20 (fun _ => []) (fun _ => rfl) (fun v20 M20 => ?_)
    refine j_aload_n hC 0 dX1_feed_23 rfl ?_
    refine j_iload_n hC 2 dX1_feed_24 rfl ?_
    refine j_callV (nA := 1) (rest := []) hC [.int x2] rfl (fun r hr => mX1_four (XL X) (XG X) hG fu (XD X) M20 x2 r hr) q550 q552 qs1 q126 q553 (dmY hG rfl) rfl rfl (by decide +kernel) rfl rfl rfl rfl rfl rfl dX1_feed_25 (fun _ => []) (fun _ => rfl) (fun v25 M25 => ?_)
    refine j_aload_n hC 0 dX1_feed_28 rfl ?_
    refine j_iload_n hC 3 dX1_feed_29 rfl ?_
    refine j_callV (nA := 1) (rest := []) hC [.int x3] rfl (fun r hr => mX1_four (XL X) (XG X) hG fu (XD X) M25 x3 r hr) q550 q552 qs1 q126 q553 (dmY hG rfl) rfl rfl (by decide +kernel) rfl rfl rfl rfl rfl rfl dX1_feed_30 (fun _ => []) (fun _ => rfl) (fun v30 M30 => ?_)
    refine j_aload_n hC 0 dX1_feed_33 rfl ?_
    refine j_iload hC 4 dX1_feed_34 rfl ?_
    refine j_callV (nA := 1) (rest := []) hC [.int x4] rfl (fun r hr => mX1_four (XL X) (XG X) hG fu (XD X) M30 x4 r hr) q550 q552 qs1 q126 q553 (dmY hG rfl) rfl rfl (by decide +kernel) rfl rfl rfl rfl rfl rfl dX1_feed_36 (fun _ => []) (fun _ => rfl) (fun v36 M36 => ?_)
    refine j_aload_n hC 0 dX1_feed_39 rfl ?_
    refine j_iload hC 5 dX1_feed_40 rfl ?_
    refine j_callV (nA := 1) (rest := []) hC [.int x5] rfl (fun r hr => mX1_four (XL X) (XG X) hG fu (XD X) M36 x5 r hr) q550 q552 qs1 q126 q553 (dmY hG rfl) rfl rfl (by decide +kernel) rfl rfl rfl rfl rfl rfl dX1_feed_42 (fun _ => []) (fun _ => rfl) (fun v42 M42 => ?_)
    refine j_aload_n hC 0 dX1_feed_45 rfl ?_
    refine j_getR (fk := 0) hC (dmY hG rfl) rfl rfl in_X1 rfl rfl q495 rfl dX1_feed_46 ?_
    refine j_getNI (fk := 6) hC (dmY hG rfl) rfl rfl in_X2 rfl rfl q431 rfl dX1_feed_49 ?_
    exact j_iret hC dX1_feed_52
  · refine j_iconst (v := (-1)) hC dX1_feed_16 (by decide) ?_
    exact j_iret hC dX1_feed_17
set_option linter.unusedVariables false in
set_option maxRecDepth 100000 in
theorem mX1_feed (l : Launch) (Γ : xG) (hG : dmI dmX Γ) (fu : Nat) (D : List LDen) (M : Mem) (x1 x2 x3 x4 x5 : Int32) (r : Int32 × Mem) (hr : FX1_feed fu D M x1 x2 x3 x4 x5 = some r) : CN l yX1_feed (ws_ yX1_feed cX1_feed 6 (some .int)) 2 34 Γ D [.ref (gadr Γ (4, 0, 0)), .int x1, .int x2, .int x3, .int x4, .int x5] M (foI r.1) r.2 := by
  refine CN.of (own := RX1) (lv0 := lv_args 0 [.ref (gadr Γ (4, 0, 0)), .int x1, .int x2, .int x3, .int x4, .int x5]) (by decide +kernel) rfl (Nat.le_of_ble_eq_true rfl) rfl (fun X e1 e2 e3 e4 hC => ?_) r hr
  subst e1
  subst e2
  exact wX1_feed hC hG e4 fu M x1 x2 x3 x4 x5
set_option linter.unusedVariables false in
set_option maxRecDepth 100000 in
theorem wX1_isIn_15 {X : JX} (hC : JC X cX1_isIn RX1 (some .boolean) 1 12 0 0) (hG : dmI dmX (XG X)) (hnl : nLof X = 3) (fu : Nat) (M : Mem) (t0 : Int32) : J X (ZN X foI) (FX1_isIn_15 fu (XD X) M t0) 15 [] [.int t0] M 0 0 := by
  unfold FX1_isIn_15
  exact j_zret hC rfl dX1_isIn_15
set_option linter.unusedVariables false in
set_option maxRecDepth 100000 in
theorem wX1_isIn_14 {X : JX} (hC : JC X cX1_isIn RX1 (some .boolean) 1 12 0 0) (hG : dmI dmX (XG X)) (hnl : nLof X = 3) (fu : Nat) (M : Mem) : J X (ZN X foI) (FX1_isIn_14 fu (XD X) M) 14 [] [] M 0 0 := by
  unfold FX1_isIn_14
  refine j_iconst (v := 0) hC dX1_isIn_14 (by decide) ?_
  exact j_sub [] rfl (wX1_isIn_15 hC hG hnl fu M 0)
set_option linter.unusedVariables false in
set_option maxRecDepth 100000 in
theorem wX1_isIn {X : JX} (hC : JC X cX1_isIn RX1 (some .boolean) 1 12 0 0) (hG : dmI dmX (XG X)) (hnl : nLof X = 3) (fu : Nat) (M : Mem) (x0 x1 x2 : Int32) : J X (ZN X foI) (FX1_isIn fu (XD X) M x0 x1 x2) 0 [(0, .int x0), (1, .int x1), (2, .int x2)] [] M 0 0 := by
  unfold FX1_isIn
  refine j_iload_n hC 0 dX1_isIn_0 rfl ?_
  refine j_iload_n hC 1 dX1_isIn_1 rfl ?_
  refine j_icmp_lt (tgt := 14) hC dX1_isIn_2 (by decide) (fun h2 => ?_) (fun h2 => ?_)
  · exact j_sub [] rfl (wX1_isIn_14 hC hG hnl fu M)
  · refine j_iload_n hC 0 dX1_isIn_5 rfl ?_
    refine j_iload_n hC 2 dX1_isIn_6 rfl ?_
    refine j_icmp_gt (tgt := 14) hC dX1_isIn_7 (by decide) (fun h7 => ?_) (fun h7 => ?_)
    · exact j_sub [] rfl (wX1_isIn_14 hC hG hnl fu M)
    · refine j_iconst (v := 1) hC dX1_isIn_10 (by decide) ?_
      refine j_goto (tgt := 15) hC dX1_isIn_11 (by decide) ?_
      exact j_sub [] rfl (wX1_isIn_15 hC hG hnl fu M 1)
set_option linter.unusedVariables false in
set_option maxRecDepth 100000 in
theorem mX1_isIn (l : Launch) (Γ : xG) (hG : dmI dmX Γ) (fu : Nat) (D : List LDen) (M : Mem) (x0 x1 x2 : Int32) (r : Int32 × Mem) (hr : FX1_isIn fu D M x0 x1 x2 = some r) : CN l yX1_isIn (ws_ yX1_isIn cX1_isIn 3 (some .boolean)) 1 12 Γ D [.int x0, .int x1, .int x2] M (foI r.1) r.2 := by
  refine CN.of (own := RX1) (lv0 := lv_args 0 [.int x0, .int x1, .int x2]) (by decide +kernel) rfl (Nat.le_of_ble_eq_true rfl) rfl (fun X e1 e2 e3 e4 hC => ?_) r hr
  subst e1
  subst e2
  exact wX1_isIn hC hG e4 fu M x0 x1 x2
set_option linter.unusedVariables false in
set_option maxRecDepth 100000 in
theorem wX1_end {X : JX} (hC : JC X cX1_end RX1 (some .boolean) 2 34 0 0) (hG : dmI dmX (XG X)) (hnl : nLof X = 2) (fu : Nat) (M : Mem) (x1 : Int32) : J X (ZN X foI) (FX1_end fu (XD X) M x1) 0 [(0, .ref (gadr (XG X) (4, 0, 0))), (1, .int x1)] [] M 0 0 := by
  unfold FX1_end
  refine j_iload_n hC 1 dX1_end_0 rfl ?_
  refine j_iconst (v := 0) hC dX1_end_1 (by decide) ?_
  refine j_aload_n hC 0 dX1_end_2 rfl ?_
  refine j_getR (fk := 0) hC (dmY hG rfl) rfl rfl in_X1 rfl rfl q495 rfl dX1_end_3 ?_
  refine j_getNI (fk := 6) hC (dmY hG rfl) rfl rfl in_X2 rfl rfl q431 rfl dX1_end_6 ?_
  refine j_callS (nA := 3) (rest := []) hC [.int x1, .int 0, .int (M (4, 0, 8) 6)] rfl (fun r hr => mX1_isIn (XL X) (XG X) hG fu (XD X) M x1 0 (M (4, 0, 8) 6) r hr) q558 q559 q126 q560 (by decide +kernel) rfl rfl rfl rfl rfl rfl dX1_end_9 (fun v9 => [.int v9]) (fun _ => rfl) (fun v9 M9 => ?_)
  refine j_if_ne (tgt := 17) hC dX1_end_12 (by decide) (fun h12 => ?_) (fun h12 => ?_)
  · refine j_iconst (v := 0) hC dX1_end_15 (by decide) ?_
    exact j_zret hC (by decide) dX1_end_16
  · refine j_aload_n hC 0 dX1_end_17 rfl ?_
    refine j_getR (fk := 0) hC (dmY hG rfl) rfl rfl in_X1 rfl rfl q495 rfl dX1_end_18 ?_
    refine j_iload_n hC 1 dX1_end_21 rfl ?_
    refine j_putN (fk := 6) (ty := .int) hC (dmY hG rfl) rfl rfl in_X2 rfl rfl q431 tyX2 tyX2_ok nmX2 rfl rfl (by decide +kernel) rfl rfl dX1_end_22 ?_
    refine j_lt (fun M22 => ?_)
    refine j_iconst (v := 1) hC dX1_end_25 (by decide) ?_
    exact j_zret hC (by decide) dX1_end_26
set_option linter.unusedVariables false in
set_option maxRecDepth 100000 in
theorem mX1_end (l : Launch) (Γ : xG) (hG : dmI dmX Γ) (fu : Nat) (D : List LDen) (M : Mem) (x1 : Int32) (r : Int32 × Mem) (hr : FX1_end fu D M x1 = some r) : CN l yX1_end (ws_ yX1_end cX1_end 2 (some .boolean)) 2 34 Γ D [.ref (gadr Γ (4, 0, 0)), .int x1] M (foI r.1) r.2 := by
  refine CN.of (own := RX1) (lv0 := lv_args 0 [.ref (gadr Γ (4, 0, 0)), .int x1]) (by decide +kernel) rfl (Nat.le_of_ble_eq_true rfl) rfl (fun X e1 e2 e3 e4 hC => ?_) r hr
  subst e1
  subst e2
  exact wX1_end hC hG e4 fu M x1
set_option linter.unusedVariables false in
set_option maxRecDepth 100000 in
theorem wX1_fault {X : JX} (hC : JC X cX1_fault RX1 (some .int) 1 12 0 0) (hG : dmI dmX (XG X)) (hnl : nLof X = 1) (fu : Nat) (M : Mem) : J X (ZN X foI) (FX1_fault fu (XD X) M) 0 [(0, .ref (gadr (XG X) (4, 0, 0)))] [] M 0 0 := by
  unfold FX1_fault
  refine j_aload_n hC 0 dX1_fault_0 rfl ?_
  refine j_getI (fk := 12) hC (dmY hG rfl) rfl rfl in_X1 rfl rfl q508 rfl dX1_fault_1 ?_
  exact j_iret hC dX1_fault_4
set_option linter.unusedVariables false in
set_option maxRecDepth 100000 in
theorem mX1_fault (l : Launch) (Γ : xG) (hG : dmI dmX Γ) (fu : Nat) (D : List LDen) (M : Mem) (r : Int32 × Mem) (hr : FX1_fault fu D M = some r) : CN l yX1_fault (ws_ yX1_fault cX1_fault 1 (some .int)) 1 12 Γ D [.ref (gadr Γ (4, 0, 0))] M (foI r.1) r.2 := by
  refine CN.of (own := RX1) (lv0 := lv_args 0 [.ref (gadr Γ (4, 0, 0))]) (by decide +kernel) rfl (Nat.le_of_ble_eq_true rfl) rfl (fun X e1 e2 e3 e4 hC => ?_) r hr
  subst e1
  subst e2
  exact wX1_fault hC hG e4 fu M
set_option linter.unusedVariables false in
set_option maxRecDepth 100000 in
theorem wX7_ends_51 {X : JX} (hC : JC X cX7_ends RX7 none 2 33 0 0) (hG : dmI dmX (XG X)) (hnl : nLof X = 4) (fu : Nat) (w : Nat) (hw : w < 2) (M : Mem) : J X (ZN X foV) (FX7_ends_51 fu (XD X) w M) 51 [] [] M 0 0 := by
  unfold FX7_ends_51
  exact j_vret hC dX7_ends_51
set_option linter.unusedVariables false in
set_option maxRecDepth 100000 in
theorem wX7_ends {X : JX} (hC : JC X cX7_ends RX7 none 2 33 0 0) (hG : dmI dmX (XG X)) (hnl : nLof X = 4) (fu : Nat) (w : Nat) (hw : w < 2) (M : Mem) (x1 x2 x3 : Int32) : J X (ZN X foV) (FX7_ends fu (XD X) w M x1 x2 x3) 0 [(0, .ref (gadr (XG X) (3, w, 0))), (1, .int x1), (2, .int x2), (3, .int x3)] [] M 0 0 := by
  unfold FX7_ends
  refine j_aload_n hC 0 dX7_ends_0 rfl ?_
  refine j_getR (fk := 1) hC (dmW hG hw rfl) rfl rfl in_X7 rfl rfl q467 rfl dX7_ends_1 ?_
  refine j_iload_n hC 1 dX7_ends_4 rfl ?_
  refine j_dup2 hC dX7_ends_5 rfl rfl ?_
  refine j_iald hC (dmW hG hw rfl) rfl dX7_ends_6 (fun h6 => ?_)
  refine j_iload_n hC 3 dX7_ends_7 rfl ?_
  refine j_iadd hC dX7_ends_8 ?_
  refine j_iast hC (dmW hG hw rfl) rfl dX7_ends_9 (fun h9 => ?_)
  refine j_lt (fun M9 => ?_)
  refine j_aload_n hC 0 dX7_ends_10 rfl ?_
  refine j_getR (fk := 2) hC (dmW hG hw rfl) rfl rfl in_X7 rfl rfl q469 rfl dX7_ends_11 ?_
  refine j_bipush (v := 16) hC dX7_ends_14 (by decide) ?_
  refine j_iload_n hC 2 dX7_ends_16 rfl ?_
  refine j_imul hC dX7_ends_17 ?_
  refine j_iload_n hC 1 dX7_ends_18 rfl ?_
  refine j_iadd hC dX7_ends_19 ?_
  refine j_dup2 hC dX7_ends_20 rfl rfl ?_
  refine j_iald hC (dmW hG hw rfl) rfl dX7_ends_21 (fun h21 => ?_)
  refine j_iload_n hC 3 dX7_ends_22 rfl ?_
  refine j_iadd hC dX7_ends_23 ?_
  refine j_iast hC (dmW hG hw rfl) rfl dX7_ends_24 (fun h24 => ?_)
  refine j_lt (fun M24 => ?_)
  refine j_aload_n hC 0 dX7_ends_25 rfl ?_
  refine j_getR (fk := 7) hC (dmW hG hw rfl) rfl rfl in_X7 rfl rfl q477 rfl dX7_ends_26 ?_
  refine j_getNR (fk := 1) hC (dmY hG rfl) rfl rfl in_X1 rfl rfl q497 rfl dX7_ends_29 ?_
  refine j_iload_n hC 1 dX7_ends_32 rfl ?_
  refine j_callV (nA := 1) (rest := []) hC [.int x1] rfl (fun r hr => mX3_isYard (XL X) (XG X) hG fu (XD X) 0 (by decide) M24 x1 r hr) q664 q586 q587 q128 q588 (dmS hG (by decide) rfl) rfl rfl (by decide +kernel) rfl rfl rfl rfl rfl rfl dX7_ends_33 (fun v33 => [.int v33]) (fun _ => rfl) (fun v33 M33 => ?_)
  refine j_if_eq (tgt := 51) hC dX7_ends_36 (by decide) (fun h36 => ?_) (fun h36 => ?_)
  · exact j_sub [] rfl (wX7_ends_51 hC hG hnl fu w hw M33)
  · refine j_aload_n hC 0 dX7_ends_39 rfl ?_
    refine j_getR (fk := 0) hC (dmW hG hw rfl) rfl rfl in_X7 rfl rfl q465 rfl dX7_ends_40 ?_
    refine j_iload_n hC 2 dX7_ends_43 rfl ?_
    refine j_iconst (v := 1) hC dX7_ends_44 (by decide) ?_
    refine j_iadd hC dX7_ends_45 ?_
    refine j_dup2 hC dX7_ends_46 rfl rfl ?_
    refine j_iald hC (dmW hG hw rfl) rfl dX7_ends_47 (fun h47 => ?_)
    refine j_iload_n hC 3 dX7_ends_48 rfl ?_
    refine j_iadd hC dX7_ends_49 ?_
    refine j_iast hC (dmW hG hw rfl) rfl dX7_ends_50 (fun h50 => ?_)
    refine j_lt (fun M50 => ?_)
    exact j_sub [] rfl (wX7_ends_51 hC hG hnl fu w hw M50)
set_option linter.unusedVariables false in
set_option maxRecDepth 100000 in
theorem mX7_ends (l : Launch) (Γ : xG) (hG : dmI dmX Γ) (fu : Nat) (D : List LDen) (w : Nat) (hw : w < 2) (M : Mem) (x1 x2 x3 : Int32) (r : Int32 × Mem) (hr : FX7_ends fu D w M x1 x2 x3 = some r) : CN l yX7_ends (ws_ yX7_ends cX7_ends 4 none) 2 33 Γ D [.ref (gadr Γ (3, w, 0)), .int x1, .int x2, .int x3] M (foV r.1) r.2 := by
  refine CN.of (own := RX7) (lv0 := lv_args 0 [.ref (gadr Γ (3, w, 0)), .int x1, .int x2, .int x3]) (by decide +kernel) rfl (Nat.le_of_ble_eq_true rfl) rfl (fun X e1 e2 e3 e4 hC => ?_) r hr
  subst e1
  subst e2
  exact wX7_ends hC hG e4 fu w hw M x1 x2 x3
set_option linter.unusedVariables false in
set_option maxRecDepth 100000 in
theorem wX7_goes_157 {X : JX} (hC : JC X cX7_goes RX7 none 37 1386 0 0) (hG : dmI dmX (XG X)) (hnl : nLof X = 11) (fu : Nat) (w : Nat) (hw : w < 2) (kn52 : Mem × Int32 × Int32 × Int32 × Int32 × Int32 × Int32 × Int32 × Int32 → Option (Int32 × Mem)) (hk52 : ∀ (M : Mem) (x1 x3 x4 x5 x6 x7 x8 x9 : Int32), J X (ZN X foV) (kn52 (M, x1, x3, x4, x5, x6, x7, x8, x9)) 52 [(0, .ref (gadr (XG X) (3, w, 0))), (1, .int x1), (3, .int x3), (4, .int x4), (5, .int x5), (6, .int x6), (7, .int x7), (8, .int x8), (9, .int x9)] [] M 0 0) (M : Mem) (x1 x3 x4 x5 x6 x7 x8 x9 : Int32) : J X (ZN X foV) (FX7_goes_157 fu (XD X) w kn52 M x1 x3 x4 x5 x6 x7 x8 x9) 157 [(0, .ref (gadr (XG X) (3, w, 0))), (1, .int x1), (3, .int x3), (4, .int x4), (5, .int x5), (6, .int x6), (7, .int x7), (8, .int x8), (9, .int x9)] [] M 0 0 := by
  unfold FX7_goes_157
  refine j_iincL hC 8 (fun y157 => [(9, .int y157), (0, .ref (gadr (XG X) (3, w, 0))), (1, .int x1), (3, .int x3), (4, .int x4), (5, .int x5), (6, .int x6), (7, .int x7), (8, .int x8)]) hnl dX7_goes_157 rfl (by decide) rfl (fun _ => rfl) (fun y157 => ?_)
  refine j_goto (tgt := 52) hC dX7_goes_160 (by decide) ?_
  exact j_sub [1, 2, 3, 4, 5, 6, 7, 8, 0] rfl (hk52 M x1 x3 x4 x5 x6 x7 x8 y157)
set_option linter.unusedVariables false in
set_option maxRecDepth 100000 in
theorem wX7_goes_101 {X : JX} (hC : JC X cX7_goes RX7 none 37 1386 0 0) (hG : dmI dmX (XG X)) (hnl : nLof X = 11) (fu : Nat) (w : Nat) (hw : w < 2) (kn52 : Mem × Int32 × Int32 × Int32 × Int32 × Int32 × Int32 × Int32 × Int32 → Option (Int32 × Mem)) (hk52 : ∀ (M : Mem) (x1 x3 x4 x5 x6 x7 x8 x9 : Int32), J X (ZN X foV) (kn52 (M, x1, x3, x4, x5, x6, x7, x8, x9)) 52 [(0, .ref (gadr (XG X) (3, w, 0))), (1, .int x1), (3, .int x3), (4, .int x4), (5, .int x5), (6, .int x6), (7, .int x7), (8, .int x8), (9, .int x9)] [] M 0 0) (M : Mem) (x1 x3 x4 x5 x6 x7 x8 x9 : Int32) : J X (ZN X foV) (FX7_goes_101 fu (XD X) w kn52 M x1 x3 x4 x5 x6 x7 x8 x9) 101 [(0, .ref (gadr (XG X) (3, w, 0))), (1, .int x1), (3, .int x3), (4, .int x4), (5, .int x5), (6, .int x6), (7, .int x7), (8, .int x8), (9, .int x9)] [] M 0 0 := by
  unfold FX7_goes_101
  refine j_aload_n hC 0 dX7_goes_101 rfl ?_
  refine j_dup hC dX7_goes_102 rfl ?_
  refine j_getI (fk := 5) hC (dmW hG hw rfl) rfl rfl in_X7 rfl rfl q473 rfl dX7_goes_103 ?_
  refine j_iload hC 5 dX7_goes_106 rfl ?_
  refine j_iload hC 4 dX7_goes_108 rfl ?_
  refine j_imul hC dX7_goes_110 ?_
  refine j_iadd hC dX7_goes_111 ?_
  refine j_put (fk := 5) (ty := .int) hC (dmW hG hw rfl) rfl rfl in_X7 rfl rfl q473 tyX7 tyX7_ok nmX7 rfl rfl (by decide +kernel) rfl rfl dX7_goes_112 ?_
  refine j_lt (fun M112 => ?_)
  refine j_goto (tgt := 157) hC dX7_goes_115 (by decide) ?_
  exact j_sub [0, 1, 2, 3, 4, 5, 6, 7, 8] rfl (wX7_goes_157 hC hG hnl fu w hw kn52 hk52 M112 x1 x3 x4 x5 x6 x7 x8 x9)
set_option linter.unusedVariables false in
set_option maxRecDepth 100000 in
theorem wX7_goes_86 {X : JX} (hC : JC X cX7_goes RX7 none 37 1386 0 0) (hG : dmI dmX (XG X)) (hnl : nLof X = 11) (fu : Nat) (w : Nat) (hw : w < 2) (kn52 : Mem × Int32 × Int32 × Int32 × Int32 × Int32 × Int32 × Int32 × Int32 → Option (Int32 × Mem)) (hk52 : ∀ (M : Mem) (x1 x3 x4 x5 x6 x7 x8 x9 : Int32), J X (ZN X foV) (kn52 (M, x1, x3, x4, x5, x6, x7, x8, x9)) 52 [(0, .ref (gadr (XG X) (3, w, 0))), (1, .int x1), (3, .int x3), (4, .int x4), (5, .int x5), (6, .int x6), (7, .int x7), (8, .int x8), (9, .int x9)] [] M 0 0) (M : Mem) (x1 x3 x4 x5 x6 x7 x8 x9 t0 t1 : Int32) : J X (ZN X foV) (FX7_goes_86 fu (XD X) w kn52 M x1 x3 x4 x5 x6 x7 x8 x9 t0 t1) 86 [(0, .ref (gadr (XG X) (3, w, 0))), (1, .int x1), (3, .int x3), (4, .int x4), (5, .int x5), (6, .int x6), (7, .int x7), (8, .int x8), (9, .int x9)] [.int t0, .int t1] M 0 0 := by
  unfold FX7_goes_86
  refine j_iadd hC dX7_goes_86 ?_
  refine j_ltT (fun y87 => ?_)
  refine j_istore hC [(10, .int y87), (0, .ref (gadr (XG X) (3, w, 0))), (1, .int x1), (3, .int x3), (4, .int x4), (5, .int x5), (6, .int x6), (7, .int x7), (8, .int x8), (9, .int x9)] hnl dX7_goes_87 rfl rfl ?_
  refine j_iload hC 0 dX7_goes_89 rfl ?_
  refine j_if_lt (tgt := 101) hC dX7_goes_91 (by decide) (fun h91 => ?_) (fun h91 => ?_)
  · exact j_sub [1, 2, 3, 4, 5, 6, 7, 8, 9] rfl (wX7_goes_101 hC hG hnl fu w hw kn52 hk52 M x1 x3 x4 x5 x6 x7 x8 x9)
  · refine j_iload hC 0 dX7_goes_94 rfl ?_
    refine j_bipush (v := 16) hC dX7_goes_96 (by decide) ?_
    refine j_icmp_lt (tgt := 118) hC dX7_goes_98 (by decide) (fun h98 => ?_) (fun h98 => ?_)
    · refine j_iload hC 7 dX7_goes_118 rfl ?_
      refine j_if_le (tgt := 144) hC dX7_goes_120 (by decide) (fun h120 => ?_) (fun h120 => ?_)
      · refine j_aload_n hC 1 dX7_goes_144 rfl ?_
        refine j_iload hC 0 dX7_goes_145 rfl ?_
        refine j_iload hC 4 dX7_goes_147 rfl ?_
        refine j_iload hC 6 dX7_goes_149 rfl ?_
        refine j_iload hC 5 dX7_goes_151 rfl ?_
        refine j_imul hC dX7_goes_153 ?_
        refine j_callV (nA := 3) (rest := []) hC [.int y87, .int x4, .int (x6 * x5)] rfl (fun r hr => mX7_ends (XL X) (XG X) hG fu (XD X) w hw M y87 x4 (x6 * x5) r hr) q660 q662 qs4 q135 q663 (dmW hG hw rfl) rfl rfl (by decide +kernel) rfl rfl rfl rfl rfl rfl dX7_goes_154 (fun _ => []) (fun _ => rfl) (fun v154 M154 => ?_)
        exact j_sub [1, 2, 3, 4, 5, 6, 7, 8, 9] rfl (wX7_goes_157 hC hG hnl fu w hw kn52 hk52 M154 x1 x3 x4 x5 x6 x7 x8 x9)
      · refine j_aload_n hC 1 dX7_goes_123 rfl ?_
        refine j_getR (fk := 4) hC (dmW hG hw rfl) rfl rfl in_X7 rfl rfl q472 rfl dX7_goes_124 ?_
        refine j_bipush (v := 16) hC dX7_goes_127 (by decide) ?_
        refine j_iload hC 7 dX7_goes_129 rfl ?_
        refine j_imul hC dX7_goes_131 ?_
        refine j_iload hC 0 dX7_goes_132 rfl ?_
        refine j_iadd hC dX7_goes_134 ?_
        refine j_dup2 hC dX7_goes_135 rfl rfl ?_
        refine j_iald hC (dmW hG hw rfl) rfl dX7_goes_136 (fun h136 => ?_)
        refine j_iload hC 6 dX7_goes_137 rfl ?_
        refine j_iadd hC dX7_goes_139 ?_
        refine j_iast hC (dmW hG hw rfl) rfl dX7_goes_140 (fun h140 => ?_)
        refine j_lt (fun M140 => ?_)
        refine j_goto (tgt := 157) hC dX7_goes_141 (by decide) ?_
        exact j_sub [1, 2, 3, 4, 5, 6, 7, 8, 9] rfl (wX7_goes_157 hC hG hnl fu w hw kn52 hk52 M140 x1 x3 x4 x5 x6 x7 x8 x9)
    · exact j_sub [1, 2, 3, 4, 5, 6, 7, 8, 9] rfl (wX7_goes_101 hC hG hnl fu w hw kn52 hk52 M x1 x3 x4 x5 x6 x7 x8 x9)
set_option linter.unusedVariables false in
set_option maxRecDepth 100000 in
theorem wgX7_goes_52 {X : JX} (hC : JC X cX7_goes RX7 none 37 1386 0 0) (hG : dmI dmX (XG X)) (hnl : nLof X = 11) (fu : Nat) (w : Nat) (hw : w < 2) (kn52 : Mem × Int32 × Int32 × Int32 × Int32 × Int32 × Int32 × Int32 × Int32 → Option (Int32 × Mem)) (hk52 : ∀ (M : Mem) (x1 x3 x4 x5 x6 x7 x8 x9 : Int32), J X (ZN X foV) (kn52 (M, x1, x3, x4, x5, x6, x7, x8, x9)) 52 [(0, .ref (gadr (XG X) (3, w, 0))), (1, .int x1), (3, .int x3), (4, .int x4), (5, .int x5), (6, .int x6), (7, .int x7), (8, .int x8), (9, .int x9)] [] M 0 0) (M : Mem) (x1 x3 x4 x5 x6 x7 x8 x9 : Int32) : J X (ZN X foV) (GX7_goes_52 fu (XD X) w kn52 M x1 x3 x4 x5 x6 x7 x8 x9) 52 [(0, .ref (gadr (XG X) (3, w, 0))), (1, .int x1), (3, .int x3), (4, .int x4), (5, .int x5), (6, .int x6), (7, .int x7), (8, .int x8), (9, .int x9)] [] M 0 0 := by
  unfold GX7_goes_52
  refine j_iload hC 8 dX7_goes_52 rfl ?_
  refine j_iconst (v := 1) hC dX7_goes_54 (by decide) ?_
  refine j_icmp_gt (tgt := 163) hC dX7_goes_55 (by decide) (fun h55 => ?_) (fun h55 => ?_)
  · exact j_vret hC dX7_goes_163
  · refine j_iload_n hC 2 dX7_goes_58 rfl ?_
    refine j_iload hC 7 dX7_goes_59 rfl ?_
    refine j_iadd hC dX7_goes_61 ?_
    refine j_aload_n hC 0 dX7_goes_62 rfl ?_
    refine j_getR (fk := 7) hC (dmW hG hw rfl) rfl rfl in_X7 rfl rfl q477 rfl dX7_goes_63 ?_
    refine j_getNR (fk := 1) hC (dmY hG rfl) rfl rfl in_X1 rfl rfl q497 rfl dX7_goes_66 ?_
    refine j_getNR (fk := 0) hC (dmS hG (by decide) rfl) rfl rfl in_X3 rfl rfl q256 rfl dX7_goes_69 ?_
    refine j_iload_n hC 1 dX7_goes_72 rfl ?_
    refine j_aald3 (d := (1, 0, x1.toNatClampNeg)) hC (dmS hG (by decide) rfl) rfl rfl dX7_goes_73 (fun h73 => ?_)
    refine j_getNI (fk := 1) hC (dmB hG (by decide) (vin_lt h73)) rfl rfl in_X4 rfl rfl q205 rfl dX7_goes_74 ?_
    refine j_if_le (tgt := 85) hC dX7_goes_77 (by decide) (fun h77 => ?_) (fun h77 => ?_)
    · refine j_iconst (v := 0) hC dX7_goes_85 (by decide) ?_
      exact j_sub [0, 1, 2, 3, 4, 5, 6, 7, 8] rfl (wX7_goes_86 hC hG hnl fu w hw kn52 hk52 M x1 x3 x4 x5 x6 x7 x8 x9 0 (x3 + x8))
    · refine j_iload hC 8 dX7_goes_80 rfl ?_
      refine j_goto (tgt := 86) hC dX7_goes_82 (by decide) ?_
      exact j_sub [0, 1, 2, 3, 4, 5, 6, 7, 8] rfl (wX7_goes_86 hC hG hnl fu w hw kn52 hk52 M x1 x3 x4 x5 x6 x7 x8 x9 x9 (x3 + x8))
set_option linter.unusedVariables false in
set_option maxRecDepth 100000 in
theorem wX7_goes_52 {X : JX} (hC : JC X cX7_goes RX7 none 37 1386 0 0) (hG : dmI dmX (XG X)) (hnl : nLof X = 11) (fu : Nat) (w : Nat) (hw : w < 2) (M : Mem) (x1 x3 x4 x5 x6 x7 x8 x9 : Int32) : J X (ZN X foV) (FX7_goes_52 fu (XD X) w M x1 x3 x4 x5 x6 x7 x8 x9) 52 [(0, .ref (gadr (XG X) (3, w, 0))), (1, .int x1), (3, .int x3), (4, .int x4), (5, .int x5), (6, .int x6), (7, .int x7), (8, .int x8), (9, .int x9)] [] M 0 0 := by
  exact j_lp (lvf := fun z => [(0, .ref (gadr (XG X) (3, w, 0))), (1, .int (z.2.1)), (3, .int (z.2.2.1)), (4, .int (z.2.2.2.1)), (5, .int (z.2.2.2.2.1)), (6, .int (z.2.2.2.2.2.1)), (7, .int (z.2.2.2.2.2.2.1)), (8, .int (z.2.2.2.2.2.2.2.1)), (9, .int (z.2.2.2.2.2.2.2.2))]) (Mf := fun z => z.1) (fun kn hk z => wgX7_goes_52 hC hG hnl fu w hw kn (fun M x1 x3 x4 x5 x6 x7 x8 x9 => hk (M, x1, x3, x4, x5, x6, x7, x8, x9)) z.1 z.2.1 z.2.2.1 z.2.2.2.1 z.2.2.2.2.1 z.2.2.2.2.2.1 z.2.2.2.2.2.2.1 z.2.2.2.2.2.2.2.1 z.2.2.2.2.2.2.2.2) fu (M, x1, x3, x4, x5, x6, x7, x8, x9)
set_option linter.unusedVariables false in
set_option maxRecDepth 100000 in
theorem wX7_goes {X : JX} (hC : JC X cX7_goes RX7 none 37 1386 0 0) (hG : dmI dmX (XG X)) (hnl : nLof X = 11) (fu : Nat) (w : Nat) (hw : w < 2) (M : Mem) (x1 x2 x3 x4 x5 : Int32) : J X (ZN X foV) (FX7_goes fu (XD X) w M x1 x2 x3 x4 x5) 0 [(0, .ref (gadr (XG X) (3, w, 0))), (1, .int x1), (2, .int x2), (3, .int x3), (4, .int x4), (5, .int x5)] [] M 0 0 := by
  unfold FX7_goes
  refine j_aload_n hC 0 dX7_goes_0 rfl ?_
  refine j_getR (fk := 3) hC (dmW hG hw rfl) rfl rfl in_X7 rfl rfl q471 rfl dX7_goes_1 ?_
  refine j_bipush (v := 16) hC dX7_goes_4 (by decide) ?_
  refine j_iload_n hC 2 dX7_goes_6 rfl ?_
  refine j_imul hC dX7_goes_7 ?_
  refine j_iload_n hC 3 dX7_goes_8 rfl ?_
  refine j_iadd hC dX7_goes_9 ?_
  refine j_iald hC (dmW hG hw rfl) rfl dX7_goes_10 (fun h10 => ?_)
  refine j_ltT (fun y11 => ?_)
  refine j_istore hC [(6, .int y11), (0, .ref (gadr (XG X) (3, w, 0))), (1, .int x1), (2, .int x2), (3, .int x3), (4, .int x4), (5, .int x5)] hnl dX7_goes_11 rfl rfl ?_
  refine j_iload_n hC 3 dX7_goes_13 rfl ?_
  refine j_aload_n hC 1 dX7_goes_14 rfl ?_
  refine j_getR (fk := 7) hC (dmW hG hw rfl) rfl rfl in_X7 rfl rfl q477 rfl dX7_goes_15 ?_
  refine j_getNR (fk := 1) hC (dmY hG rfl) rfl rfl in_X1 rfl rfl q497 rfl dX7_goes_18 ?_
  refine j_iload_n hC 2 dX7_goes_21 rfl ?_
  refine j_iload_n hC 3 dX7_goes_22 rfl ?_
  refine j_iload_n hC 4 dX7_goes_23 rfl ?_
  refine j_iload hC 5 dX7_goes_24 rfl ?_
  refine j_callV (nA := 4) (rest := [.int x2]) hC [.int x1, .int x2, .int x3, .int x4] rfl (fun r hr => mX3_sinks (XL X) (XG X) hG fu (XD X) 0 (by decide) M x1 x2 x3 x4 r hr) q577 q578 q579 q128 q580 (dmS hG (by decide) rfl) rfl rfl (by decide +kernel) rfl rfl rfl rfl rfl rfl dX7_goes_26 (fun v26 => [.int v26, .int x2]) (fun _ => rfl) (fun v26 M26 => ?_)
  refine j_isub hC dX7_goes_29 ?_
  refine j_ltT (fun y30 => ?_)
  refine j_istore hC [(7, .int y30), (6, .int y11), (0, .ref (gadr (XG X) (3, w, 0))), (1, .int x1), (2, .int x2), (3, .int x3), (4, .int x4), (5, .int x5)] hnl dX7_goes_30 rfl rfl ?_
  refine j_aload_n hC 2 dX7_goes_32 rfl ?_
  refine j_getR (fk := 7) hC (dmW hG hw rfl) rfl rfl in_X7 rfl rfl q477 rfl dX7_goes_33 ?_
  refine j_getNR (fk := 1) hC (dmY hG rfl) rfl rfl in_X1 rfl rfl q497 rfl dX7_goes_36 ?_
  refine j_iload_n hC 3 dX7_goes_39 rfl ?_
  refine j_iload_n hC 4 dX7_goes_40 rfl ?_
  refine j_iload_n hC 5 dX7_goes_41 rfl ?_
  refine j_iload hC 6 dX7_goes_42 rfl ?_
  refine j_callV (nA := 4) (rest := []) hC [.int x1, .int x2, .int x3, .int x4] rfl (fun r hr => mX3_carried (XL X) (XG X) hG fu (XD X) 0 (by decide) M26 x1 x2 x3 x4 r hr) q645 q646 q647 q128 q648 (dmS hG (by decide) rfl) rfl rfl (by decide +kernel) rfl rfl rfl rfl rfl rfl dX7_goes_44 (fun v44 => [.int v44]) (fun _ => rfl) (fun v44 M44 => ?_)
  refine j_istore hC [(8, .int v44), (7, .int y30), (6, .int y11), (0, .ref (gadr (XG X) (3, w, 0))), (1, .int x1), (2, .int x2), (3, .int x3), (4, .int x4), (5, .int x5)] hnl dX7_goes_47 rfl rfl ?_
  refine j_iconst (v := (-1)) hC dX7_goes_49 (by decide) ?_
  refine j_istore hC [(9, .int ((-1))), (8, .int v44), (7, .int y30), (6, .int y11), (0, .ref (gadr (XG X) (3, w, 0))), (1, .int x1), (2, .int x2), (3, .int x3), (4, .int x4), (5, .int x5)] hnl dX7_goes_50 rfl rfl ?_
  exact j_sub [4, 5, 7, 8, 9, 3, 2, 1, 0] rfl (wX7_goes_52 hC hG hnl fu w hw M44 x1 x3 x4 x5 y11 y30 v44 (-1))
set_option linter.unusedVariables false in
set_option maxRecDepth 100000 in
theorem mX7_goes (l : Launch) (Γ : xG) (hG : dmI dmX Γ) (fu : Nat) (D : List LDen) (w : Nat) (hw : w < 2) (M : Mem) (x1 x2 x3 x4 x5 : Int32) (r : Int32 × Mem) (hr : FX7_goes fu D w M x1 x2 x3 x4 x5 = some r) : CN l yX7_goes (ws_ yX7_goes cX7_goes 11 none) 37 1386 Γ D [.ref (gadr Γ (3, w, 0)), .int x1, .int x2, .int x3, .int x4, .int x5] M (foV r.1) r.2 := by
  refine CN.of (own := RX7) (lv0 := lv_args 0 [.ref (gadr Γ (3, w, 0)), .int x1, .int x2, .int x3, .int x4, .int x5]) (by decide +kernel) rfl (Nat.le_of_ble_eq_true rfl) rfl (fun X e1 e2 e3 e4 hC => ?_) r hr
  subst e1
  subst e2
  exact wX7_goes hC hG e4 fu w hw M x1 x2 x3 x4 x5
set_option linter.unusedVariables false in
set_option maxRecDepth 100000 in
theorem wgX7_counts_247 {X : JX} (hC : JC X cX7_counts RX7 none 38 1416 0 0) (hG : dmI dmX (XG X)) (hnl : nLof X = 5) (fu : Nat) (w : Nat) (hw : w < 2) (kn247 : Mem × Int32 → Option (Int32 × Mem)) (hk247 : ∀ (M : Mem) (x3 : Int32), J X (ZN X foV) (kn247 (M, x3)) 247 [(0, .ref (gadr (XG X) (3, w, 0))), (3, .int x3)] [] M 0 0) (M : Mem) (x3 : Int32) : J X (ZN X foV) (GX7_counts_247 fu (XD X) w kn247 M x3) 247 [(0, .ref (gadr (XG X) (3, w, 0))), (3, .int x3)] [] M 0 0 := by
  unfold GX7_counts_247
  refine j_iload_n hC 1 dX7_counts_247 rfl ?_
  refine j_aload_n hC 0 dX7_counts_248 rfl ?_
  refine j_getR (fk := 3) hC (dmW hG hw rfl) rfl rfl in_X7 rfl rfl q471 rfl dX7_counts_249 ?_
  refine j_alen (v := 208) hC (dmW hG hw rfl) rfl rfl (by decide) dX7_counts_252 ?_
  refine j_icmp_ge (tgt := 277) hC dX7_counts_253 (by decide) (fun h253 => ?_) (fun h253 => ?_)
  · exact j_vret hC dX7_counts_277
  · refine j_aload_n hC 0 dX7_counts_256 rfl ?_
    refine j_dup hC dX7_counts_257 rfl ?_
    refine j_getI (fk := 6) hC (dmW hG hw rfl) rfl rfl in_X7 rfl rfl q475 rfl dX7_counts_258 ?_
    refine j_aload_n hC 0 dX7_counts_261 rfl ?_
    refine j_getR (fk := 3) hC (dmW hG hw rfl) rfl rfl in_X7 rfl rfl q471 rfl dX7_counts_262 ?_
    refine j_iload_n hC 1 dX7_counts_265 rfl ?_
    refine j_iald hC (dmW hG hw rfl) rfl dX7_counts_266 (fun h266 => ?_)
    refine j_iadd hC dX7_counts_267 ?_
    refine j_put (fk := 6) (ty := .int) hC (dmW hG hw rfl) rfl rfl in_X7 rfl rfl q475 tyX7 tyX7_ok nmX7 rfl rfl (by decide +kernel) rfl rfl dX7_counts_268 ?_
    refine j_lt (fun M268 => ?_)
    refine j_iincL hC 1 (fun y271 => [(3, .int y271), (0, .ref (gadr (XG X) (3, w, 0)))]) hnl dX7_counts_271 rfl (by decide) rfl (fun _ => rfl) (fun y271 => ?_)
    refine j_goto (tgt := 247) hC dX7_counts_274 (by decide) ?_
    exact j_sub [1, 0] rfl (hk247 M268 y271)
set_option linter.unusedVariables false in
set_option maxRecDepth 100000 in
theorem wX7_counts_247 {X : JX} (hC : JC X cX7_counts RX7 none 38 1416 0 0) (hG : dmI dmX (XG X)) (hnl : nLof X = 5) (fu : Nat) (w : Nat) (hw : w < 2) (M : Mem) (x3 : Int32) : J X (ZN X foV) (FX7_counts_247 fu (XD X) w M x3) 247 [(0, .ref (gadr (XG X) (3, w, 0))), (3, .int x3)] [] M 0 0 := by
  exact j_lp (lvf := fun z => [(0, .ref (gadr (XG X) (3, w, 0))), (3, .int (z.2))]) (Mf := fun z => z.1) (fun kn hk z => wgX7_counts_247 hC hG hnl fu w hw kn (fun M x3 => hk (M, x3)) z.1 z.2) fu (M, x3)
set_option linter.unusedVariables false in
set_option maxRecDepth 100000 in
theorem wX7_counts_210 {X : JX} (hC : JC X cX7_counts RX7 none 38 1416 0 0) (hG : dmI dmX (XG X)) (hnl : nLof X = 5) (fu : Nat) (w : Nat) (hw : w < 2) (kn173 : Mem × Int32 × Int32 × Int32 × Int32 → Option (Int32 × Mem)) (hk173 : ∀ (M : Mem) (x1 x2 x3 x4 : Int32), J X (ZN X foV) (kn173 (M, x1, x2, x3, x4)) 173 [(0, .ref (gadr (XG X) (3, w, 0))), (1, .int x1), (2, .int x2), (3, .int x3), (4, .int x4)] [] M 0 0) (M : Mem) (x1 x2 x3 x4 : Int32) : J X (ZN X foV) (FX7_counts_210 fu (XD X) w kn173 M x1 x2 x3 x4) 210 [(0, .ref (gadr (XG X) (3, w, 0))), (1, .int x1), (2, .int x2), (3, .int x3), (4, .int x4)] [] M 0 0 := by
  unfold FX7_counts_210
  refine j_iincL hC 4 (fun y210 => [(4, .int y210), (0, .ref (gadr (XG X) (3, w, 0))), (1, .int x1), (2, .int x2), (3, .int x3)]) hnl dX7_counts_210 rfl (by decide) rfl (fun _ => rfl) (fun y210 => ?_)
  refine j_goto (tgt := 173) hC dX7_counts_213 (by decide) ?_
  exact j_sub [1, 2, 3, 4, 0] rfl (hk173 M x1 x2 x3 y210)
set_option linter.unusedVariables false in
set_option maxRecDepth 100000 in
theorem wgX7_counts_173 {X : JX} (hC : JC X cX7_counts RX7 none 38 1416 0 0) (hG : dmI dmX (XG X)) (hnl : nLof X = 5) (fu : Nat) (w : Nat) (hw : w < 2) (kn173 : Mem × Int32 × Int32 × Int32 × Int32 → Option (Int32 × Mem)) (hk173 : ∀ (M : Mem) (x1 x2 x3 x4 : Int32), J X (ZN X foV) (kn173 (M, x1, x2, x3, x4)) 173 [(0, .ref (gadr (XG X) (3, w, 0))), (1, .int x1), (2, .int x2), (3, .int x3), (4, .int x4)] [] M 0 0) (kn136 : Mem × Int32 × Int32 × Int32 → Option (Int32 × Mem)) (hk136 : ∀ (M : Mem) (x1 x2 x3 : Int32), J X (ZN X foV) (kn136 (M, x1, x2, x3)) 136 [(0, .ref (gadr (XG X) (3, w, 0))), (1, .int x1), (2, .int x2), (3, .int x3)] [] M 0 0) (M : Mem) (x1 x2 x3 x4 : Int32) : J X (ZN X foV) (GX7_counts_173 fu (XD X) w kn173 kn136 M x1 x2 x3 x4) 173 [(0, .ref (gadr (XG X) (3, w, 0))), (1, .int x1), (2, .int x2), (3, .int x3), (4, .int x4)] [] M 0 0 := by
  unfold GX7_counts_173
  refine j_iload hC 4 dX7_counts_173 rfl ?_
  refine j_aload_n hC 0 dX7_counts_175 rfl ?_
  refine j_getR (fk := 3) hC (dmW hG hw rfl) rfl rfl in_X7 rfl rfl q471 rfl dX7_counts_176 ?_
  refine j_alen (v := 208) hC (dmW hG hw rfl) rfl rfl (by decide) dX7_counts_179 ?_
  refine j_icmp_ge (tgt := 216) hC dX7_counts_180 (by decide) (fun h180 => ?_) (fun h180 => ?_)
  · refine j_aload_n hC 0 dX7_counts_216 rfl ?_
    refine j_getR (fk := 4) hC (dmW hG hw rfl) rfl rfl in_X7 rfl rfl q472 rfl dX7_counts_217 ?_
    refine j_iconst (v := 0) hC dX7_counts_220 (by decide) ?_
    refine j_aload_n hC 0 dX7_counts_221 rfl ?_
    refine j_getR (fk := 3) hC (dmW hG hw rfl) rfl rfl in_X7 rfl rfl q471 rfl dX7_counts_222 ?_
    refine j_iconst (v := 0) hC dX7_counts_225 (by decide) ?_
    refine j_aload_n hC 0 dX7_counts_226 rfl ?_
    refine j_getR (fk := 3) hC (dmW hG hw rfl) rfl rfl in_X7 rfl rfl q471 rfl dX7_counts_227 ?_
    refine j_alen (v := 208) hC (dmW hG hw rfl) rfl rfl (by decide) dX7_counts_230 ?_
    refine j_copyI (w := 208) hC (dmW hG hw rfl) (dmW hG hw rfl) rfl rfl (by decide) (by decide) rfl rfl q665 q667 q666 q137 rfl (Nat.le_of_ble_eq_true rfl) dX7_counts_231 ?_
    refine j_lt (fun M231 => ?_)
    refine j_iload_n hC 2 dX7_counts_234 rfl ?_
    refine j_iconst (v := 3) hC dX7_counts_235 (by decide) ?_
    refine j_idivL hC dX7_counts_236 (by decide) ?_
    refine j_ltT (fun y237 => ?_)
    refine j_istore_n hC [(2, .int y237), (0, .ref (gadr (XG X) (3, w, 0))), (1, .int x1), (3, .int x3), (4, .int x4)] hnl dX7_counts_237 rfl rfl ?_
    refine j_iincL hC 3 (fun y238 => [(3, .int y238), (2, .int y237), (0, .ref (gadr (XG X) (3, w, 0))), (1, .int x1), (4, .int x4)]) hnl dX7_counts_238 rfl (by decide) rfl (fun _ => rfl) (fun y238 => ?_)
    refine j_goto (tgt := 136) hC dX7_counts_241 (by decide) ?_
    exact j_sub [2, 3, 1, 0] rfl (hk136 M231 x1 y237 y238)
  · refine j_aload_n hC 0 dX7_counts_183 rfl ?_
    refine j_getR (fk := 3) hC (dmW hG hw rfl) rfl rfl in_X7 rfl rfl q471 rfl dX7_counts_184 ?_
    refine j_iload hC 4 dX7_counts_187 rfl ?_
    refine j_iald hC (dmW hG hw rfl) rfl dX7_counts_189 (fun h189 => ?_)
    refine j_if_le (tgt := 210) hC dX7_counts_190 (by decide) (fun h190 => ?_) (fun h190 => ?_)
    · exact j_sub [0, 1, 2, 3, 4] rfl (wX7_counts_210 hC hG hnl fu w hw kn173 hk173 M x1 x2 x3 x4)
    · refine j_aload_n hC 0 dX7_counts_193 rfl ?_
      refine j_iload_n hC 1 dX7_counts_194 rfl ?_
      refine j_iload hC 4 dX7_counts_195 rfl ?_
      refine j_bipush (v := 16) hC dX7_counts_197 (by decide) ?_
      refine j_idivL hC dX7_counts_199 (by decide) ?_
      refine j_iload hC 4 dX7_counts_200 rfl ?_
      refine j_bipush (v := 16) hC dX7_counts_202 (by decide) ?_
      refine j_iremL hC dX7_counts_204 (by decide) ?_
      refine j_iload_n hC 3 dX7_counts_205 rfl ?_
      refine j_iload_n hC 2 dX7_counts_206 rfl ?_
      refine j_callV (nA := 5) (rest := []) hC [.int x1, .int (x4 / 16), .int (rm x4 16), .int x3, .int x2] rfl (fun r hr => mX7_goes (XL X) (XG X) hG fu (XD X) w hw M x1 (x4 / 16) (rm x4 16) x3 x2 r hr) q573 q575 qs2 q135 q576 (dmW hG hw rfl) rfl rfl (by decide +kernel) rfl rfl rfl rfl rfl rfl dX7_counts_207 (fun _ => []) (fun _ => rfl) (fun v207 M207 => ?_)
      exact j_sub [0, 1, 2, 3, 4] rfl (wX7_counts_210 hC hG hnl fu w hw kn173 hk173 M207 x1 x2 x3 x4)
set_option linter.unusedVariables false in
set_option maxRecDepth 100000 in
theorem wX7_counts_173 {X : JX} (hC : JC X cX7_counts RX7 none 38 1416 0 0) (hG : dmI dmX (XG X)) (hnl : nLof X = 5) (fu : Nat) (w : Nat) (hw : w < 2) (kn136 : Mem × Int32 × Int32 × Int32 → Option (Int32 × Mem)) (hk136 : ∀ (M : Mem) (x1 x2 x3 : Int32), J X (ZN X foV) (kn136 (M, x1, x2, x3)) 136 [(0, .ref (gadr (XG X) (3, w, 0))), (1, .int x1), (2, .int x2), (3, .int x3)] [] M 0 0) (M : Mem) (x1 x2 x3 x4 : Int32) : J X (ZN X foV) (FX7_counts_173 fu (XD X) w kn136 M x1 x2 x3 x4) 173 [(0, .ref (gadr (XG X) (3, w, 0))), (1, .int x1), (2, .int x2), (3, .int x3), (4, .int x4)] [] M 0 0 := by
  exact j_lp (lvf := fun z => [(0, .ref (gadr (XG X) (3, w, 0))), (1, .int (z.2.1)), (2, .int (z.2.2.1)), (3, .int (z.2.2.2.1)), (4, .int (z.2.2.2.2))]) (Mf := fun z => z.1) (fun kn hk z => wgX7_counts_173 hC hG hnl fu w hw kn (fun M x1 x2 x3 x4 => hk (M, x1, x2, x3, x4)) kn136 hk136 z.1 z.2.1 z.2.2.1 z.2.2.2.1 z.2.2.2.2) fu (M, x1, x2, x3, x4)
set_option linter.unusedVariables false in
set_option maxRecDepth 100000 in
theorem wgX7_counts_145 {X : JX} (hC : JC X cX7_counts RX7 none 38 1416 0 0) (hG : dmI dmX (XG X)) (hnl : nLof X = 5) (fu : Nat) (w : Nat) (hw : w < 2) (kn145 : Mem × Int32 × Int32 × Int32 × Int32 → Option (Int32 × Mem)) (hk145 : ∀ (M : Mem) (x1 x2 x3 x4 : Int32), J X (ZN X foV) (kn145 (M, x1, x2, x3, x4)) 145 [(0, .ref (gadr (XG X) (3, w, 0))), (1, .int x1), (2, .int x2), (3, .int x3), (4, .int x4)] [] M 0 0) (kn136 : Mem × Int32 × Int32 × Int32 → Option (Int32 × Mem)) (hk136 : ∀ (M : Mem) (x1 x2 x3 : Int32), J X (ZN X foV) (kn136 (M, x1, x2, x3)) 136 [(0, .ref (gadr (XG X) (3, w, 0))), (1, .int x1), (2, .int x2), (3, .int x3)] [] M 0 0) (M : Mem) (x1 x2 x3 x4 : Int32) : J X (ZN X foV) (GX7_counts_145 fu (XD X) w kn145 kn136 M x1 x2 x3 x4) 145 [(0, .ref (gadr (XG X) (3, w, 0))), (1, .int x1), (2, .int x2), (3, .int x3), (4, .int x4)] [] M 0 0 := by
  unfold GX7_counts_145
  refine j_iload hC 4 dX7_counts_145 rfl ?_
  refine j_aload_n hC 0 dX7_counts_147 rfl ?_
  refine j_getR (fk := 4) hC (dmW hG hw rfl) rfl rfl in_X7 rfl rfl q472 rfl dX7_counts_148 ?_
  refine j_alen (v := 208) hC (dmW hG hw rfl) rfl rfl (by decide) dX7_counts_151 ?_
  refine j_icmp_ge (tgt := 169) hC dX7_counts_152 (by decide) (fun h152 => ?_) (fun h152 => ?_)
  · refine j_bipush (v := 16) hC dX7_counts_169 (by decide) ?_
    refine j_istore hC [(4, .int 16), (0, .ref (gadr (XG X) (3, w, 0))), (1, .int x1), (2, .int x2), (3, .int x3)] hnl dX7_counts_171 rfl rfl ?_
    exact j_sub [1, 2, 3, 4, 0] rfl (wX7_counts_173 hC hG hnl fu w hw kn136 hk136 M x1 x2 x3 16)
  · refine j_aload_n hC 0 dX7_counts_155 rfl ?_
    refine j_getR (fk := 4) hC (dmW hG hw rfl) rfl rfl in_X7 rfl rfl q472 rfl dX7_counts_156 ?_
    refine j_iload hC 4 dX7_counts_159 rfl ?_
    refine j_iconst (v := 0) hC dX7_counts_161 (by decide) ?_
    refine j_iast hC (dmW hG hw rfl) rfl dX7_counts_162 (fun h162 => ?_)
    refine j_lt (fun M162 => ?_)
    refine j_iincL hC 4 (fun y163 => [(4, .int y163), (0, .ref (gadr (XG X) (3, w, 0))), (1, .int x1), (2, .int x2), (3, .int x3)]) hnl dX7_counts_163 rfl (by decide) rfl (fun _ => rfl) (fun y163 => ?_)
    refine j_goto (tgt := 145) hC dX7_counts_166 (by decide) ?_
    exact j_sub [1, 2, 3, 4, 0] rfl (hk145 M162 x1 x2 x3 y163)
set_option linter.unusedVariables false in
set_option maxRecDepth 100000 in
theorem wX7_counts_145 {X : JX} (hC : JC X cX7_counts RX7 none 38 1416 0 0) (hG : dmI dmX (XG X)) (hnl : nLof X = 5) (fu : Nat) (w : Nat) (hw : w < 2) (kn136 : Mem × Int32 × Int32 × Int32 → Option (Int32 × Mem)) (hk136 : ∀ (M : Mem) (x1 x2 x3 : Int32), J X (ZN X foV) (kn136 (M, x1, x2, x3)) 136 [(0, .ref (gadr (XG X) (3, w, 0))), (1, .int x1), (2, .int x2), (3, .int x3)] [] M 0 0) (M : Mem) (x1 x2 x3 x4 : Int32) : J X (ZN X foV) (FX7_counts_145 fu (XD X) w kn136 M x1 x2 x3 x4) 145 [(0, .ref (gadr (XG X) (3, w, 0))), (1, .int x1), (2, .int x2), (3, .int x3), (4, .int x4)] [] M 0 0 := by
  exact j_lp (lvf := fun z => [(0, .ref (gadr (XG X) (3, w, 0))), (1, .int (z.2.1)), (2, .int (z.2.2.1)), (3, .int (z.2.2.2.1)), (4, .int (z.2.2.2.2))]) (Mf := fun z => z.1) (fun kn hk z => wgX7_counts_145 hC hG hnl fu w hw kn (fun M x1 x2 x3 x4 => hk (M, x1, x2, x3, x4)) kn136 hk136 z.1 z.2.1 z.2.2.1 z.2.2.2.1 z.2.2.2.2) fu (M, x1, x2, x3, x4)
set_option linter.unusedVariables false in
set_option maxRecDepth 100000 in
theorem wgX7_counts_136 {X : JX} (hC : JC X cX7_counts RX7 none 38 1416 0 0) (hG : dmI dmX (XG X)) (hnl : nLof X = 5) (fu : Nat) (w : Nat) (hw : w < 2) (kn136 : Mem × Int32 × Int32 × Int32 → Option (Int32 × Mem)) (hk136 : ∀ (M : Mem) (x1 x2 x3 : Int32), J X (ZN X foV) (kn136 (M, x1, x2, x3)) 136 [(0, .ref (gadr (XG X) (3, w, 0))), (1, .int x1), (2, .int x2), (3, .int x3)] [] M 0 0) (M : Mem) (x1 x2 x3 : Int32) : J X (ZN X foV) (GX7_counts_136 fu (XD X) w kn136 M x1 x2 x3) 136 [(0, .ref (gadr (XG X) (3, w, 0))), (1, .int x1), (2, .int x2), (3, .int x3)] [] M 0 0 := by
  unfold GX7_counts_136
  refine j_iload_n hC 3 dX7_counts_136 rfl ?_
  refine j_bipush (v := 8) hC dX7_counts_137 (by decide) ?_
  refine j_icmp_ge (tgt := 244) hC dX7_counts_139 (by decide) (fun h139 => ?_) (fun h139 => ?_)
  · refine j_bipush (v := 16) hC dX7_counts_244 (by decide) ?_
    refine j_istore_n hC [(3, .int 16), (0, .ref (gadr (XG X) (3, w, 0))), (1, .int x1), (2, .int x2)] hnl dX7_counts_246 rfl rfl ?_
    exact j_sub [1, 0] rfl (wX7_counts_247 hC hG hnl fu w hw M 16)
  · refine j_iconst (v := 0) hC dX7_counts_142 (by decide) ?_
    refine j_istore hC [(4, .int 0), (0, .ref (gadr (XG X) (3, w, 0))), (1, .int x1), (2, .int x2), (3, .int x3)] hnl dX7_counts_143 rfl rfl ?_
    exact j_sub [1, 2, 3, 4, 0] rfl (wX7_counts_145 hC hG hnl fu w hw kn136 hk136 M x1 x2 x3 0)
set_option linter.unusedVariables false in
set_option maxRecDepth 100000 in
theorem wX7_counts_136 {X : JX} (hC : JC X cX7_counts RX7 none 38 1416 0 0) (hG : dmI dmX (XG X)) (hnl : nLof X = 5) (fu : Nat) (w : Nat) (hw : w < 2) (M : Mem) (x1 x2 x3 : Int32) : J X (ZN X foV) (FX7_counts_136 fu (XD X) w M x1 x2 x3) 136 [(0, .ref (gadr (XG X) (3, w, 0))), (1, .int x1), (2, .int x2), (3, .int x3)] [] M 0 0 := by
  exact j_lp (lvf := fun z => [(0, .ref (gadr (XG X) (3, w, 0))), (1, .int (z.2.1)), (2, .int (z.2.2.1)), (3, .int (z.2.2.2))]) (Mf := fun z => z.1) (fun kn hk z => wgX7_counts_136 hC hG hnl fu w hw kn (fun M x1 x2 x3 => hk (M, x1, x2, x3)) z.1 z.2.1 z.2.2.1 z.2.2.2) fu (M, x1, x2, x3)
set_option linter.unusedVariables false in
set_option maxRecDepth 100000 in
theorem wgX7_counts_68 {X : JX} (hC : JC X cX7_counts RX7 none 38 1416 0 0) (hG : dmI dmX (XG X)) (hnl : nLof X = 5) (fu : Nat) (w : Nat) (hw : w < 2) (kn68 : Mem × Int32 × Int32 → Option (Int32 × Mem)) (hk68 : ∀ (M : Mem) (x1 x2 : Int32), J X (ZN X foV) (kn68 (M, x1, x2)) 68 [(0, .ref (gadr (XG X) (3, w, 0))), (1, .int x1), (2, .int x2)] [] M 0 0) (M : Mem) (x1 x2 : Int32) : J X (ZN X foV) (GX7_counts_68 fu (XD X) w kn68 M x1 x2) 68 [(0, .ref (gadr (XG X) (3, w, 0))), (1, .int x1), (2, .int x2)] [] M 0 0 := by
  unfold GX7_counts_68
  refine j_iload_n hC 2 dX7_counts_68 rfl ?_
  refine j_aload_n hC 0 dX7_counts_69 rfl ?_
  refine j_getR (fk := 2) hC (dmW hG hw rfl) rfl rfl in_X7 rfl rfl q469 rfl dX7_counts_70 ?_
  refine j_alen (v := 128) hC (dmW hG hw rfl) rfl rfl (by decide) dX7_counts_73 ?_
  refine j_icmp_ge (tgt := 90) hC dX7_counts_74 (by decide) (fun h74 => ?_) (fun h74 => ?_)
  · refine j_aload_n hC 0 dX7_counts_90 rfl ?_
    refine j_iconst (v := 0) hC dX7_counts_91 (by decide) ?_
    refine j_put (fk := 5) (ty := .int) hC (dmW hG hw rfl) rfl rfl in_X7 rfl rfl q473 tyX7 tyX7_ok nmX7 rfl rfl (by decide +kernel) rfl rfl dX7_counts_92 ?_
    refine j_lt (fun M92 => ?_)
    refine j_aload_n hC 0 dX7_counts_95 rfl ?_
    refine j_iconst (v := 0) hC dX7_counts_96 (by decide) ?_
    refine j_put (fk := 6) (ty := .int) hC (dmW hG hw rfl) rfl rfl in_X7 rfl rfl q475 tyX7 tyX7_ok nmX7 rfl rfl (by decide +kernel) rfl rfl dX7_counts_97 ?_
    refine j_lt (fun M97 => ?_)
    refine j_aload_n hC 0 dX7_counts_100 rfl ?_
    refine j_getR (fk := 3) hC (dmW hG hw rfl) rfl rfl in_X7 rfl rfl q471 rfl dX7_counts_101 ?_
    refine j_bipush (v := 16) hC dX7_counts_104 (by decide) ?_
    refine j_aload_n hC 0 dX7_counts_106 rfl ?_
    refine j_getR (fk := 7) hC (dmW hG hw rfl) rfl rfl in_X7 rfl rfl q477 rfl dX7_counts_107 ?_
    refine j_getNR (fk := 1) hC (dmY hG rfl) rfl rfl in_X1 rfl rfl q497 rfl dX7_counts_110 ?_
    refine j_getNI (fk := 13) hC (dmS hG (by decide) rfl) rfl rfl in_X3 rfl rfl q290 rfl dX7_counts_113 ?_
    refine j_imul hC dX7_counts_116 ?_
    refine j_aload_n hC 0 dX7_counts_117 rfl ?_
    refine j_getR (fk := 7) hC (dmW hG hw rfl) rfl rfl in_X7 rfl rfl q477 rfl dX7_counts_118 ?_
    refine j_getNR (fk := 1) hC (dmY hG rfl) rfl rfl in_X1 rfl rfl q497 rfl dX7_counts_121 ?_
    refine j_getNI (fk := 12) hC (dmS hG (by decide) rfl) rfl rfl in_X3 rfl rfl q286 rfl dX7_counts_124 ?_
    refine j_iadd hC dX7_counts_127 ?_
    refine j_iconst (v := 1) hC dX7_counts_128 (by decide) ?_
    refine j_iast hC (dmW hG hw rfl) rfl dX7_counts_129 (fun h129 => ?_)
    refine j_lt (fun M129 => ?_)
    refine j_sipush (v := 2187) hC dX7_counts_130 (by decide) ?_
    refine j_istore_n hC [(2, .int 2187), (0, .ref (gadr (XG X) (3, w, 0))), (1, .int x1)] hnl dX7_counts_133 rfl rfl ?_
    refine j_iconst (v := 0) hC dX7_counts_134 (by decide) ?_
    refine j_istore_n hC [(3, .int 0), (2, .int 2187), (0, .ref (gadr (XG X) (3, w, 0))), (1, .int x1)] hnl dX7_counts_135 rfl rfl ?_
    exact j_sub [2, 3, 1, 0] rfl (wX7_counts_136 hC hG hnl fu w hw M129 x1 2187 0)
  · refine j_aload_n hC 0 dX7_counts_77 rfl ?_
    refine j_getR (fk := 2) hC (dmW hG hw rfl) rfl rfl in_X7 rfl rfl q469 rfl dX7_counts_78 ?_
    refine j_iload_n hC 2 dX7_counts_81 rfl ?_
    refine j_iconst (v := 0) hC dX7_counts_82 (by decide) ?_
    refine j_iast hC (dmW hG hw rfl) rfl dX7_counts_83 (fun h83 => ?_)
    refine j_lt (fun M83 => ?_)
    refine j_iincL hC 2 (fun y84 => [(2, .int y84), (0, .ref (gadr (XG X) (3, w, 0))), (1, .int x1)]) hnl dX7_counts_84 rfl (by decide) rfl (fun _ => rfl) (fun y84 => ?_)
    refine j_goto (tgt := 68) hC dX7_counts_87 (by decide) ?_
    exact j_sub [1, 2, 0] rfl (hk68 M83 x1 y84)
set_option linter.unusedVariables false in
set_option maxRecDepth 100000 in
theorem wX7_counts_68 {X : JX} (hC : JC X cX7_counts RX7 none 38 1416 0 0) (hG : dmI dmX (XG X)) (hnl : nLof X = 5) (fu : Nat) (w : Nat) (hw : w < 2) (M : Mem) (x1 x2 : Int32) : J X (ZN X foV) (FX7_counts_68 fu (XD X) w M x1 x2) 68 [(0, .ref (gadr (XG X) (3, w, 0))), (1, .int x1), (2, .int x2)] [] M 0 0 := by
  exact j_lp (lvf := fun z => [(0, .ref (gadr (XG X) (3, w, 0))), (1, .int (z.2.1)), (2, .int (z.2.2))]) (Mf := fun z => z.1) (fun kn hk z => wgX7_counts_68 hC hG hnl fu w hw kn (fun M x1 x2 => hk (M, x1, x2)) z.1 z.2.1 z.2.2) fu (M, x1, x2)
set_option linter.unusedVariables false in
set_option maxRecDepth 100000 in
theorem wgX7_counts_44 {X : JX} (hC : JC X cX7_counts RX7 none 38 1416 0 0) (hG : dmI dmX (XG X)) (hnl : nLof X = 5) (fu : Nat) (w : Nat) (hw : w < 2) (kn44 : Mem × Int32 × Int32 → Option (Int32 × Mem)) (hk44 : ∀ (M : Mem) (x1 x2 : Int32), J X (ZN X foV) (kn44 (M, x1, x2)) 44 [(0, .ref (gadr (XG X) (3, w, 0))), (1, .int x1), (2, .int x2)] [] M 0 0) (M : Mem) (x1 x2 : Int32) : J X (ZN X foV) (GX7_counts_44 fu (XD X) w kn44 M x1 x2) 44 [(0, .ref (gadr (XG X) (3, w, 0))), (1, .int x1), (2, .int x2)] [] M 0 0 := by
  unfold GX7_counts_44
  refine j_iload_n hC 2 dX7_counts_44 rfl ?_
  refine j_aload_n hC 0 dX7_counts_45 rfl ?_
  refine j_getR (fk := 3) hC (dmW hG hw rfl) rfl rfl in_X7 rfl rfl q471 rfl dX7_counts_46 ?_
  refine j_alen (v := 208) hC (dmW hG hw rfl) rfl rfl (by decide) dX7_counts_49 ?_
  refine j_icmp_ge (tgt := 66) hC dX7_counts_50 (by decide) (fun h50 => ?_) (fun h50 => ?_)
  · refine j_iconst (v := 0) hC dX7_counts_66 (by decide) ?_
    refine j_istore_n hC [(2, .int 0), (0, .ref (gadr (XG X) (3, w, 0))), (1, .int x1)] hnl dX7_counts_67 rfl rfl ?_
    exact j_sub [1, 2, 0] rfl (wX7_counts_68 hC hG hnl fu w hw M x1 0)
  · refine j_aload_n hC 0 dX7_counts_53 rfl ?_
    refine j_getR (fk := 3) hC (dmW hG hw rfl) rfl rfl in_X7 rfl rfl q471 rfl dX7_counts_54 ?_
    refine j_iload_n hC 2 dX7_counts_57 rfl ?_
    refine j_iconst (v := 0) hC dX7_counts_58 (by decide) ?_
    refine j_iast hC (dmW hG hw rfl) rfl dX7_counts_59 (fun h59 => ?_)
    refine j_lt (fun M59 => ?_)
    refine j_iincL hC 2 (fun y60 => [(2, .int y60), (0, .ref (gadr (XG X) (3, w, 0))), (1, .int x1)]) hnl dX7_counts_60 rfl (by decide) rfl (fun _ => rfl) (fun y60 => ?_)
    refine j_goto (tgt := 44) hC dX7_counts_63 (by decide) ?_
    exact j_sub [1, 2, 0] rfl (hk44 M59 x1 y60)
set_option linter.unusedVariables false in
set_option maxRecDepth 100000 in
theorem wX7_counts_44 {X : JX} (hC : JC X cX7_counts RX7 none 38 1416 0 0) (hG : dmI dmX (XG X)) (hnl : nLof X = 5) (fu : Nat) (w : Nat) (hw : w < 2) (M : Mem) (x1 x2 : Int32) : J X (ZN X foV) (FX7_counts_44 fu (XD X) w M x1 x2) 44 [(0, .ref (gadr (XG X) (3, w, 0))), (1, .int x1), (2, .int x2)] [] M 0 0 := by
  exact j_lp (lvf := fun z => [(0, .ref (gadr (XG X) (3, w, 0))), (1, .int (z.2.1)), (2, .int (z.2.2))]) (Mf := fun z => z.1) (fun kn hk z => wgX7_counts_44 hC hG hnl fu w hw kn (fun M x1 x2 => hk (M, x1, x2)) z.1 z.2.1 z.2.2) fu (M, x1, x2)
set_option linter.unusedVariables false in
set_option maxRecDepth 100000 in
theorem wgX7_counts_23 {X : JX} (hC : JC X cX7_counts RX7 none 38 1416 0 0) (hG : dmI dmX (XG X)) (hnl : nLof X = 5) (fu : Nat) (w : Nat) (hw : w < 2) (kn23 : Mem × Int32 × Int32 → Option (Int32 × Mem)) (hk23 : ∀ (M : Mem) (x1 x2 : Int32), J X (ZN X foV) (kn23 (M, x1, x2)) 23 [(0, .ref (gadr (XG X) (3, w, 0))), (1, .int x1), (2, .int x2)] [] M 0 0) (M : Mem) (x1 x2 : Int32) : J X (ZN X foV) (GX7_counts_23 fu (XD X) w kn23 M x1 x2) 23 [(0, .ref (gadr (XG X) (3, w, 0))), (1, .int x1), (2, .int x2)] [] M 0 0 := by
  unfold GX7_counts_23
  refine j_iload_n hC 2 dX7_counts_23 rfl ?_
  refine j_bipush (v := 16) hC dX7_counts_24 (by decide) ?_
  refine j_icmp_ge (tgt := 42) hC dX7_counts_26 (by decide) (fun h26 => ?_) (fun h26 => ?_)
  · refine j_iconst (v := 0) hC dX7_counts_42 (by decide) ?_
    refine j_istore_n hC [(2, .int 0), (0, .ref (gadr (XG X) (3, w, 0))), (1, .int x1)] hnl dX7_counts_43 rfl rfl ?_
    exact j_sub [1, 2, 0] rfl (wX7_counts_44 hC hG hnl fu w hw M x1 0)
  · refine j_aload_n hC 0 dX7_counts_29 rfl ?_
    refine j_getR (fk := 1) hC (dmW hG hw rfl) rfl rfl in_X7 rfl rfl q467 rfl dX7_counts_30 ?_
    refine j_iload_n hC 2 dX7_counts_33 rfl ?_
    refine j_iconst (v := 0) hC dX7_counts_34 (by decide) ?_
    refine j_iast hC (dmW hG hw rfl) rfl dX7_counts_35 (fun h35 => ?_)
    refine j_lt (fun M35 => ?_)
    refine j_iincL hC 2 (fun y36 => [(2, .int y36), (0, .ref (gadr (XG X) (3, w, 0))), (1, .int x1)]) hnl dX7_counts_36 rfl (by decide) rfl (fun _ => rfl) (fun y36 => ?_)
    refine j_goto (tgt := 23) hC dX7_counts_39 (by decide) ?_
    exact j_sub [1, 2, 0] rfl (hk23 M35 x1 y36)
set_option linter.unusedVariables false in
set_option maxRecDepth 100000 in
theorem wX7_counts_23 {X : JX} (hC : JC X cX7_counts RX7 none 38 1416 0 0) (hG : dmI dmX (XG X)) (hnl : nLof X = 5) (fu : Nat) (w : Nat) (hw : w < 2) (M : Mem) (x1 x2 : Int32) : J X (ZN X foV) (FX7_counts_23 fu (XD X) w M x1 x2) 23 [(0, .ref (gadr (XG X) (3, w, 0))), (1, .int x1), (2, .int x2)] [] M 0 0 := by
  exact j_lp (lvf := fun z => [(0, .ref (gadr (XG X) (3, w, 0))), (1, .int (z.2.1)), (2, .int (z.2.2))]) (Mf := fun z => z.1) (fun kn hk z => wgX7_counts_23 hC hG hnl fu w hw kn (fun M x1 x2 => hk (M, x1, x2)) z.1 z.2.1 z.2.2) fu (M, x1, x2)
set_option linter.unusedVariables false in
set_option maxRecDepth 100000 in
theorem wgX7_counts_2 {X : JX} (hC : JC X cX7_counts RX7 none 38 1416 0 0) (hG : dmI dmX (XG X)) (hnl : nLof X = 5) (fu : Nat) (w : Nat) (hw : w < 2) (kn2 : Mem × Int32 × Int32 → Option (Int32 × Mem)) (hk2 : ∀ (M : Mem) (x1 x2 : Int32), J X (ZN X foV) (kn2 (M, x1, x2)) 2 [(0, .ref (gadr (XG X) (3, w, 0))), (1, .int x1), (2, .int x2)] [] M 0 0) (M : Mem) (x1 x2 : Int32) : J X (ZN X foV) (GX7_counts_2 fu (XD X) w kn2 M x1 x2) 2 [(0, .ref (gadr (XG X) (3, w, 0))), (1, .int x1), (2, .int x2)] [] M 0 0 := by
  unfold GX7_counts_2
  refine j_iload_n hC 2 dX7_counts_2 rfl ?_
  refine j_bipush (v := 8) hC dX7_counts_3 (by decide) ?_
  refine j_icmp_gt (tgt := 21) hC dX7_counts_5 (by decide) (fun h5 => ?_) (fun h5 => ?_)
  · refine j_iconst (v := 0) hC dX7_counts_21 (by decide) ?_
    refine j_istore_n hC [(2, .int 0), (0, .ref (gadr (XG X) (3, w, 0))), (1, .int x1)] hnl dX7_counts_22 rfl rfl ?_
    exact j_sub [1, 2, 0] rfl (wX7_counts_23 hC hG hnl fu w hw M x1 0)
  · refine j_aload_n hC 0 dX7_counts_8 rfl ?_
    refine j_getR (fk := 0) hC (dmW hG hw rfl) rfl rfl in_X7 rfl rfl q465 rfl dX7_counts_9 ?_
    refine j_iload_n hC 2 dX7_counts_12 rfl ?_
    refine j_iconst (v := 0) hC dX7_counts_13 (by decide) ?_
    refine j_iast hC (dmW hG hw rfl) rfl dX7_counts_14 (fun h14 => ?_)
    refine j_lt (fun M14 => ?_)
    refine j_iincL hC 2 (fun y15 => [(2, .int y15), (0, .ref (gadr (XG X) (3, w, 0))), (1, .int x1)]) hnl dX7_counts_15 rfl (by decide) rfl (fun _ => rfl) (fun y15 => ?_)
    refine j_goto (tgt := 2) hC dX7_counts_18 (by decide) ?_
    exact j_sub [1, 2, 0] rfl (hk2 M14 x1 y15)
set_option linter.unusedVariables false in
set_option maxRecDepth 100000 in
theorem wX7_counts_2 {X : JX} (hC : JC X cX7_counts RX7 none 38 1416 0 0) (hG : dmI dmX (XG X)) (hnl : nLof X = 5) (fu : Nat) (w : Nat) (hw : w < 2) (M : Mem) (x1 x2 : Int32) : J X (ZN X foV) (FX7_counts_2 fu (XD X) w M x1 x2) 2 [(0, .ref (gadr (XG X) (3, w, 0))), (1, .int x1), (2, .int x2)] [] M 0 0 := by
  exact j_lp (lvf := fun z => [(0, .ref (gadr (XG X) (3, w, 0))), (1, .int (z.2.1)), (2, .int (z.2.2))]) (Mf := fun z => z.1) (fun kn hk z => wgX7_counts_2 hC hG hnl fu w hw kn (fun M x1 x2 => hk (M, x1, x2)) z.1 z.2.1 z.2.2) fu (M, x1, x2)
set_option linter.unusedVariables false in
set_option maxRecDepth 100000 in
theorem wX7_counts {X : JX} (hC : JC X cX7_counts RX7 none 38 1416 0 0) (hG : dmI dmX (XG X)) (hnl : nLof X = 5) (fu : Nat) (w : Nat) (hw : w < 2) (M : Mem) (x1 : Int32) : J X (ZN X foV) (FX7_counts fu (XD X) w M x1) 0 [(0, .ref (gadr (XG X) (3, w, 0))), (1, .int x1)] [] M 0 0 := by
  unfold FX7_counts
  refine j_iconst (v := 0) hC dX7_counts_0 (by decide) ?_
  refine j_istore_n hC [(2, .int 0), (0, .ref (gadr (XG X) (3, w, 0))), (1, .int x1)] hnl dX7_counts_1 rfl rfl ?_
  exact j_sub [1, 2, 0] rfl (wX7_counts_2 hC hG hnl fu w hw M x1 0)
set_option linter.unusedVariables false in
set_option maxRecDepth 100000 in
theorem mX7_counts (l : Launch) (Γ : xG) (hG : dmI dmX Γ) (fu : Nat) (D : List LDen) (w : Nat) (hw : w < 2) (M : Mem) (x1 : Int32) (r : Int32 × Mem) (hr : FX7_counts fu D w M x1 = some r) : CN l yX7_counts (ws_ yX7_counts cX7_counts 5 none) 38 1416 Γ D [.ref (gadr Γ (3, w, 0)), .int x1] M (foV r.1) r.2 := by
  refine CN.of (own := RX7) (lv0 := lv_args 0 [.ref (gadr Γ (3, w, 0)), .int x1]) (by decide +kernel) rfl (Nat.le_of_ble_eq_true rfl) rfl (fun X e1 e2 e3 e4 hC => ?_) r hr
  subst e1
  subst e2
  exact wX7_counts hC hG e4 fu w hw M x1
set_option linter.unusedVariables false in
set_option maxRecDepth 100000 in
theorem wX1_alike_109 {X : JX} (hC : JC X cX1_alike RX1 (some .int) 39 1440 0 0) (hG : dmI dmX (XG X)) (hnl : nLof X = 6) (fu : Nat) (kn27 : Mem × Int32 × Int32 × Int32 → Option (Int32 × Mem)) (hk27 : ∀ (M : Mem) (x1 x2 x3 : Int32), J X (ZN X foI) (kn27 (M, x1, x2, x3)) 27 [(0, .ref (gadr (XG X) (4, 0, 0))), (1, .int x1), (2, .int x2), (3, .int x3)] [] M 0 0) (M : Mem) (x2 x3 t0 t1 : Int32) : J X (ZN X foI) (FX1_alike_109 fu (XD X) kn27 M x2 x3 t0 t1) 109 [(0, .ref (gadr (XG X) (4, 0, 0))), (2, .int x2), (3, .int x3)] [.int t0, .int t1] M 0 0 := by
  unfold FX1_alike_109
  refine j_iadd hC dX1_alike_109 ?_
  refine j_ltT (fun y110 => ?_)
  refine j_istore_n hC [(1, .int y110), (0, .ref (gadr (XG X) (4, 0, 0))), (2, .int x2), (3, .int x3)] hnl dX1_alike_110 rfl rfl ?_
  refine j_iincL hC 3 (fun y111 => [(3, .int y111), (1, .int y110), (0, .ref (gadr (XG X) (4, 0, 0))), (2, .int x2)]) hnl dX1_alike_111 rfl (by decide) rfl (fun _ => rfl) (fun y111 => ?_)
  refine j_goto (tgt := 27) hC dX1_alike_114 (by decide) ?_
  exact j_sub [2, 1, 3, 0] rfl (hk27 M y110 x2 y111)
set_option linter.unusedVariables false in
set_option maxRecDepth 100000 in
theorem wX1_alike_89 {X : JX} (hC : JC X cX1_alike RX1 (some .int) 39 1440 0 0) (hG : dmI dmX (XG X)) (hnl : nLof X = 6) (fu : Nat) (kn52 : Mem × Int32 × Int32 × Int32 × Int32 × Int32 → Option (Int32 × Mem)) (hk52 : ∀ (M : Mem) (x1 x2 x3 x4 x5 : Int32), J X (ZN X foI) (kn52 (M, x1, x2, x3, x4, x5)) 52 [(0, .ref (gadr (XG X) (4, 0, 0))), (1, .int x1), (2, .int x2), (3, .int x3), (4, .int x4), (5, .int x5)] [] M 0 0) (M : Mem) (x1 x2 x3 x5 t0 t1 : Int32) : J X (ZN X foI) (FX1_alike_89 fu (XD X) kn52 M x1 x2 x3 x5 t0 t1) 89 [(0, .ref (gadr (XG X) (4, 0, 0))), (1, .int x1), (2, .int x2), (3, .int x3), (5, .int x5)] [.int t0, .int t1] M 0 0 := by
  unfold FX1_alike_89
  refine j_iand hC dX1_alike_89 ?_
  refine j_ltT (fun y90 => ?_)
  refine j_istore hC [(4, .int y90), (0, .ref (gadr (XG X) (4, 0, 0))), (1, .int x1), (2, .int x2), (3, .int x3), (5, .int x5)] hnl dX1_alike_90 rfl rfl ?_
  refine j_iincL hC 5 (fun y92 => [(5, .int y92), (4, .int y90), (0, .ref (gadr (XG X) (4, 0, 0))), (1, .int x1), (2, .int x2), (3, .int x3)]) hnl dX1_alike_92 rfl (by decide) rfl (fun _ => rfl) (fun y92 => ?_)
  refine j_goto (tgt := 52) hC dX1_alike_95 (by decide) ?_
  exact j_sub [2, 3, 4, 5, 1, 0] rfl (hk52 M x1 x2 x3 y90 y92)
set_option linter.unusedVariables false in
set_option maxRecDepth 100000 in
theorem wgX1_alike_52 {X : JX} (hC : JC X cX1_alike RX1 (some .int) 39 1440 0 0) (hG : dmI dmX (XG X)) (hnl : nLof X = 6) (fu : Nat) (kn52 : Mem × Int32 × Int32 × Int32 × Int32 × Int32 → Option (Int32 × Mem)) (hk52 : ∀ (M : Mem) (x1 x2 x3 x4 x5 : Int32), J X (ZN X foI) (kn52 (M, x1, x2, x3, x4, x5)) 52 [(0, .ref (gadr (XG X) (4, 0, 0))), (1, .int x1), (2, .int x2), (3, .int x3), (4, .int x4), (5, .int x5)] [] M 0 0) (kn27 : Mem × Int32 × Int32 × Int32 → Option (Int32 × Mem)) (hk27 : ∀ (M : Mem) (x1 x2 x3 : Int32), J X (ZN X foI) (kn27 (M, x1, x2, x3)) 27 [(0, .ref (gadr (XG X) (4, 0, 0))), (1, .int x1), (2, .int x2), (3, .int x3)] [] M 0 0) (M : Mem) (x1 x2 x3 x4 x5 : Int32) : J X (ZN X foI) (GX1_alike_52 fu (XD X) kn52 kn27 M x1 x2 x3 x4 x5) 52 [(0, .ref (gadr (XG X) (4, 0, 0))), (1, .int x1), (2, .int x2), (3, .int x3), (4, .int x4), (5, .int x5)] [] M 0 0 := by
  unfold GX1_alike_52
  refine j_iload hC 5 dX1_alike_52 rfl ?_
  refine j_bipush (v := 8) hC dX1_alike_54 (by decide) ?_
  refine j_icmp_gt (tgt := 98) hC dX1_alike_56 (by decide) (fun h56 => ?_) (fun h56 => ?_)
  · refine j_iload_n hC 1 dX1_alike_98 rfl ?_
    refine j_iload hC 4 dX1_alike_99 rfl ?_
    refine j_if_eq (tgt := 108) hC dX1_alike_101 (by decide) (fun h101 => ?_) (fun h101 => ?_)
    · refine j_iconst (v := 0) hC dX1_alike_108 (by decide) ?_
      exact j_sub [0, 2, 3] rfl (wX1_alike_109 hC hG hnl fu kn27 hk27 M x2 x3 0 x1)
    · refine j_iconst (v := 1) hC dX1_alike_104 (by decide) ?_
      refine j_goto (tgt := 109) hC dX1_alike_105 (by decide) ?_
      exact j_sub [0, 2, 3] rfl (wX1_alike_109 hC hG hnl fu kn27 hk27 M x2 x3 1 x1)
  · refine j_iload hC 4 dX1_alike_59 rfl ?_
    refine j_aload_n hC 0 dX1_alike_61 rfl ?_
    refine j_getR (fk := 4) hC (dmY hG rfl) rfl rfl in_X1 rfl rfl q500 rfl dX1_alike_62 ?_
    refine j_getNR (fk := 0) hC (dmW hG (by decide) rfl) rfl rfl in_X7 rfl rfl q466 rfl dX1_alike_65 ?_
    refine j_iload hC 5 dX1_alike_68 rfl ?_
    refine j_iald hC (dmW hG (by decide) rfl) rfl dX1_alike_70 (fun h70 => ?_)
    refine j_aload_n hC 0 dX1_alike_71 rfl ?_
    refine j_getR (fk := 5) hC (dmY hG rfl) rfl rfl in_X1 rfl rfl q501 rfl dX1_alike_72 ?_
    refine j_getNR (fk := 0) hC (dmW hG (by decide) rfl) rfl rfl in_X7 rfl rfl q466 rfl dX1_alike_75 ?_
    refine j_iload hC 5 dX1_alike_78 rfl ?_
    refine j_iald hC (dmW hG (by decide) rfl) rfl dX1_alike_80 (fun h80 => ?_)
    refine j_icmp_ne (tgt := 88) hC dX1_alike_81 (by decide) (fun h81 => ?_) (fun h81 => ?_)
    · refine j_iconst (v := 1) hC dX1_alike_84 (by decide) ?_
      refine j_goto (tgt := 89) hC dX1_alike_85 (by decide) ?_
      exact j_sub [0, 1, 2, 3, 5] rfl (wX1_alike_89 hC hG hnl fu kn52 hk52 M x1 x2 x3 x5 1 x4)
    · refine j_iconst (v := 0) hC dX1_alike_88 (by decide) ?_
      exact j_sub [0, 1, 2, 3, 5] rfl (wX1_alike_89 hC hG hnl fu kn52 hk52 M x1 x2 x3 x5 0 x4)
set_option linter.unusedVariables false in
set_option maxRecDepth 100000 in
theorem wX1_alike_52 {X : JX} (hC : JC X cX1_alike RX1 (some .int) 39 1440 0 0) (hG : dmI dmX (XG X)) (hnl : nLof X = 6) (fu : Nat) (kn27 : Mem × Int32 × Int32 × Int32 → Option (Int32 × Mem)) (hk27 : ∀ (M : Mem) (x1 x2 x3 : Int32), J X (ZN X foI) (kn27 (M, x1, x2, x3)) 27 [(0, .ref (gadr (XG X) (4, 0, 0))), (1, .int x1), (2, .int x2), (3, .int x3)] [] M 0 0) (M : Mem) (x1 x2 x3 x4 x5 : Int32) : J X (ZN X foI) (FX1_alike_52 fu (XD X) kn27 M x1 x2 x3 x4 x5) 52 [(0, .ref (gadr (XG X) (4, 0, 0))), (1, .int x1), (2, .int x2), (3, .int x3), (4, .int x4), (5, .int x5)] [] M 0 0 := by
  exact j_lp (lvf := fun z => [(0, .ref (gadr (XG X) (4, 0, 0))), (1, .int (z.2.1)), (2, .int (z.2.2.1)), (3, .int (z.2.2.2.1)), (4, .int (z.2.2.2.2.1)), (5, .int (z.2.2.2.2.2))]) (Mf := fun z => z.1) (fun kn hk z => wgX1_alike_52 hC hG hnl fu kn (fun M x1 x2 x3 x4 x5 => hk (M, x1, x2, x3, x4, x5)) kn27 hk27 z.1 z.2.1 z.2.2.1 z.2.2.2.1 z.2.2.2.2.1 z.2.2.2.2.2) fu (M, x1, x2, x3, x4, x5)
set_option linter.unusedVariables false in
set_option maxRecDepth 100000 in
theorem wgX1_alike_27 {X : JX} (hC : JC X cX1_alike RX1 (some .int) 39 1440 0 0) (hG : dmI dmX (XG X)) (hnl : nLof X = 6) (fu : Nat) (kn27 : Mem × Int32 × Int32 × Int32 → Option (Int32 × Mem)) (hk27 : ∀ (M : Mem) (x1 x2 x3 : Int32), J X (ZN X foI) (kn27 (M, x1, x2, x3)) 27 [(0, .ref (gadr (XG X) (4, 0, 0))), (1, .int x1), (2, .int x2), (3, .int x3)] [] M 0 0) (kn4 : Mem × Int32 × Int32 → Option (Int32 × Mem)) (hk4 : ∀ (M : Mem) (x1 x2 : Int32), J X (ZN X foI) (kn4 (M, x1, x2)) 4 [(0, .ref (gadr (XG X) (4, 0, 0))), (1, .int x1), (2, .int x2)] [] M 0 0) (M : Mem) (x1 x2 x3 : Int32) : J X (ZN X foI) (GX1_alike_27 fu (XD X) kn27 kn4 M x1 x2 x3) 27 [(0, .ref (gadr (XG X) (4, 0, 0))), (1, .int x1), (2, .int x2), (3, .int x3)] [] M 0 0 := by
  unfold GX1_alike_27
  refine j_iload_n hC 3 dX1_alike_27 rfl ?_
  refine j_aload_n hC 0 dX1_alike_28 rfl ?_
  refine j_getR (fk := 1) hC (dmY hG rfl) rfl rfl in_X1 rfl rfl q496 rfl dX1_alike_29 ?_
  refine j_getNI (fk := 7) hC (dmS hG (by decide) rfl) rfl rfl in_X3 rfl rfl q273 rfl dX1_alike_32 ?_
  refine j_icmp_ge (tgt := 117) hC dX1_alike_35 (by decide) (fun h35 => ?_) (fun h35 => ?_)
  · refine j_iincL hC 2 (fun y117 => [(2, .int y117), (0, .ref (gadr (XG X) (4, 0, 0))), (1, .int x1), (3, .int x3)]) hnl dX1_alike_117 rfl (by decide) rfl (fun _ => rfl) (fun y117 => ?_)
    refine j_goto (tgt := 4) hC dX1_alike_120 (by decide) ?_
    exact j_sub [1, 2, 0] rfl (hk4 M x1 y117)
  · refine j_aload_n hC 0 dX1_alike_38 rfl ?_
    refine j_getR (fk := 5) hC (dmY hG rfl) rfl rfl in_X1 rfl rfl q501 rfl dX1_alike_39 ?_
    refine j_iload_n hC 3 dX1_alike_42 rfl ?_
    refine j_callV (nA := 1) (rest := []) hC [.int x3] rfl (fun r hr => mX7_counts (XL X) (XG X) hG fu (XD X) 1 (by decide) M x3 r hr) q569 q570 q571 q135 q572 (dmW hG (by decide) rfl) rfl rfl (by decide +kernel) rfl rfl rfl rfl rfl rfl dX1_alike_43 (fun _ => []) (fun _ => rfl) (fun v43 M43 => ?_)
    refine j_iconst (v := 1) hC dX1_alike_46 (by decide) ?_
    refine j_istore hC [(4, .int 1), (0, .ref (gadr (XG X) (4, 0, 0))), (1, .int x1), (2, .int x2), (3, .int x3)] hnl dX1_alike_47 rfl rfl ?_
    refine j_iconst (v := 1) hC dX1_alike_49 (by decide) ?_
    refine j_istore hC [(5, .int 1), (4, .int 1), (0, .ref (gadr (XG X) (4, 0, 0))), (1, .int x1), (2, .int x2), (3, .int x3)] hnl dX1_alike_50 rfl rfl ?_
    exact j_sub [2, 3, 4, 5, 1, 0] rfl (wX1_alike_52 hC hG hnl fu kn27 hk27 M43 x1 x2 x3 1 1)
set_option linter.unusedVariables false in
set_option maxRecDepth 100000 in
theorem wX1_alike_27 {X : JX} (hC : JC X cX1_alike RX1 (some .int) 39 1440 0 0) (hG : dmI dmX (XG X)) (hnl : nLof X = 6) (fu : Nat) (kn4 : Mem × Int32 × Int32 → Option (Int32 × Mem)) (hk4 : ∀ (M : Mem) (x1 x2 : Int32), J X (ZN X foI) (kn4 (M, x1, x2)) 4 [(0, .ref (gadr (XG X) (4, 0, 0))), (1, .int x1), (2, .int x2)] [] M 0 0) (M : Mem) (x1 x2 x3 : Int32) : J X (ZN X foI) (FX1_alike_27 fu (XD X) kn4 M x1 x2 x3) 27 [(0, .ref (gadr (XG X) (4, 0, 0))), (1, .int x1), (2, .int x2), (3, .int x3)] [] M 0 0 := by
  exact j_lp (lvf := fun z => [(0, .ref (gadr (XG X) (4, 0, 0))), (1, .int (z.2.1)), (2, .int (z.2.2.1)), (3, .int (z.2.2.2))]) (Mf := fun z => z.1) (fun kn hk z => wgX1_alike_27 hC hG hnl fu kn (fun M x1 x2 x3 => hk (M, x1, x2, x3)) kn4 hk4 z.1 z.2.1 z.2.2.1 z.2.2.2) fu (M, x1, x2, x3)
set_option linter.unusedVariables false in
set_option maxRecDepth 100000 in
theorem wgX1_alike_4 {X : JX} (hC : JC X cX1_alike RX1 (some .int) 39 1440 0 0) (hG : dmI dmX (XG X)) (hnl : nLof X = 6) (fu : Nat) (kn4 : Mem × Int32 × Int32 → Option (Int32 × Mem)) (hk4 : ∀ (M : Mem) (x1 x2 : Int32), J X (ZN X foI) (kn4 (M, x1, x2)) 4 [(0, .ref (gadr (XG X) (4, 0, 0))), (1, .int x1), (2, .int x2)] [] M 0 0) (M : Mem) (x1 x2 : Int32) : J X (ZN X foI) (GX1_alike_4 fu (XD X) kn4 M x1 x2) 4 [(0, .ref (gadr (XG X) (4, 0, 0))), (1, .int x1), (2, .int x2)] [] M 0 0 := by
  unfold GX1_alike_4
  refine j_iload_n hC 2 dX1_alike_4 rfl ?_
  refine j_aload_n hC 0 dX1_alike_5 rfl ?_
  refine j_getR (fk := 1) hC (dmY hG rfl) rfl rfl in_X1 rfl rfl q496 rfl dX1_alike_6 ?_
  refine j_getNI (fk := 7) hC (dmS hG (by decide) rfl) rfl rfl in_X3 rfl rfl q273 rfl dX1_alike_9 ?_
  refine j_icmp_ge (tgt := 123) hC dX1_alike_12 (by decide) (fun h12 => ?_) (fun h12 => ?_)
  · refine j_iload_n hC 1 dX1_alike_123 rfl ?_
    exact j_iret hC dX1_alike_124
  · refine j_aload_n hC 0 dX1_alike_15 rfl ?_
    refine j_getR (fk := 4) hC (dmY hG rfl) rfl rfl in_X1 rfl rfl q500 rfl dX1_alike_16 ?_
    refine j_iload_n hC 2 dX1_alike_19 rfl ?_
    refine j_callV (nA := 1) (rest := []) hC [.int x2] rfl (fun r hr => mX7_counts (XL X) (XG X) hG fu (XD X) 0 (by decide) M x2 r hr) q569 q570 q571 q135 q572 (dmW hG (by decide) rfl) rfl rfl (by decide +kernel) rfl rfl rfl rfl rfl rfl dX1_alike_20 (fun _ => []) (fun _ => rfl) (fun v20 M20 => ?_)
    refine j_iload_n hC 2 dX1_alike_23 rfl ?_
    refine j_iconst (v := 1) hC dX1_alike_24 (by decide) ?_
    refine j_iadd hC dX1_alike_25 ?_
    refine j_ltT (fun y26 => ?_)
    refine j_istore_n hC [(3, .int y26), (0, .ref (gadr (XG X) (4, 0, 0))), (1, .int x1), (2, .int x2)] hnl dX1_alike_26 rfl rfl ?_
    exact j_sub [1, 2, 3, 0] rfl (wX1_alike_27 hC hG hnl fu kn4 hk4 M20 x1 x2 y26)
set_option linter.unusedVariables false in
set_option maxRecDepth 100000 in
theorem wX1_alike_4 {X : JX} (hC : JC X cX1_alike RX1 (some .int) 39 1440 0 0) (hG : dmI dmX (XG X)) (hnl : nLof X = 6) (fu : Nat) (M : Mem) (x1 x2 : Int32) : J X (ZN X foI) (FX1_alike_4 fu (XD X) M x1 x2) 4 [(0, .ref (gadr (XG X) (4, 0, 0))), (1, .int x1), (2, .int x2)] [] M 0 0 := by
  exact j_lp (lvf := fun z => [(0, .ref (gadr (XG X) (4, 0, 0))), (1, .int (z.2.1)), (2, .int (z.2.2))]) (Mf := fun z => z.1) (fun kn hk z => wgX1_alike_4 hC hG hnl fu kn (fun M x1 x2 => hk (M, x1, x2)) z.1 z.2.1 z.2.2) fu (M, x1, x2)
set_option linter.unusedVariables false in
set_option maxRecDepth 100000 in
theorem wX1_alike {X : JX} (hC : JC X cX1_alike RX1 (some .int) 39 1440 0 0) (hG : dmI dmX (XG X)) (hnl : nLof X = 6) (fu : Nat) (M : Mem) : J X (ZN X foI) (FX1_alike fu (XD X) M) 0 [(0, .ref (gadr (XG X) (4, 0, 0)))] [] M 0 0 := by
  unfold FX1_alike
  refine j_iconst (v := 0) hC dX1_alike_0 (by decide) ?_
  refine j_istore_n hC [(1, .int 0), (0, .ref (gadr (XG X) (4, 0, 0)))] hnl dX1_alike_1 rfl rfl ?_
  refine j_iconst (v := 0) hC dX1_alike_2 (by decide) ?_
  refine j_istore_n hC [(2, .int 0), (1, .int 0), (0, .ref (gadr (XG X) (4, 0, 0)))] hnl dX1_alike_3 rfl rfl ?_
  exact j_sub [2, 1, 0] rfl (wX1_alike_4 hC hG hnl fu M 0 0)
set_option linter.unusedVariables false in
set_option maxRecDepth 100000 in
theorem mX1_alike (l : Launch) (Γ : xG) (hG : dmI dmX Γ) (fu : Nat) (D : List LDen) (M : Mem) (r : Int32 × Mem) (hr : FX1_alike fu D M = some r) : CN l yX1_alike (ws_ yX1_alike cX1_alike 6 (some .int)) 39 1440 Γ D [.ref (gadr Γ (4, 0, 0))] M (foI r.1) r.2 := by
  refine CN.of (own := RX1) (lv0 := lv_args 0 [.ref (gadr Γ (4, 0, 0))]) (by decide +kernel) rfl (Nat.le_of_ble_eq_true rfl) rfl (fun X e1 e2 e3 e4 hC => ?_) r hr
  subst e1
  subst e2
  exact wX1_alike hC hG e4 fu M
set_option linter.unusedVariables false in
set_option maxRecDepth 100000 in
theorem wgX1_feathers_4 {X : JX} (hC : JC X cX1_feathers RX1 (some .int) 2 34 0 0) (hG : dmI dmX (XG X)) (hnl : nLof X = 4) (fu : Nat) (kn4 : Mem × Int32 × Int32 × Int32 → Option (Int32 × Mem)) (hk4 : ∀ (M : Mem) (x1 x2 x3 : Int32), J X (ZN X foI) (kn4 (M, x1, x2, x3)) 4 [(0, .ref (gadr (XG X) (4, 0, 0))), (1, .int x1), (2, .int x2), (3, .int x3)] [] M 0 0) (M : Mem) (x1 x2 x3 : Int32) : J X (ZN X foI) (GX1_feathers_4 fu (XD X) kn4 M x1 x2 x3) 4 [(0, .ref (gadr (XG X) (4, 0, 0))), (1, .int x1), (2, .int x2), (3, .int x3)] [] M 0 0 := by
  unfold GX1_feathers_4
  refine j_iload_n hC 3 dX1_feathers_4 rfl ?_
  refine j_aload_n hC 0 dX1_feathers_5 rfl ?_
  refine j_getR (fk := 1) hC (dmY hG rfl) rfl rfl in_X1 rfl rfl q496 rfl dX1_feathers_6 ?_
  refine j_getNI (fk := 7) hC (dmS hG (by decide) rfl) rfl rfl in_X3 rfl rfl q273 rfl dX1_feathers_9 ?_
  refine j_icmp_ge (tgt := 33) hC dX1_feathers_12 (by decide) (fun h12 => ?_) (fun h12 => ?_)
  · refine j_iload_n hC 2 dX1_feathers_33 rfl ?_
    exact j_iret hC dX1_feathers_34
  · refine j_iload_n hC 2 dX1_feathers_15 rfl ?_
    refine j_aload_n hC 0 dX1_feathers_16 rfl ?_
    refine j_getR (fk := 1) hC (dmY hG rfl) rfl rfl in_X1 rfl rfl q496 rfl dX1_feathers_17 ?_
    refine j_iload_n hC 1 dX1_feathers_20 rfl ?_
    refine j_iload_n hC 3 dX1_feathers_21 rfl ?_
    refine j_callV (nA := 2) (rest := [.int x2]) hC [.int x1, .int x3] rfl (fun r hr => mX3_stock (XL X) (XG X) hG fu (XD X) 0 (by decide) M x1 x3 r hr) q676 q677 q678 q128 q679 (dmS hG (by decide) rfl) rfl rfl (by decide +kernel) rfl rfl rfl rfl rfl rfl dX1_feathers_22 (fun v22 => [.int v22, .int x2]) (fun _ => rfl) (fun v22 M22 => ?_)
    refine j_iadd hC dX1_feathers_25 ?_
    refine j_ltT (fun y26 => ?_)
    refine j_istore_n hC [(2, .int y26), (0, .ref (gadr (XG X) (4, 0, 0))), (1, .int x1), (3, .int x3)] hnl dX1_feathers_26 rfl rfl ?_
    refine j_iincL hC 3 (fun y27 => [(3, .int y27), (2, .int y26), (0, .ref (gadr (XG X) (4, 0, 0))), (1, .int x1)]) hnl dX1_feathers_27 rfl (by decide) rfl (fun _ => rfl) (fun y27 => ?_)
    refine j_goto (tgt := 4) hC dX1_feathers_30 (by decide) ?_
    exact j_sub [2, 3, 1, 0] rfl (hk4 M22 x1 y26 y27)
set_option linter.unusedVariables false in
set_option maxRecDepth 100000 in
theorem wX1_feathers_4 {X : JX} (hC : JC X cX1_feathers RX1 (some .int) 2 34 0 0) (hG : dmI dmX (XG X)) (hnl : nLof X = 4) (fu : Nat) (M : Mem) (x1 x2 x3 : Int32) : J X (ZN X foI) (FX1_feathers_4 fu (XD X) M x1 x2 x3) 4 [(0, .ref (gadr (XG X) (4, 0, 0))), (1, .int x1), (2, .int x2), (3, .int x3)] [] M 0 0 := by
  exact j_lp (lvf := fun z => [(0, .ref (gadr (XG X) (4, 0, 0))), (1, .int (z.2.1)), (2, .int (z.2.2.1)), (3, .int (z.2.2.2))]) (Mf := fun z => z.1) (fun kn hk z => wgX1_feathers_4 hC hG hnl fu kn (fun M x1 x2 x3 => hk (M, x1, x2, x3)) z.1 z.2.1 z.2.2.1 z.2.2.2) fu (M, x1, x2, x3)
set_option linter.unusedVariables false in
set_option maxRecDepth 100000 in
theorem wX1_feathers {X : JX} (hC : JC X cX1_feathers RX1 (some .int) 2 34 0 0) (hG : dmI dmX (XG X)) (hnl : nLof X = 4) (fu : Nat) (M : Mem) (x1 : Int32) : J X (ZN X foI) (FX1_feathers fu (XD X) M x1) 0 [(0, .ref (gadr (XG X) (4, 0, 0))), (1, .int x1)] [] M 0 0 := by
  unfold FX1_feathers
  refine j_iconst (v := 0) hC dX1_feathers_0 (by decide) ?_
  refine j_istore_n hC [(2, .int 0), (0, .ref (gadr (XG X) (4, 0, 0))), (1, .int x1)] hnl dX1_feathers_1 rfl rfl ?_
  refine j_iconst (v := 0) hC dX1_feathers_2 (by decide) ?_
  refine j_istore_n hC [(3, .int 0), (2, .int 0), (0, .ref (gadr (XG X) (4, 0, 0))), (1, .int x1)] hnl dX1_feathers_3 rfl rfl ?_
  exact j_sub [2, 3, 1, 0] rfl (wX1_feathers_4 hC hG hnl fu M x1 0 0)
set_option linter.unusedVariables false in
set_option maxRecDepth 100000 in
theorem mX1_feathers (l : Launch) (Γ : xG) (hG : dmI dmX Γ) (fu : Nat) (D : List LDen) (M : Mem) (x1 : Int32) (r : Int32 × Mem) (hr : FX1_feathers fu D M x1 = some r) : CN l yX1_feathers (ws_ yX1_feathers cX1_feathers 4 (some .int)) 2 34 Γ D [.ref (gadr Γ (4, 0, 0)), .int x1] M (foI r.1) r.2 := by
  refine CN.of (own := RX1) (lv0 := lv_args 0 [.ref (gadr Γ (4, 0, 0)), .int x1]) (by decide +kernel) rfl (Nat.le_of_ble_eq_true rfl) rfl (fun X e1 e2 e3 e4 hC => ?_) r hr
  subst e1
  subst e2
  exact wX1_feathers hC hG e4 fu M x1
set_option linter.unusedVariables false in
set_option maxRecDepth 100000 in
theorem wX1_rich_35 {X : JX} (hC : JC X cX1_rich RX1 (some .int) 3 57 0 0) (hG : dmI dmX (XG X)) (hnl : nLof X = 3) (fu : Nat) (kn4 : Mem × Int32 × Int32 → Option (Int32 × Mem)) (hk4 : ∀ (M : Mem) (x1 x2 : Int32), J X (ZN X foI) (kn4 (M, x1, x2)) 4 [(0, .ref (gadr (XG X) (4, 0, 0))), (1, .int x1), (2, .int x2)] [] M 0 0) (M : Mem) (x1 x2 : Int32) : J X (ZN X foI) (FX1_rich_35 fu (XD X) kn4 M x1 x2) 35 [(0, .ref (gadr (XG X) (4, 0, 0))), (1, .int x1), (2, .int x2)] [] M 0 0 := by
  unfold FX1_rich_35
  refine j_iincL hC 2 (fun y35 => [(2, .int y35), (0, .ref (gadr (XG X) (4, 0, 0))), (1, .int x1)]) hnl dX1_rich_35 rfl (by decide) rfl (fun _ => rfl) (fun y35 => ?_)
  refine j_goto (tgt := 4) hC dX1_rich_38 (by decide) ?_
  exact j_sub [1, 2, 0] rfl (hk4 M x1 y35)
set_option linter.unusedVariables false in
set_option maxRecDepth 100000 in
theorem wX1_rich_33 {X : JX} (hC : JC X cX1_rich RX1 (some .int) 3 57 0 0) (hG : dmI dmX (XG X)) (hnl : nLof X = 3) (fu : Nat) (kn4 : Mem × Int32 × Int32 → Option (Int32 × Mem)) (hk4 : ∀ (M : Mem) (x1 x2 : Int32), J X (ZN X foI) (kn4 (M, x1, x2)) 4 [(0, .ref (gadr (XG X) (4, 0, 0))), (1, .int x1), (2, .int x2)] [] M 0 0) (M : Mem) (x2 : Int32) : J X (ZN X foI) (FX1_rich_33 fu (XD X) kn4 M x2) 33 [(0, .ref (gadr (XG X) (4, 0, 0))), (2, .int x2)] [] M 0 0 := by
  unfold FX1_rich_33
  refine j_iload_n hC 1 dX1_rich_33 rfl ?_
  refine j_istore_n hC [(1, .int x2), (0, .ref (gadr (XG X) (4, 0, 0))), (2, .int x2)] hnl dX1_rich_34 rfl rfl ?_
  exact j_sub [1, 0, 2] rfl (wX1_rich_35 hC hG hnl fu kn4 hk4 M x2 x2)
set_option linter.unusedVariables false in
set_option maxRecDepth 100000 in
theorem wgX1_rich_4 {X : JX} (hC : JC X cX1_rich RX1 (some .int) 3 57 0 0) (hG : dmI dmX (XG X)) (hnl : nLof X = 3) (fu : Nat) (kn4 : Mem × Int32 × Int32 → Option (Int32 × Mem)) (hk4 : ∀ (M : Mem) (x1 x2 : Int32), J X (ZN X foI) (kn4 (M, x1, x2)) 4 [(0, .ref (gadr (XG X) (4, 0, 0))), (1, .int x1), (2, .int x2)] [] M 0 0) (M : Mem) (x1 x2 : Int32) : J X (ZN X foI) (GX1_rich_4 fu (XD X) kn4 M x1 x2) 4 [(0, .ref (gadr (XG X) (4, 0, 0))), (1, .int x1), (2, .int x2)] [] M 0 0 := by
  unfold GX1_rich_4
  refine j_iload_n hC 2 dX1_rich_4 rfl ?_
  refine j_aload_n hC 0 dX1_rich_5 rfl ?_
  refine j_getR (fk := 1) hC (dmY hG rfl) rfl rfl in_X1 rfl rfl q496 rfl dX1_rich_6 ?_
  refine j_getNI (fk := 8) hC (dmS hG (by decide) rfl) rfl rfl in_X3 rfl rfl q276 rfl dX1_rich_9 ?_
  refine j_icmp_ge (tgt := 41) hC dX1_rich_12 (by decide) (fun h12 => ?_) (fun h12 => ?_)
  · refine j_iload_n hC 1 dX1_rich_41 rfl ?_
    exact j_iret hC dX1_rich_42
  · refine j_iload_n hC 1 dX1_rich_15 rfl ?_
    refine j_iconst (v := (-1)) hC dX1_rich_16 (by decide) ?_
    refine j_icmp_eq (tgt := 33) hC dX1_rich_17 (by decide) (fun h17 => ?_) (fun h17 => ?_)
    · exact j_sub [0, 2] rfl (wX1_rich_33 hC hG hnl fu kn4 hk4 M x2)
    · refine j_aload_n hC 0 dX1_rich_20 rfl ?_
      refine j_iload_n hC 2 dX1_rich_21 rfl ?_
      refine j_callV (nA := 1) (rest := []) hC [.int x2] rfl (fun r hr => mX1_feathers (XL X) (XG X) hG fu (XD X) M x2 r hr) q672 q674 qs5 q126 q675 (dmY hG rfl) rfl rfl (by decide +kernel) rfl rfl rfl rfl rfl rfl dX1_rich_22 (fun v22 => [.int v22]) (fun _ => rfl) (fun v22 M22 => ?_)
      refine j_aload_n hC 0 dX1_rich_25 rfl ?_
      refine j_iload_n hC 1 dX1_rich_26 rfl ?_
      refine j_callV (nA := 1) (rest := [.int v22]) hC [.int x1] rfl (fun r hr => mX1_feathers (XL X) (XG X) hG fu (XD X) M22 x1 r hr) q672 q674 qs5 q126 q675 (dmY hG rfl) rfl rfl (by decide +kernel) rfl rfl rfl rfl rfl rfl dX1_rich_27 (fun v27 => [.int v27, .int v22]) (fun _ => rfl) (fun v27 M27 => ?_)
      refine j_icmp_le (tgt := 35) hC dX1_rich_30 (by decide) (fun h30 => ?_) (fun h30 => ?_)
      · exact j_sub [0, 1, 2] rfl (wX1_rich_35 hC hG hnl fu kn4 hk4 M27 x1 x2)
      · exact j_sub [0, 2] rfl (wX1_rich_33 hC hG hnl fu kn4 hk4 M27 x2)
set_option linter.unusedVariables false in
set_option maxRecDepth 100000 in
theorem wX1_rich_4 {X : JX} (hC : JC X cX1_rich RX1 (some .int) 3 57 0 0) (hG : dmI dmX (XG X)) (hnl : nLof X = 3) (fu : Nat) (M : Mem) (x1 x2 : Int32) : J X (ZN X foI) (FX1_rich_4 fu (XD X) M x1 x2) 4 [(0, .ref (gadr (XG X) (4, 0, 0))), (1, .int x1), (2, .int x2)] [] M 0 0 := by
  exact j_lp (lvf := fun z => [(0, .ref (gadr (XG X) (4, 0, 0))), (1, .int (z.2.1)), (2, .int (z.2.2))]) (Mf := fun z => z.1) (fun kn hk z => wgX1_rich_4 hC hG hnl fu kn (fun M x1 x2 => hk (M, x1, x2)) z.1 z.2.1 z.2.2) fu (M, x1, x2)
set_option linter.unusedVariables false in
set_option maxRecDepth 100000 in
theorem wX1_rich {X : JX} (hC : JC X cX1_rich RX1 (some .int) 3 57 0 0) (hG : dmI dmX (XG X)) (hnl : nLof X = 3) (fu : Nat) (M : Mem) : J X (ZN X foI) (FX1_rich fu (XD X) M) 0 [(0, .ref (gadr (XG X) (4, 0, 0)))] [] M 0 0 := by
  unfold FX1_rich
  refine j_iconst (v := (-1)) hC dX1_rich_0 (by decide) ?_
  refine j_istore_n hC [(1, .int ((-1))), (0, .ref (gadr (XG X) (4, 0, 0)))] hnl dX1_rich_1 rfl rfl ?_
  refine j_iconst (v := 0) hC dX1_rich_2 (by decide) ?_
  refine j_istore_n hC [(2, .int 0), (1, .int ((-1))), (0, .ref (gadr (XG X) (4, 0, 0)))] hnl dX1_rich_3 rfl rfl ?_
  exact j_sub [2, 1, 0] rfl (wX1_rich_4 hC hG hnl fu M (-1) 0)
set_option linter.unusedVariables false in
set_option maxRecDepth 100000 in
theorem mX1_rich (l : Launch) (Γ : xG) (hG : dmI dmX Γ) (fu : Nat) (D : List LDen) (M : Mem) (r : Int32 × Mem) (hr : FX1_rich fu D M = some r) : CN l yX1_rich (ws_ yX1_rich cX1_rich 3 (some .int)) 3 57 Γ D [.ref (gadr Γ (4, 0, 0))] M (foI r.1) r.2 := by
  refine CN.of (own := RX1) (lv0 := lv_args 0 [.ref (gadr Γ (4, 0, 0))]) (by decide +kernel) rfl (Nat.le_of_ble_eq_true rfl) rfl (fun X e1 e2 e3 e4 hC => ?_) r hr
  subst e1
  subst e2
  exact wX1_rich hC hG e4 fu M
set_option linter.unusedVariables false in
set_option maxRecDepth 100000 in
theorem wX1_cover_113 {X : JX} (hC : JC X cX1_cover RX1 (some .int) 2 32 0 0) (hG : dmI dmX (XG X)) (hnl : nLof X = 5) (fu : Nat) (kn4 : Mem × Int32 × Int32 → Option (Int32 × Mem)) (hk4 : ∀ (M : Mem) (x1 x2 : Int32), J X (ZN X foI) (kn4 (M, x1, x2)) 4 [(0, .ref (gadr (XG X) (4, 0, 0))), (1, .int x1), (2, .int x2)] [] M 0 0) (M : Mem) (x2 t0 : Int32) : J X (ZN X foI) (FX1_cover_113 fu (XD X) kn4 M x2 t0) 113 [(0, .ref (gadr (XG X) (4, 0, 0))), (2, .int x2)] [.int t0] M 0 0 := by
  unfold FX1_cover_113
  refine j_istore_n hC [(1, .int t0), (0, .ref (gadr (XG X) (4, 0, 0))), (2, .int x2)] hnl dX1_cover_113 rfl rfl ?_
  refine j_iincL hC 2 (fun y114 => [(2, .int y114), (1, .int t0), (0, .ref (gadr (XG X) (4, 0, 0)))]) hnl dX1_cover_114 rfl (by decide) rfl (fun _ => rfl) (fun y114 => ?_)
  refine j_goto (tgt := 4) hC dX1_cover_117 (by decide) ?_
  exact j_sub [2, 1, 0] rfl (hk4 M t0 y114)
set_option linter.unusedVariables false in
set_option maxRecDepth 100000 in
theorem wX1_cover_104 {X : JX} (hC : JC X cX1_cover RX1 (some .int) 2 32 0 0) (hG : dmI dmX (XG X)) (hnl : nLof X = 5) (fu : Nat) (kn4 : Mem × Int32 × Int32 → Option (Int32 × Mem)) (hk4 : ∀ (M : Mem) (x1 x2 : Int32), J X (ZN X foI) (kn4 (M, x1, x2)) 4 [(0, .ref (gadr (XG X) (4, 0, 0))), (1, .int x1), (2, .int x2)] [] M 0 0) (M : Mem) (x1 x2 x3 : Int32) : J X (ZN X foI) (FX1_cover_104 fu (XD X) kn4 M x1 x2 x3) 104 [(0, .ref (gadr (XG X) (4, 0, 0))), (1, .int x1), (2, .int x2), (3, .int x3)] [] M 0 0 := by
  unfold FX1_cover_104
  refine j_iload_n hC 3 dX1_cover_104 rfl ?_
  refine j_if_eq (tgt := 112) hC dX1_cover_105 (by decide) (fun h105 => ?_) (fun h105 => ?_)
  · refine j_iload_n hC 1 dX1_cover_112 rfl ?_
    exact j_sub [0, 2] rfl (wX1_cover_113 hC hG hnl fu kn4 hk4 M x2 x1)
  · refine j_iload_n hC 2 dX1_cover_108 rfl ?_
    refine j_goto (tgt := 113) hC dX1_cover_109 (by decide) ?_
    exact j_sub [0, 2] rfl (wX1_cover_113 hC hG hnl fu kn4 hk4 M x2 x2)
set_option linter.unusedVariables false in
set_option maxRecDepth 100000 in
theorem wX1_cover_97 {X : JX} (hC : JC X cX1_cover RX1 (some .int) 2 32 0 0) (hG : dmI dmX (XG X)) (hnl : nLof X = 5) (fu : Nat) (kn42 : Mem × Int32 × Int32 × Int32 × Int32 → Option (Int32 × Mem)) (hk42 : ∀ (M : Mem) (x1 x2 x3 x4 : Int32), J X (ZN X foI) (kn42 (M, x1, x2, x3, x4)) 42 [(0, .ref (gadr (XG X) (4, 0, 0))), (1, .int x1), (2, .int x2), (3, .int x3), (4, .int x4)] [] M 0 0) (M : Mem) (x1 x2 x4 t0 : Int32) : J X (ZN X foI) (FX1_cover_97 fu (XD X) kn42 M x1 x2 x4 t0) 97 [(0, .ref (gadr (XG X) (4, 0, 0))), (1, .int x1), (2, .int x2), (4, .int x4)] [.int t0] M 0 0 := by
  unfold FX1_cover_97
  refine j_istore_n hC [(3, .int t0), (0, .ref (gadr (XG X) (4, 0, 0))), (1, .int x1), (2, .int x2), (4, .int x4)] hnl dX1_cover_97 rfl rfl ?_
  refine j_iincL hC 4 (fun y98 => [(4, .int y98), (3, .int t0), (0, .ref (gadr (XG X) (4, 0, 0))), (1, .int x1), (2, .int x2)]) hnl dX1_cover_98 rfl (by decide) rfl (fun _ => rfl) (fun y98 => ?_)
  refine j_goto (tgt := 42) hC dX1_cover_101 (by decide) ?_
  exact j_sub [2, 3, 4, 1, 0] rfl (hk42 M x1 x2 t0 y98)
set_option linter.unusedVariables false in
set_option maxRecDepth 100000 in
theorem wX1_cover_92 {X : JX} (hC : JC X cX1_cover RX1 (some .int) 2 32 0 0) (hG : dmI dmX (XG X)) (hnl : nLof X = 5) (fu : Nat) (kn42 : Mem × Int32 × Int32 × Int32 × Int32 → Option (Int32 × Mem)) (hk42 : ∀ (M : Mem) (x1 x2 x3 x4 : Int32), J X (ZN X foI) (kn42 (M, x1, x2, x3, x4)) 42 [(0, .ref (gadr (XG X) (4, 0, 0))), (1, .int x1), (2, .int x2), (3, .int x3), (4, .int x4)] [] M 0 0) (M : Mem) (x1 x2 x4 : Int32) : J X (ZN X foI) (FX1_cover_92 fu (XD X) kn42 M x1 x2 x4) 92 [(0, .ref (gadr (XG X) (4, 0, 0))), (1, .int x1), (2, .int x2), (4, .int x4)] [] M 0 0 := by
  unfold FX1_cover_92
  refine j_iconst (v := 1) hC dX1_cover_92 (by decide) ?_
  refine j_goto (tgt := 97) hC dX1_cover_93 (by decide) ?_
  exact j_sub [0, 1, 2, 3] rfl (wX1_cover_97 hC hG hnl fu kn42 hk42 M x1 x2 x4 1)
set_option linter.unusedVariables false in
set_option maxRecDepth 100000 in
theorem wgX1_cover_42 {X : JX} (hC : JC X cX1_cover RX1 (some .int) 2 32 0 0) (hG : dmI dmX (XG X)) (hnl : nLof X = 5) (fu : Nat) (kn42 : Mem × Int32 × Int32 × Int32 × Int32 → Option (Int32 × Mem)) (hk42 : ∀ (M : Mem) (x1 x2 x3 x4 : Int32), J X (ZN X foI) (kn42 (M, x1, x2, x3, x4)) 42 [(0, .ref (gadr (XG X) (4, 0, 0))), (1, .int x1), (2, .int x2), (3, .int x3), (4, .int x4)] [] M 0 0) (kn4 : Mem × Int32 × Int32 → Option (Int32 × Mem)) (hk4 : ∀ (M : Mem) (x1 x2 : Int32), J X (ZN X foI) (kn4 (M, x1, x2)) 4 [(0, .ref (gadr (XG X) (4, 0, 0))), (1, .int x1), (2, .int x2)] [] M 0 0) (M : Mem) (x1 x2 x3 x4 : Int32) : J X (ZN X foI) (GX1_cover_42 fu (XD X) kn42 kn4 M x1 x2 x3 x4) 42 [(0, .ref (gadr (XG X) (4, 0, 0))), (1, .int x1), (2, .int x2), (3, .int x3), (4, .int x4)] [] M 0 0 := by
  unfold GX1_cover_42
  refine j_iload hC 4 dX1_cover_42 rfl ?_
  refine j_aload_n hC 0 dX1_cover_44 rfl ?_
  refine j_getR (fk := 1) hC (dmY hG rfl) rfl rfl in_X1 rfl rfl q496 rfl dX1_cover_45 ?_
  refine j_getNI (fk := 9) hC (dmS hG (by decide) rfl) rfl rfl in_X3 rfl rfl q279 rfl dX1_cover_48 ?_
  refine j_icmp_ge (tgt := 104) hC dX1_cover_51 (by decide) (fun h51 => ?_) (fun h51 => ?_)
  · exact j_sub [0, 1, 2, 3] rfl (wX1_cover_104 hC hG hnl fu kn4 hk4 M x1 x2 x3)
  · refine j_iload_n hC 3 dX1_cover_54 rfl ?_
    refine j_if_eq (tgt := 104) hC dX1_cover_55 (by decide) (fun h55 => ?_) (fun h55 => ?_)
    · exact j_sub [0, 1, 2, 3] rfl (wX1_cover_104 hC hG hnl fu kn4 hk4 M x1 x2 x3)
    · refine j_aload_n hC 0 dX1_cover_58 rfl ?_
      refine j_getR (fk := 1) hC (dmY hG rfl) rfl rfl in_X1 rfl rfl q496 rfl dX1_cover_59 ?_
      refine j_getNR (fk := 1) hC (dmS hG (by decide) rfl) rfl rfl in_X3 rfl rfl q260 rfl dX1_cover_62 ?_
      refine j_iload hC 4 dX1_cover_65 rfl ?_
      refine j_aald4 (d := (2, 0, x4.toNatClampNeg)) hC (dmS hG (by decide) rfl) rfl rfl dX1_cover_67 (fun h67 => ?_)
      refine j_getNI (fk := 3) hC (dmC hG (by decide) (vin_lt h67)) rfl rfl in_X5 rfl rfl q245 rfl dX1_cover_68 ?_
      refine j_if_ne (tgt := 92) hC dX1_cover_71 (by decide) (fun h71 => ?_) (fun h71 => ?_)
      · refine j_aload_n hC 0 dX1_cover_74 rfl ?_
        refine j_getR (fk := 1) hC (dmY hG rfl) rfl rfl in_X1 rfl rfl q496 rfl dX1_cover_75 ?_
        refine j_getNR (fk := 1) hC (dmS hG (by decide) rfl) rfl rfl in_X3 rfl rfl q260 rfl dX1_cover_78 ?_
        refine j_iload hC 4 dX1_cover_81 rfl ?_
        refine j_aald4 (d := (2, 0, x4.toNatClampNeg)) hC (dmS hG (by decide) rfl) rfl rfl dX1_cover_83 (fun h83 => ?_)
        refine j_getNI (fk := 2) hC (dmC hG (by decide) (vin_lt h83)) rfl rfl in_X5 rfl rfl q242 rfl dX1_cover_84 ?_
        refine j_iload_n hC 2 dX1_cover_87 rfl ?_
        refine j_iand hC dX1_cover_88 ?_
        refine j_if_eq (tgt := 96) hC dX1_cover_89 (by decide) (fun h89 => ?_) (fun h89 => ?_)
        · refine j_iconst (v := 0) hC dX1_cover_96 (by decide) ?_
          exact j_sub [0, 1, 2, 4] rfl (wX1_cover_97 hC hG hnl fu kn42 hk42 M x1 x2 x4 0)
        · exact j_sub [0, 1, 2, 4] rfl (wX1_cover_92 hC hG hnl fu kn42 hk42 M x1 x2 x4)
      · exact j_sub [0, 1, 2, 4] rfl (wX1_cover_92 hC hG hnl fu kn42 hk42 M x1 x2 x4)
set_option linter.unusedVariables false in
set_option maxRecDepth 100000 in
theorem wX1_cover_42 {X : JX} (hC : JC X cX1_cover RX1 (some .int) 2 32 0 0) (hG : dmI dmX (XG X)) (hnl : nLof X = 5) (fu : Nat) (kn4 : Mem × Int32 × Int32 → Option (Int32 × Mem)) (hk4 : ∀ (M : Mem) (x1 x2 : Int32), J X (ZN X foI) (kn4 (M, x1, x2)) 4 [(0, .ref (gadr (XG X) (4, 0, 0))), (1, .int x1), (2, .int x2)] [] M 0 0) (M : Mem) (x1 x2 x3 x4 : Int32) : J X (ZN X foI) (FX1_cover_42 fu (XD X) kn4 M x1 x2 x3 x4) 42 [(0, .ref (gadr (XG X) (4, 0, 0))), (1, .int x1), (2, .int x2), (3, .int x3), (4, .int x4)] [] M 0 0 := by
  exact j_lp (lvf := fun z => [(0, .ref (gadr (XG X) (4, 0, 0))), (1, .int (z.2.1)), (2, .int (z.2.2.1)), (3, .int (z.2.2.2.1)), (4, .int (z.2.2.2.2))]) (Mf := fun z => z.1) (fun kn hk z => wgX1_cover_42 hC hG hnl fu kn (fun M x1 x2 x3 x4 => hk (M, x1, x2, x3, x4)) kn4 hk4 z.1 z.2.1 z.2.2.1 z.2.2.2.1 z.2.2.2.2) fu (M, x1, x2, x3, x4)
set_option linter.unusedVariables false in
set_option maxRecDepth 100000 in
theorem wX1_cover_38 {X : JX} (hC : JC X cX1_cover RX1 (some .int) 2 32 0 0) (hG : dmI dmX (XG X)) (hnl : nLof X = 5) (fu : Nat) (kn4 : Mem × Int32 × Int32 → Option (Int32 × Mem)) (hk4 : ∀ (M : Mem) (x1 x2 : Int32), J X (ZN X foI) (kn4 (M, x1, x2)) 4 [(0, .ref (gadr (XG X) (4, 0, 0))), (1, .int x1), (2, .int x2)] [] M 0 0) (M : Mem) (x1 x2 t0 : Int32) : J X (ZN X foI) (FX1_cover_38 fu (XD X) kn4 M x1 x2 t0) 38 [(0, .ref (gadr (XG X) (4, 0, 0))), (1, .int x1), (2, .int x2)] [.int t0] M 0 0 := by
  unfold FX1_cover_38
  refine j_istore_n hC [(3, .int t0), (0, .ref (gadr (XG X) (4, 0, 0))), (1, .int x1), (2, .int x2)] hnl dX1_cover_38 rfl rfl ?_
  refine j_iconst (v := 0) hC dX1_cover_39 (by decide) ?_
  refine j_istore hC [(4, .int 0), (3, .int t0), (0, .ref (gadr (XG X) (4, 0, 0))), (1, .int x1), (2, .int x2)] hnl dX1_cover_40 rfl rfl ?_
  exact j_sub [2, 3, 4, 1, 0] rfl (wX1_cover_42 hC hG hnl fu kn4 hk4 M x1 x2 t0 0)
set_option linter.unusedVariables false in
set_option maxRecDepth 100000 in
theorem wX1_cover_33 {X : JX} (hC : JC X cX1_cover RX1 (some .int) 2 32 0 0) (hG : dmI dmX (XG X)) (hnl : nLof X = 5) (fu : Nat) (kn4 : Mem × Int32 × Int32 → Option (Int32 × Mem)) (hk4 : ∀ (M : Mem) (x1 x2 : Int32), J X (ZN X foI) (kn4 (M, x1, x2)) 4 [(0, .ref (gadr (XG X) (4, 0, 0))), (1, .int x1), (2, .int x2)] [] M 0 0) (M : Mem) (x1 x2 : Int32) : J X (ZN X foI) (FX1_cover_33 fu (XD X) kn4 M x1 x2) 33 [(0, .ref (gadr (XG X) (4, 0, 0))), (1, .int x1), (2, .int x2)] [] M 0 0 := by
  unfold FX1_cover_33
  refine j_iconst (v := 1) hC dX1_cover_33 (by decide) ?_
  refine j_goto (tgt := 38) hC dX1_cover_34 (by decide) ?_
  exact j_sub [0, 1, 2] rfl (wX1_cover_38 hC hG hnl fu kn4 hk4 M x1 x2 1)
set_option linter.unusedVariables false in
set_option maxRecDepth 100000 in
theorem wgX1_cover_4 {X : JX} (hC : JC X cX1_cover RX1 (some .int) 2 32 0 0) (hG : dmI dmX (XG X)) (hnl : nLof X = 5) (fu : Nat) (kn4 : Mem × Int32 × Int32 → Option (Int32 × Mem)) (hk4 : ∀ (M : Mem) (x1 x2 : Int32), J X (ZN X foI) (kn4 (M, x1, x2)) 4 [(0, .ref (gadr (XG X) (4, 0, 0))), (1, .int x1), (2, .int x2)] [] M 0 0) (M : Mem) (x1 x2 : Int32) : J X (ZN X foI) (GX1_cover_4 fu (XD X) kn4 M x1 x2) 4 [(0, .ref (gadr (XG X) (4, 0, 0))), (1, .int x1), (2, .int x2)] [] M 0 0 := by
  unfold GX1_cover_4
  refine j_iload_n hC 2 dX1_cover_4 rfl ?_
  refine j_iconst (v := 1) hC dX1_cover_5 (by decide) ?_
  refine j_aload_n hC 0 dX1_cover_6 rfl ?_
  refine j_getR (fk := 1) hC (dmY hG rfl) rfl rfl in_X1 rfl rfl q496 rfl dX1_cover_7 ?_
  refine j_getNI (fk := 7) hC (dmS hG (by decide) rfl) rfl rfl in_X3 rfl rfl q273 rfl dX1_cover_10 ?_
  refine j_ishl hC dX1_cover_13 ?_
  refine j_icmp_ge (tgt := 120) hC dX1_cover_14 (by decide) (fun h14 => ?_) (fun h14 => ?_)
  · refine j_iload_n hC 1 dX1_cover_120 rfl ?_
    exact j_iret hC dX1_cover_121
  · refine j_iload_n hC 1 dX1_cover_17 rfl ?_
    refine j_iconst (v := (-1)) hC dX1_cover_18 (by decide) ?_
    refine j_icmp_eq (tgt := 33) hC dX1_cover_19 (by decide) (fun h19 => ?_) (fun h19 => ?_)
    · exact j_sub [0, 1, 2] rfl (wX1_cover_33 hC hG hnl fu kn4 hk4 M x1 x2)
    · refine j_iload_n hC 2 dX1_cover_22 rfl ?_
      refine j_callS (nA := 1) (rest := []) hC [.int x2] rfl (fun r hr => mJ14_bitCount (XL X) (XG X) trivial fu (XD X) M x2 r hr) q684 q685 q157 q686 (by decide +kernel) rfl rfl rfl rfl rfl rfl dX1_cover_23 (fun v23 => [.int v23]) (fun _ => rfl) (fun v23 M23 => ?_)
      refine j_iload_n hC 1 dX1_cover_26 rfl ?_
      refine j_callS (nA := 1) (rest := [.int v23]) hC [.int x1] rfl (fun r hr => mJ14_bitCount (XL X) (XG X) trivial fu (XD X) M23 x1 r hr) q684 q685 q157 q686 (by decide +kernel) rfl rfl rfl rfl rfl rfl dX1_cover_27 (fun v27 => [.int v27, .int v23]) (fun _ => rfl) (fun v27 M27 => ?_)
      refine j_icmp_ge (tgt := 37) hC dX1_cover_30 (by decide) (fun h30 => ?_) (fun h30 => ?_)
      · refine j_iconst (v := 0) hC dX1_cover_37 (by decide) ?_
        exact j_sub [0, 1, 2] rfl (wX1_cover_38 hC hG hnl fu kn4 hk4 M27 x1 x2 0)
      · exact j_sub [0, 1, 2] rfl (wX1_cover_33 hC hG hnl fu kn4 hk4 M27 x1 x2)
set_option linter.unusedVariables false in
set_option maxRecDepth 100000 in
theorem wX1_cover_4 {X : JX} (hC : JC X cX1_cover RX1 (some .int) 2 32 0 0) (hG : dmI dmX (XG X)) (hnl : nLof X = 5) (fu : Nat) (M : Mem) (x1 x2 : Int32) : J X (ZN X foI) (FX1_cover_4 fu (XD X) M x1 x2) 4 [(0, .ref (gadr (XG X) (4, 0, 0))), (1, .int x1), (2, .int x2)] [] M 0 0 := by
  exact j_lp (lvf := fun z => [(0, .ref (gadr (XG X) (4, 0, 0))), (1, .int (z.2.1)), (2, .int (z.2.2))]) (Mf := fun z => z.1) (fun kn hk z => wgX1_cover_4 hC hG hnl fu kn (fun M x1 x2 => hk (M, x1, x2)) z.1 z.2.1 z.2.2) fu (M, x1, x2)
set_option linter.unusedVariables false in
set_option maxRecDepth 100000 in
theorem wX1_cover {X : JX} (hC : JC X cX1_cover RX1 (some .int) 2 32 0 0) (hG : dmI dmX (XG X)) (hnl : nLof X = 5) (fu : Nat) (M : Mem) : J X (ZN X foI) (FX1_cover fu (XD X) M) 0 [(0, .ref (gadr (XG X) (4, 0, 0)))] [] M 0 0 := by
  unfold FX1_cover
  refine j_iconst (v := (-1)) hC dX1_cover_0 (by decide) ?_
  refine j_istore_n hC [(1, .int ((-1))), (0, .ref (gadr (XG X) (4, 0, 0)))] hnl dX1_cover_1 rfl rfl ?_
  refine j_iconst (v := 0) hC dX1_cover_2 (by decide) ?_
  refine j_istore_n hC [(2, .int 0), (1, .int ((-1))), (0, .ref (gadr (XG X) (4, 0, 0)))] hnl dX1_cover_3 rfl rfl ?_
  exact j_sub [2, 1, 0] rfl (wX1_cover_4 hC hG hnl fu M (-1) 0)
set_option linter.unusedVariables false in
set_option maxRecDepth 100000 in
theorem mX1_cover (l : Launch) (Γ : xG) (hG : dmI dmX Γ) (fu : Nat) (D : List LDen) (M : Mem) (r : Int32 × Mem) (hr : FX1_cover fu D M = some r) : CN l yX1_cover (ws_ yX1_cover cX1_cover 5 (some .int)) 2 32 Γ D [.ref (gadr Γ (4, 0, 0))] M (foI r.1) r.2 := by
  refine CN.of (own := RX1) (lv0 := lv_args 0 [.ref (gadr Γ (4, 0, 0))]) (by decide +kernel) rfl (Nat.le_of_ble_eq_true rfl) rfl (fun X e1 e2 e3 e4 hC => ?_) r hr
  subst e1
  subst e2
  exact wX1_cover hC hG e4 fu M
set_option linter.unusedVariables false in
set_option maxRecDepth 100000 in
theorem wX1_seed {X : JX} (hC : JC X cX1_seed RX1 (some .int) 1 12 0 0) (hG : dmI dmX (XG X)) (hnl : nLof X = 3) (fu : Nat) (M : Mem) (x1 : Int32) : J X (ZN X foI) (FX1_seed fu (XD X) M x1) 0 [(0, .ref (gadr (XG X) (4, 0, 0))), (1, .int x1)] [] M 0 0 := by
  unfold FX1_seed
  refine j_aload_n hC 0 dX1_seed_0 rfl ?_
  refine j_getR (fk := 1) hC (dmY hG rfl) rfl rfl in_X1 rfl rfl q496 rfl dX1_seed_1 ?_
  refine j_getNI (fk := 18) hC (dmS hG (by decide) rfl) rfl rfl in_X3 rfl rfl q305 rfl dX1_seed_4 ?_
  refine j_ltT (fun y7 => ?_)
  refine j_istore_n hC [(2, .int y7), (0, .ref (gadr (XG X) (4, 0, 0))), (1, .int x1)] hnl dX1_seed_7 rfl rfl ?_
  refine j_aload_n hC 1 dX1_seed_8 rfl ?_
  refine j_getR (fk := 1) hC (dmY hG rfl) rfl rfl in_X1 rfl rfl q496 rfl dX1_seed_9 ?_
  refine j_iload_n hC 2 dX1_seed_12 rfl ?_
  refine j_putN (fk := 18) (ty := .int) hC (dmS hG (by decide) rfl) rfl rfl in_X3 rfl rfl q305 tyX3 tyX3_ok nmX3 rfl rfl (by decide +kernel) rfl rfl dX1_seed_13 ?_
  refine j_lt (fun M13 => ?_)
  refine j_iload_n hC 0 dX1_seed_16 rfl ?_
  exact j_iret hC dX1_seed_17
set_option linter.unusedVariables false in
set_option maxRecDepth 100000 in
theorem mX1_seed (l : Launch) (Γ : xG) (hG : dmI dmX Γ) (fu : Nat) (D : List LDen) (M : Mem) (x1 : Int32) (r : Int32 × Mem) (hr : FX1_seed fu D M x1 = some r) : CN l yX1_seed (ws_ yX1_seed cX1_seed 3 (some .int)) 1 12 Γ D [.ref (gadr Γ (4, 0, 0)), .int x1] M (foI r.1) r.2 := by
  refine CN.of (own := RX1) (lv0 := lv_args 0 [.ref (gadr Γ (4, 0, 0)), .int x1]) (by decide +kernel) rfl (Nat.le_of_ble_eq_true rfl) rfl (fun X e1 e2 e3 e4 hC => ?_) r hr
  subst e1
  subst e2
  exact wX1_seed hC hG e4 fu M x1
set_option linter.unusedVariables false in
set_option maxRecDepth 100000 in
theorem wX1_undo {X : JX} (hC : JC X cX1_undo RX1 (some .boolean) 3 62 0 0) (hG : dmI dmX (XG X)) (hnl : nLof X = 1) (fu : Nat) (M : Mem) : J X (ZN X foI) (FX1_undo fu (XD X) M) 0 [(0, .ref (gadr (XG X) (4, 0, 0)))] [] M 0 0 := by
  unfold FX1_undo
  refine j_aload_n hC 0 dX1_undo_0 rfl ?_
  refine j_getI (fk := 13) hC (dmY hG rfl) rfl rfl in_X1 rfl rfl q509 rfl dX1_undo_1 ?_
  refine j_if_ne (tgt := 9) hC dX1_undo_4 (by decide) (fun h4 => ?_) (fun h4 => ?_)
  · refine j_iconst (v := 0) hC dX1_undo_7 (by decide) ?_
    exact j_zret hC (by decide) dX1_undo_8
  · refine j_aload_n hC 0 dX1_undo_9 rfl ?_
    refine j_dup hC dX1_undo_10 rfl ?_
    refine j_getI (fk := 13) hC (dmY hG rfl) rfl rfl in_X1 rfl rfl q509 rfl dX1_undo_11 ?_
    refine j_iconst (v := 1) hC dX1_undo_14 (by decide) ?_
    refine j_isub hC dX1_undo_15 ?_
    refine j_put (fk := 13) (ty := .int) hC (dmY hG rfl) rfl rfl in_X1 rfl rfl q509 tyX1 tyX1_ok nmX1 rfl rfl (by decide +kernel) rfl rfl dX1_undo_16 ?_
    refine j_lt (fun M16 => ?_)
    refine j_aload_n hC 0 dX1_undo_19 rfl ?_
    refine j_aload_n hC 0 dX1_undo_20 rfl ?_
    refine j_getI (fk := 14) hC (dmY hG rfl) rfl rfl in_X1 rfl rfl q510 rfl dX1_undo_21 ?_
    refine j_bipush (v := 12) hC dX1_undo_24 (by decide) ?_
    refine j_iadd hC dX1_undo_26 ?_
    refine j_iconst (v := 1) hC dX1_undo_27 (by decide) ?_
    refine j_isub hC dX1_undo_28 ?_
    refine j_bipush (v := 12) hC dX1_undo_29 (by decide) ?_
    refine j_iremL hC dX1_undo_31 (by decide) ?_
    refine j_put (fk := 14) (ty := .int) hC (dmY hG rfl) rfl rfl in_X1 rfl rfl q510 tyX1 tyX1_ok nmX1 rfl rfl (by decide +kernel) rfl rfl dX1_undo_32 ?_
    refine j_lt (fun M32 => ?_)
    refine j_aload_n hC 0 dX1_undo_35 rfl ?_
    refine j_getR (fk := 1) hC (dmY hG rfl) rfl rfl in_X1 rfl rfl q496 rfl dX1_undo_36 ?_
    refine j_aload_n hC 0 dX1_undo_39 rfl ?_
    refine j_getR (fk := 3) hC (dmY hG rfl) rfl rfl in_X1 rfl rfl q499 rfl dX1_undo_40 ?_
    refine j_aload_n hC 0 dX1_undo_43 rfl ?_
    refine j_getI (fk := 14) hC (dmY hG rfl) rfl rfl in_X1 rfl rfl q510 rfl dX1_undo_44 ?_
    refine j_aald6 (d := (0, (((M32 (4, 0, 0) 14).toNatClampNeg) + 3), 0)) hC (dmY hG rfl) rfl rfl dX1_undo_47 (fun h47 => ?_)
    refine j_callV (nA := 1) (rest := []) hC [.ref (gadr (XG X) (0, (((M32 (4, 0, 0) 14).toNatClampNeg) + 3), 0))] rfl (fun r hr => mX3_be (XL X) (XG X) hG fu (XD X) 0 (by decide) (((M32 (4, 0, 0) 14).toNatClampNeg) + 3) (Nat.add_lt_add_right (vin_lt h47) 3) M32 r hr) q698 q699 q700 q128 q701 (dmS hG (by decide) rfl) rfl rfl (by decide +kernel) rfl rfl rfl rfl rfl rfl dX1_undo_48 (fun _ => []) (fun _ => rfl) (fun v48 M48 => ?_)
    refine j_iconst (v := 1) hC dX1_undo_51 (by decide) ?_
    exact j_zret hC (by decide) dX1_undo_52
set_option linter.unusedVariables false in
set_option maxRecDepth 100000 in
theorem mX1_undo (l : Launch) (Γ : xG) (hG : dmI dmX Γ) (fu : Nat) (D : List LDen) (M : Mem) (r : Int32 × Mem) (hr : FX1_undo fu D M = some r) : CN l yX1_undo (ws_ yX1_undo cX1_undo 1 (some .boolean)) 3 62 Γ D [.ref (gadr Γ (4, 0, 0))] M (foI r.1) r.2 := by
  refine CN.of (own := RX1) (lv0 := lv_args 0 [.ref (gadr Γ (4, 0, 0))]) (by decide +kernel) rfl (Nat.le_of_ble_eq_true rfl) rfl (fun X e1 e2 e3 e4 hC => ?_) r hr
  subst e1
  subst e2
  exact wX1_undo hC hG e4 fu M
set_option linter.unusedVariables false in
set_option maxRecDepth 100000 in
theorem wX1_image {X : JX} (hC : JC X cX1_image RX1 none 3 62 0 0) (hG : dmI dmX (XG X)) (hnl : nLof X = 1) (fu : Nat) (M : Mem) : J X (ZN X foV) (FX1_image fu (XD X) M) 0 [(0, .ref (gadr (XG X) (4, 0, 0)))] [] M 0 0 := by
  unfold FX1_image
  refine j_aload_n hC 0 dX1_image_0 rfl ?_
  refine j_getR (fk := 2) hC (dmY hG rfl) rfl rfl in_X1 rfl rfl q498 rfl dX1_image_1 ?_
  refine j_aload_n hC 0 dX1_image_4 rfl ?_
  refine j_getR (fk := 1) hC (dmY hG rfl) rfl rfl in_X1 rfl rfl q496 rfl dX1_image_5 ?_
  refine j_callV (nA := 1) (rest := []) hC [.ref (gadr (XG X) (0, 0, 0))] rfl (fun r hr => mX3_be (XL X) (XG X) hG fu (XD X) 1 (by decide) 0 (by decide) M r hr) q698 q699 q700 q128 q701 (dmS hG (by decide) rfl) rfl rfl (by decide +kernel) rfl rfl rfl rfl rfl rfl dX1_image_8 (fun _ => []) (fun _ => rfl) (fun v8 M8 => ?_)
  refine j_aload_n hC 0 dX1_image_11 rfl ?_
  refine j_iconst (v := 1) hC dX1_image_12 (by decide) ?_
  refine j_put (fk := 15) (ty := .boolean) hC (dmY hG rfl) rfl rfl in_X1 rfl rfl q511 tyX1 tyX1_ok nmX1 rfl rfl (by decide +kernel) rfl rfl dX1_image_13 ?_
  refine j_lt (fun M13 => ?_)
  exact j_vret hC dX1_image_16
set_option linter.unusedVariables false in
set_option maxRecDepth 100000 in
theorem mX1_image (l : Launch) (Γ : xG) (hG : dmI dmX Γ) (fu : Nat) (D : List LDen) (M : Mem) (r : Int32 × Mem) (hr : FX1_image fu D M = some r) : CN l yX1_image (ws_ yX1_image cX1_image 1 none) 3 62 Γ D [.ref (gadr Γ (4, 0, 0))] M (foV r.1) r.2 := by
  refine CN.of (own := RX1) (lv0 := lv_args 0 [.ref (gadr Γ (4, 0, 0))]) (by decide +kernel) rfl (Nat.le_of_ble_eq_true rfl) rfl (fun X e1 e2 e3 e4 hC => ?_) r hr
  subst e1
  subst e2
  exact wX1_image hC hG e4 fu M
set_option linter.unusedVariables false in
set_option maxRecDepth 100000 in
theorem wX1_back {X : JX} (hC : JC X cX1_back RX1 (some .boolean) 3 62 0 0) (hG : dmI dmX (XG X)) (hnl : nLof X = 1) (fu : Nat) (M : Mem) : J X (ZN X foI) (FX1_back fu (XD X) M) 0 [(0, .ref (gadr (XG X) (4, 0, 0)))] [] M 0 0 := by
  unfold FX1_back
  refine j_aload_n hC 0 dX1_back_0 rfl ?_
  refine j_getI (fk := 15) hC (dmY hG rfl) rfl rfl in_X1 rfl rfl q511 rfl dX1_back_1 ?_
  refine j_if_ne (tgt := 9) hC dX1_back_4 (by decide) (fun h4 => ?_) (fun h4 => ?_)
  · refine j_iconst (v := 0) hC dX1_back_7 (by decide) ?_
    exact j_zret hC (by decide) dX1_back_8
  · refine j_aload_n hC 0 dX1_back_9 rfl ?_
    refine j_getR (fk := 1) hC (dmY hG rfl) rfl rfl in_X1 rfl rfl q496 rfl dX1_back_10 ?_
    refine j_aload_n hC 0 dX1_back_13 rfl ?_
    refine j_getR (fk := 2) hC (dmY hG rfl) rfl rfl in_X1 rfl rfl q498 rfl dX1_back_14 ?_
    refine j_callV (nA := 1) (rest := []) hC [.ref (gadr (XG X) (0, 1, 0))] rfl (fun r hr => mX3_be (XL X) (XG X) hG fu (XD X) 0 (by decide) 1 (by decide) M r hr) q698 q699 q700 q128 q701 (dmS hG (by decide) rfl) rfl rfl (by decide +kernel) rfl rfl rfl rfl rfl rfl dX1_back_17 (fun _ => []) (fun _ => rfl) (fun v17 M17 => ?_)
    refine j_aload_n hC 0 dX1_back_20 rfl ?_
    refine j_iconst (v := 0) hC dX1_back_21 (by decide) ?_
    refine j_put (fk := 13) (ty := .int) hC (dmY hG rfl) rfl rfl in_X1 rfl rfl q509 tyX1 tyX1_ok nmX1 rfl rfl (by decide +kernel) rfl rfl dX1_back_22 ?_
    refine j_lt (fun M22 => ?_)
    refine j_iconst (v := 1) hC dX1_back_25 (by decide) ?_
    exact j_zret hC (by decide) dX1_back_26
set_option linter.unusedVariables false in
set_option maxRecDepth 100000 in
theorem mX1_back (l : Launch) (Γ : xG) (hG : dmI dmX Γ) (fu : Nat) (D : List LDen) (M : Mem) (r : Int32 × Mem) (hr : FX1_back fu D M = some r) : CN l yX1_back (ws_ yX1_back cX1_back 1 (some .boolean)) 3 62 Γ D [.ref (gadr Γ (4, 0, 0))] M (foI r.1) r.2 := by
  refine CN.of (own := RX1) (lv0 := lv_args 0 [.ref (gadr Γ (4, 0, 0))]) (by decide +kernel) rfl (Nat.le_of_ble_eq_true rfl) rfl (fun X e1 e2 e3 e4 hC => ?_) r hr
  subst e1
  subst e2
  exact wX1_back hC hG e4 fu M
set_option linter.unusedVariables false in
set_option maxRecDepth 100000 in
theorem wX1_openOnes_38 {X : JX} (hC : JC X cX1_openOnes RX1 (some .int) 1 12 0 0) (hG : dmI dmX (XG X)) (hnl : nLof X = 3) (fu : Nat) (kn4 : Mem × Int32 × Int32 → Option (Int32 × Mem)) (hk4 : ∀ (M : Mem) (x1 x2 : Int32), J X (ZN X foI) (kn4 (M, x1, x2)) 4 [(0, .ref (gadr (XG X) (4, 0, 0))), (1, .int x1), (2, .int x2)] [] M 0 0) (M : Mem) (x2 t0 t1 : Int32) : J X (ZN X foI) (FX1_openOnes_38 fu (XD X) kn4 M x2 t0 t1) 38 [(0, .ref (gadr (XG X) (4, 0, 0))), (2, .int x2)] [.int t0, .int t1] M 0 0 := by
  unfold FX1_openOnes_38
  refine j_ior hC dX1_openOnes_38 ?_
  refine j_ltT (fun y39 => ?_)
  refine j_istore_n hC [(1, .int y39), (0, .ref (gadr (XG X) (4, 0, 0))), (2, .int x2)] hnl dX1_openOnes_39 rfl rfl ?_
  refine j_iincL hC 2 (fun y40 => [(2, .int y40), (1, .int y39), (0, .ref (gadr (XG X) (4, 0, 0)))]) hnl dX1_openOnes_40 rfl (by decide) rfl (fun _ => rfl) (fun y40 => ?_)
  refine j_goto (tgt := 4) hC dX1_openOnes_43 (by decide) ?_
  exact j_sub [2, 1, 0] rfl (hk4 M y39 y40)
set_option linter.unusedVariables false in
set_option maxRecDepth 100000 in
theorem wgX1_openOnes_4 {X : JX} (hC : JC X cX1_openOnes RX1 (some .int) 1 12 0 0) (hG : dmI dmX (XG X)) (hnl : nLof X = 3) (fu : Nat) (kn4 : Mem × Int32 × Int32 → Option (Int32 × Mem)) (hk4 : ∀ (M : Mem) (x1 x2 : Int32), J X (ZN X foI) (kn4 (M, x1, x2)) 4 [(0, .ref (gadr (XG X) (4, 0, 0))), (1, .int x1), (2, .int x2)] [] M 0 0) (M : Mem) (x1 x2 : Int32) : J X (ZN X foI) (GX1_openOnes_4 fu (XD X) kn4 M x1 x2) 4 [(0, .ref (gadr (XG X) (4, 0, 0))), (1, .int x1), (2, .int x2)] [] M 0 0 := by
  unfold GX1_openOnes_4
  refine j_iload_n hC 2 dX1_openOnes_4 rfl ?_
  refine j_aload_n hC 0 dX1_openOnes_5 rfl ?_
  refine j_getR (fk := 1) hC (dmY hG rfl) rfl rfl in_X1 rfl rfl q496 rfl dX1_openOnes_6 ?_
  refine j_getNI (fk := 9) hC (dmS hG (by decide) rfl) rfl rfl in_X3 rfl rfl q279 rfl dX1_openOnes_9 ?_
  refine j_icmp_ge (tgt := 46) hC dX1_openOnes_12 (by decide) (fun h12 => ?_) (fun h12 => ?_)
  · refine j_iload_n hC 1 dX1_openOnes_46 rfl ?_
    exact j_iret hC dX1_openOnes_47
  · refine j_iload_n hC 1 dX1_openOnes_15 rfl ?_
    refine j_aload_n hC 0 dX1_openOnes_16 rfl ?_
    refine j_getR (fk := 1) hC (dmY hG rfl) rfl rfl in_X1 rfl rfl q496 rfl dX1_openOnes_17 ?_
    refine j_getNR (fk := 1) hC (dmS hG (by decide) rfl) rfl rfl in_X3 rfl rfl q260 rfl dX1_openOnes_20 ?_
    refine j_iload_n hC 2 dX1_openOnes_23 rfl ?_
    refine j_aald4 (d := (2, 0, x2.toNatClampNeg)) hC (dmS hG (by decide) rfl) rfl rfl dX1_openOnes_24 (fun h24 => ?_)
    refine j_getNI (fk := 3) hC (dmC hG (by decide) (vin_lt h24)) rfl rfl in_X5 rfl rfl q245 rfl dX1_openOnes_25 ?_
    refine j_if_ne (tgt := 37) hC dX1_openOnes_28 (by decide) (fun h28 => ?_) (fun h28 => ?_)
    · refine j_iconst (v := 1) hC dX1_openOnes_31 (by decide) ?_
      refine j_iload_n hC 2 dX1_openOnes_32 rfl ?_
      refine j_ishl hC dX1_openOnes_33 ?_
      refine j_goto (tgt := 38) hC dX1_openOnes_34 (by decide) ?_
      exact j_sub [0, 2] rfl (wX1_openOnes_38 hC hG hnl fu kn4 hk4 M x2 (1 <<< (x2 &&& 31)) x1)
    · refine j_iconst (v := 0) hC dX1_openOnes_37 (by decide) ?_
      exact j_sub [0, 2] rfl (wX1_openOnes_38 hC hG hnl fu kn4 hk4 M x2 0 x1)
set_option linter.unusedVariables false in
set_option maxRecDepth 100000 in
theorem wX1_openOnes_4 {X : JX} (hC : JC X cX1_openOnes RX1 (some .int) 1 12 0 0) (hG : dmI dmX (XG X)) (hnl : nLof X = 3) (fu : Nat) (M : Mem) (x1 x2 : Int32) : J X (ZN X foI) (FX1_openOnes_4 fu (XD X) M x1 x2) 4 [(0, .ref (gadr (XG X) (4, 0, 0))), (1, .int x1), (2, .int x2)] [] M 0 0 := by
  exact j_lp (lvf := fun z => [(0, .ref (gadr (XG X) (4, 0, 0))), (1, .int (z.2.1)), (2, .int (z.2.2))]) (Mf := fun z => z.1) (fun kn hk z => wgX1_openOnes_4 hC hG hnl fu kn (fun M x1 x2 => hk (M, x1, x2)) z.1 z.2.1 z.2.2) fu (M, x1, x2)
set_option linter.unusedVariables false in
set_option maxRecDepth 100000 in
theorem wX1_openOnes {X : JX} (hC : JC X cX1_openOnes RX1 (some .int) 1 12 0 0) (hG : dmI dmX (XG X)) (hnl : nLof X = 3) (fu : Nat) (M : Mem) : J X (ZN X foI) (FX1_openOnes fu (XD X) M) 0 [(0, .ref (gadr (XG X) (4, 0, 0)))] [] M 0 0 := by
  unfold FX1_openOnes
  refine j_iconst (v := 0) hC dX1_openOnes_0 (by decide) ?_
  refine j_istore_n hC [(1, .int 0), (0, .ref (gadr (XG X) (4, 0, 0)))] hnl dX1_openOnes_1 rfl rfl ?_
  refine j_iconst (v := 0) hC dX1_openOnes_2 (by decide) ?_
  refine j_istore_n hC [(2, .int 0), (1, .int 0), (0, .ref (gadr (XG X) (4, 0, 0)))] hnl dX1_openOnes_3 rfl rfl ?_
  exact j_sub [2, 1, 0] rfl (wX1_openOnes_4 hC hG hnl fu M 0 0)
set_option linter.unusedVariables false in
set_option maxRecDepth 100000 in
theorem mX1_openOnes (l : Launch) (Γ : xG) (hG : dmI dmX Γ) (fu : Nat) (D : List LDen) (M : Mem) (r : Int32 × Mem) (hr : FX1_openOnes fu D M = some r) : CN l yX1_openOnes (ws_ yX1_openOnes cX1_openOnes 3 (some .int)) 1 12 Γ D [.ref (gadr Γ (4, 0, 0))] M (foI r.1) r.2 := by
  refine CN.of (own := RX1) (lv0 := lv_args 0 [.ref (gadr Γ (4, 0, 0))]) (by decide +kernel) rfl (Nat.le_of_ble_eq_true rfl) rfl (fun X e1 e2 e3 e4 hC => ?_) r hr
  subst e1
  subst e2
  exact wX1_openOnes hC hG e4 fu M
set_option linter.unusedVariables false in
set_option maxRecDepth 100000 in
theorem wX1_calm_45 {X : JX} (hC : JC X cX1_calm RX1 (some .int) 1 12 0 0) (hG : dmI dmX (XG X)) (hnl : nLof X = 3) (fu : Nat) (M : Mem) (t0 : Int32) : J X (ZN X foI) (FX1_calm_45 fu (XD X) M t0) 45 [] [.int t0] M 0 0 := by
  unfold FX1_calm_45
  exact j_iret hC dX1_calm_45
set_option linter.unusedVariables false in
set_option maxRecDepth 100000 in
theorem wX1_calm_28 {X : JX} (hC : JC X cX1_calm RX1 (some .int) 1 12 0 0) (hG : dmI dmX (XG X)) (hnl : nLof X = 3) (fu : Nat) (kn4 : Mem × Int32 × Int32 → Option (Int32 × Mem)) (hk4 : ∀ (M : Mem) (x1 x2 : Int32), J X (ZN X foI) (kn4 (M, x1, x2)) 4 [(0, .ref (gadr (XG X) (4, 0, 0))), (1, .int x1), (2, .int x2)] [] M 0 0) (M : Mem) (x2 t0 t1 : Int32) : J X (ZN X foI) (FX1_calm_28 fu (XD X) kn4 M x2 t0 t1) 28 [(0, .ref (gadr (XG X) (4, 0, 0))), (2, .int x2)] [.int t0, .int t1] M 0 0 := by
  unfold FX1_calm_28
  refine j_iand hC dX1_calm_28 ?_
  refine j_ltT (fun y29 => ?_)
  refine j_istore_n hC [(1, .int y29), (0, .ref (gadr (XG X) (4, 0, 0))), (2, .int x2)] hnl dX1_calm_29 rfl rfl ?_
  refine j_iincL hC 2 (fun y30 => [(2, .int y30), (1, .int y29), (0, .ref (gadr (XG X) (4, 0, 0)))]) hnl dX1_calm_30 rfl (by decide) rfl (fun _ => rfl) (fun y30 => ?_)
  refine j_goto (tgt := 4) hC dX1_calm_33 (by decide) ?_
  exact j_sub [2, 1, 0] rfl (hk4 M y29 y30)
set_option linter.unusedVariables false in
set_option maxRecDepth 100000 in
theorem wgX1_calm_4 {X : JX} (hC : JC X cX1_calm RX1 (some .int) 1 12 0 0) (hG : dmI dmX (XG X)) (hnl : nLof X = 3) (fu : Nat) (kn4 : Mem × Int32 × Int32 → Option (Int32 × Mem)) (hk4 : ∀ (M : Mem) (x1 x2 : Int32), J X (ZN X foI) (kn4 (M, x1, x2)) 4 [(0, .ref (gadr (XG X) (4, 0, 0))), (1, .int x1), (2, .int x2)] [] M 0 0) (M : Mem) (x1 x2 : Int32) : J X (ZN X foI) (GX1_calm_4 fu (XD X) kn4 M x1 x2) 4 [(0, .ref (gadr (XG X) (4, 0, 0))), (1, .int x1), (2, .int x2)] [] M 0 0 := by
  unfold GX1_calm_4
  refine j_iload_n hC 2 dX1_calm_4 rfl ?_
  refine j_bipush (v := 12) hC dX1_calm_5 (by decide) ?_
  refine j_icmp_gt (tgt := 36) hC dX1_calm_7 (by decide) (fun h7 => ?_) (fun h7 => ?_)
  · refine j_iload_n hC 1 dX1_calm_36 rfl ?_
    refine j_if_eq (tgt := 44) hC dX1_calm_37 (by decide) (fun h37 => ?_) (fun h37 => ?_)
    · refine j_iconst (v := 0) hC dX1_calm_44 (by decide) ?_
      exact j_sub [] rfl (wX1_calm_45 hC hG hnl fu M 0)
    · refine j_iconst (v := 1) hC dX1_calm_40 (by decide) ?_
      refine j_goto (tgt := 45) hC dX1_calm_41 (by decide) ?_
      exact j_sub [] rfl (wX1_calm_45 hC hG hnl fu M 1)
  · refine j_iload_n hC 1 dX1_calm_10 rfl ?_
    refine j_aload_n hC 0 dX1_calm_11 rfl ?_
    refine j_getR (fk := 1) hC (dmY hG rfl) rfl rfl in_X1 rfl rfl q496 rfl dX1_calm_12 ?_
    refine j_getNR (fk := 4) hC (dmS hG (by decide) rfl) rfl rfl in_X3 rfl rfl q269 rfl dX1_calm_15 ?_
    refine j_iload_n hC 2 dX1_calm_18 rfl ?_
    refine j_iald hC (dmS hG (by decide) rfl) rfl dX1_calm_19 (fun h19 => ?_)
    refine j_if_ne (tgt := 27) hC dX1_calm_20 (by decide) (fun h20 => ?_) (fun h20 => ?_)
    · refine j_iconst (v := 1) hC dX1_calm_23 (by decide) ?_
      refine j_goto (tgt := 28) hC dX1_calm_24 (by decide) ?_
      exact j_sub [0, 2] rfl (wX1_calm_28 hC hG hnl fu kn4 hk4 M x2 1 x1)
    · refine j_iconst (v := 0) hC dX1_calm_27 (by decide) ?_
      exact j_sub [0, 2] rfl (wX1_calm_28 hC hG hnl fu kn4 hk4 M x2 0 x1)
set_option linter.unusedVariables false in
set_option maxRecDepth 100000 in
theorem wX1_calm_4 {X : JX} (hC : JC X cX1_calm RX1 (some .int) 1 12 0 0) (hG : dmI dmX (XG X)) (hnl : nLof X = 3) (fu : Nat) (M : Mem) (x1 x2 : Int32) : J X (ZN X foI) (FX1_calm_4 fu (XD X) M x1 x2) 4 [(0, .ref (gadr (XG X) (4, 0, 0))), (1, .int x1), (2, .int x2)] [] M 0 0 := by
  exact j_lp (lvf := fun z => [(0, .ref (gadr (XG X) (4, 0, 0))), (1, .int (z.2.1)), (2, .int (z.2.2))]) (Mf := fun z => z.1) (fun kn hk z => wgX1_calm_4 hC hG hnl fu kn (fun M x1 x2 => hk (M, x1, x2)) z.1 z.2.1 z.2.2) fu (M, x1, x2)
set_option linter.unusedVariables false in
set_option maxRecDepth 100000 in
theorem wX1_calm {X : JX} (hC : JC X cX1_calm RX1 (some .int) 1 12 0 0) (hG : dmI dmX (XG X)) (hnl : nLof X = 3) (fu : Nat) (M : Mem) : J X (ZN X foI) (FX1_calm fu (XD X) M) 0 [(0, .ref (gadr (XG X) (4, 0, 0)))] [] M 0 0 := by
  unfold FX1_calm
  refine j_iconst (v := 1) hC dX1_calm_0 (by decide) ?_
  refine j_istore_n hC [(1, .int 1), (0, .ref (gadr (XG X) (4, 0, 0)))] hnl dX1_calm_1 rfl rfl ?_
  refine j_iconst (v := 0) hC dX1_calm_2 (by decide) ?_
  refine j_istore_n hC [(2, .int 0), (1, .int 1), (0, .ref (gadr (XG X) (4, 0, 0)))] hnl dX1_calm_3 rfl rfl ?_
  exact j_sub [2, 1, 0] rfl (wX1_calm_4 hC hG hnl fu M 1 0)
set_option linter.unusedVariables false in
set_option maxRecDepth 100000 in
theorem mX1_calm (l : Launch) (Γ : xG) (hG : dmI dmX Γ) (fu : Nat) (D : List LDen) (M : Mem) (r : Int32 × Mem) (hr : FX1_calm fu D M = some r) : CN l yX1_calm (ws_ yX1_calm cX1_calm 3 (some .int)) 1 12 Γ D [.ref (gadr Γ (4, 0, 0))] M (foI r.1) r.2 := by
  refine CN.of (own := RX1) (lv0 := lv_args 0 [.ref (gadr Γ (4, 0, 0))]) (by decide +kernel) rfl (Nat.le_of_ble_eq_true rfl) rfl (fun X e1 e2 e3 e4 hC => ?_) r hr
  subst e1
  subst e2
  exact wX1_calm hC hG e4 fu M
set_option linter.unusedVariables false in
set_option maxRecDepth 100000 in
theorem wX1_count {X : JX} (hC : JC X cX1_count RX1 (some .int) 2 34 0 0) (hG : dmI dmX (XG X)) (hnl : nLof X = 2) (fu : Nat) (M : Mem) (x1 : Int32) : J X (ZN X foI) (FX1_count fu (XD X) M x1) 0 [(0, .ref (gadr (XG X) (4, 0, 0))), (1, .int x1)] [] M 0 0 := by
  unfold FX1_count
  refine j_iload_n hC 1 dX1_count_0 rfl ?_
  refine j_table (tgt := 192) (os := [75, 83, 91, 99, 107, 115, 123, 131, 139, 147, 155, 163, 168, 173, 186]) hC dX1_count_1 rfl rfl rfl (by decide) (by decide) ?_ ⟨?_, ?_, ?_, ?_, ?_, ?_, ?_, ?_, ?_, ?_, ?_, ?_, ?_, ?_, ?_, trivial⟩
  · refine j_iconst (v := (-1)) hC dX1_count_192 (by decide) ?_
    exact j_iret hC dX1_count_193
  · show J X (ZN X foI) _ 76 _ _ _ _ _
    refine j_aload_n hC 0 dX1_count_76 rfl ?_
    refine j_getR (fk := 1) hC (dmY hG rfl) rfl rfl in_X1 rfl rfl q496 rfl dX1_count_77 ?_
    refine j_getNI (fk := 7) hC (dmS hG (by decide) rfl) rfl rfl in_X3 rfl rfl q273 rfl dX1_count_80 ?_
    exact j_iret hC dX1_count_83
  · show J X (ZN X foI) _ 84 _ _ _ _ _
    refine j_aload_n hC 0 dX1_count_84 rfl ?_
    refine j_getR (fk := 1) hC (dmY hG rfl) rfl rfl in_X1 rfl rfl q496 rfl dX1_count_85 ?_
    refine j_getNI (fk := 8) hC (dmS hG (by decide) rfl) rfl rfl in_X3 rfl rfl q276 rfl dX1_count_88 ?_
    exact j_iret hC dX1_count_91
  · show J X (ZN X foI) _ 92 _ _ _ _ _
    refine j_aload_n hC 0 dX1_count_92 rfl ?_
    refine j_getR (fk := 1) hC (dmY hG rfl) rfl rfl in_X1 rfl rfl q496 rfl dX1_count_93 ?_
    refine j_getNI (fk := 9) hC (dmS hG (by decide) rfl) rfl rfl in_X3 rfl rfl q279 rfl dX1_count_96 ?_
    exact j_iret hC dX1_count_99
  · show J X (ZN X foI) _ 100 _ _ _ _ _
    refine j_aload_n hC 0 dX1_count_100 rfl ?_
    refine j_getR (fk := 1) hC (dmY hG rfl) rfl rfl in_X1 rfl rfl q496 rfl dX1_count_101 ?_
    refine j_getNI (fk := 11) hC (dmS hG (by decide) rfl) rfl rfl in_X3 rfl rfl q284 rfl dX1_count_104 ?_
    exact j_iret hC dX1_count_107
  · show J X (ZN X foI) _ 108 _ _ _ _ _
    refine j_aload_n hC 0 dX1_count_108 rfl ?_
    refine j_getR (fk := 1) hC (dmY hG rfl) rfl rfl in_X1 rfl rfl q496 rfl dX1_count_109 ?_
    refine j_getNI (fk := 10) hC (dmS hG (by decide) rfl) rfl rfl in_X3 rfl rfl q282 rfl dX1_count_112 ?_
    exact j_iret hC dX1_count_115
  · show J X (ZN X foI) _ 116 _ _ _ _ _
    refine j_aload_n hC 0 dX1_count_116 rfl ?_
    refine j_getR (fk := 1) hC (dmY hG rfl) rfl rfl in_X1 rfl rfl q496 rfl dX1_count_117 ?_
    refine j_getNI (fk := 17) hC (dmS hG (by decide) rfl) rfl rfl in_X3 rfl rfl q303 rfl dX1_count_120 ?_
    exact j_iret hC dX1_count_123
  · show J X (ZN X foI) _ 124 _ _ _ _ _
    refine j_aload_n hC 0 dX1_count_124 rfl ?_
    refine j_getR (fk := 1) hC (dmY hG rfl) rfl rfl in_X1 rfl rfl q496 rfl dX1_count_125 ?_
    refine j_getNI (fk := 16) hC (dmS hG (by decide) rfl) rfl rfl in_X3 rfl rfl q301 rfl dX1_count_128 ?_
    exact j_iret hC dX1_count_131
  · show J X (ZN X foI) _ 132 _ _ _ _ _
    refine j_aload_n hC 0 dX1_count_132 rfl ?_
    refine j_getR (fk := 1) hC (dmY hG rfl) rfl rfl in_X1 rfl rfl q496 rfl dX1_count_133 ?_
    refine j_getNI (fk := 12) hC (dmS hG (by decide) rfl) rfl rfl in_X3 rfl rfl q288 rfl dX1_count_136 ?_
    exact j_iret hC dX1_count_139
  · show J X (ZN X foI) _ 140 _ _ _ _ _
    refine j_aload_n hC 0 dX1_count_140 rfl ?_
    refine j_getR (fk := 1) hC (dmY hG rfl) rfl rfl in_X1 rfl rfl q496 rfl dX1_count_141 ?_
    refine j_getNI (fk := 13) hC (dmS hG (by decide) rfl) rfl rfl in_X3 rfl rfl q292 rfl dX1_count_144 ?_
    exact j_iret hC dX1_count_147
  · show J X (ZN X foI) _ 148 _ _ _ _ _
    refine j_aload_n hC 0 dX1_count_148 rfl ?_
    refine j_getR (fk := 1) hC (dmY hG rfl) rfl rfl in_X1 rfl rfl q496 rfl dX1_count_149 ?_
    refine j_getNI (fk := 14) hC (dmS hG (by decide) rfl) rfl rfl in_X3 rfl rfl q295 rfl dX1_count_152 ?_
    exact j_iret hC dX1_count_155
  · show J X (ZN X foI) _ 156 _ _ _ _ _
    refine j_aload_n hC 0 dX1_count_156 rfl ?_
    refine j_getR (fk := 1) hC (dmY hG rfl) rfl rfl in_X1 rfl rfl q496 rfl dX1_count_157 ?_
    refine j_getNI (fk := 15) hC (dmS hG (by decide) rfl) rfl rfl in_X3 rfl rfl q298 rfl dX1_count_160 ?_
    exact j_iret hC dX1_count_163
  · show J X (ZN X foI) _ 164 _ _ _ _ _
    refine j_aload_n hC 0 dX1_count_164 rfl ?_
    refine j_callV (nA := 0) (rest := []) hC [] rfl (fun r hr => mX1_openOnes (XL X) (XG X) hG fu (XD X) M r hr) q723 q725 qs6 q126 q726 (dmY hG rfl) rfl rfl (by decide +kernel) rfl rfl rfl rfl rfl rfl dX1_count_165 (fun v165 => [.int v165]) (fun _ => rfl) (fun v165 M165 => ?_)
    exact j_iret hC dX1_count_168
  · show J X (ZN X foI) _ 169 _ _ _ _ _
    refine j_aload_n hC 0 dX1_count_169 rfl ?_
    refine j_callV (nA := 0) (rest := []) hC [] rfl (fun r hr => mX1_calm (XL X) (XG X) hG fu (XD X) M r hr) q727 q729 qs7 q126 q730 (dmY hG rfl) rfl rfl (by decide +kernel) rfl rfl rfl rfl rfl rfl dX1_count_170 (fun v170 => [.int v170]) (fun _ => rfl) (fun v170 M170 => ?_)
    exact j_iret hC dX1_count_173
  · show J X (ZN X foI) _ 174 _ _ _ _ _
    refine j_bipush (v := 60) hC dX1_count_174 (by decide) ?_
    refine j_aload_n hC 0 dX1_count_176 rfl ?_
    refine j_getR (fk := 1) hC (dmY hG rfl) rfl rfl in_X1 rfl rfl q496 rfl dX1_count_177 ?_
    refine j_getNI (fk := 19) hC (dmS hG (by decide) rfl) rfl rfl in_X3 rfl rfl q307 rfl dX1_count_180 ?_
    refine j_min hC q731 q640 q155 q641 dX1_count_183 rfl (Nat.le_of_ble_eq_true rfl) (Nat.le_of_ble_eq_true rfl) (Nat.le_of_ble_eq_true rfl) ?_
    exact j_iret hC dX1_count_186
  · show J X (ZN X foI) _ 187 _ _ _ _ _
    refine j_aload_n hC 0 dX1_count_187 rfl ?_
    refine j_getI (fk := 13) hC (dmY hG rfl) rfl rfl in_X1 rfl rfl q509 rfl dX1_count_188 ?_
    exact j_iret hC dX1_count_191
set_option linter.unusedVariables false in
set_option maxRecDepth 100000 in
theorem mX1_count (l : Launch) (Γ : xG) (hG : dmI dmX Γ) (fu : Nat) (D : List LDen) (M : Mem) (x1 : Int32) (r : Int32 × Mem) (hr : FX1_count fu D M x1 = some r) : CN l yX1_count (ws_ yX1_count cX1_count 2 (some .int)) 2 34 Γ D [.ref (gadr Γ (4, 0, 0)), .int x1] M (foI r.1) r.2 := by
  refine CN.of (own := RX1) (lv0 := lv_args 0 [.ref (gadr Γ (4, 0, 0)), .int x1]) (by decide +kernel) rfl (Nat.le_of_ble_eq_true rfl) rfl (fun X e1 e2 e3 e4 hC => ?_) r hr
  subst e1
  subst e2
  exact wX1_count hC hG e4 fu M x1
set_option linter.unusedVariables false in
set_option maxRecDepth 100000 in
theorem wX1_took {X : JX} (hC : JC X cX1_took RX1 (some .int) 1 12 0 0) (hG : dmI dmX (XG X)) (hnl : nLof X = 2) (fu : Nat) (M : Mem) : J X (ZN X foI) (FX1_took fu (XD X) M) 0 [(0, .ref (gadr (XG X) (4, 0, 0)))] [] M 0 0 := by
  unfold FX1_took
  refine j_aload_n hC 0 dX1_took_0 rfl ?_
  refine j_getR (fk := 0) hC (dmY hG rfl) rfl rfl in_X1 rfl rfl q495 rfl dX1_took_1 ?_
  refine j_getNI (fk := 6) hC (dmY hG rfl) rfl rfl in_X2 rfl rfl q431 rfl dX1_took_4 ?_
  refine j_ltT (fun y7 => ?_)
  refine j_istore_n hC [(1, .int y7), (0, .ref (gadr (XG X) (4, 0, 0)))] hnl dX1_took_7 rfl rfl ?_
  refine j_aload_n hC 1 dX1_took_8 rfl ?_
  refine j_getR (fk := 0) hC (dmY hG rfl) rfl rfl in_X1 rfl rfl q495 rfl dX1_took_9 ?_
  refine j_iconst (v := 0) hC dX1_took_12 (by decide) ?_
  refine j_putN (fk := 6) (ty := .int) hC (dmY hG rfl) rfl rfl in_X2 rfl rfl q431 tyX2 tyX2_ok nmX2 rfl rfl (by decide +kernel) rfl rfl dX1_took_13 ?_
  refine j_lt (fun M13 => ?_)
  refine j_iload_n hC 0 dX1_took_16 rfl ?_
  exact j_iret hC dX1_took_17
set_option linter.unusedVariables false in
set_option maxRecDepth 100000 in
theorem mX1_took (l : Launch) (Γ : xG) (hG : dmI dmX Γ) (fu : Nat) (D : List LDen) (M : Mem) (r : Int32 × Mem) (hr : FX1_took fu D M = some r) : CN l yX1_took (ws_ yX1_took cX1_took 2 (some .int)) 1 12 Γ D [.ref (gadr Γ (4, 0, 0))] M (foI r.1) r.2 := by
  refine CN.of (own := RX1) (lv0 := lv_args 0 [.ref (gadr Γ (4, 0, 0))]) (by decide +kernel) rfl (Nat.le_of_ble_eq_true rfl) rfl (fun X e1 e2 e3 e4 hC => ?_) r hr
  subst e1
  subst e2
  exact wX1_took hC hG e4 fu M
set_option linter.unusedVariables false in
set_option maxRecDepth 100000 in
theorem wX1_mayBe {X : JX} (hC : JC X cX1_mayBe RX1 none 6 93 1 6) (hT : JT X) (hG : dmI dmX (XG X)) (hnl : nLof X = 1) (fu : Nat) (M : Mem) (x0 : Int32) : J X (ZT X foV 1 6) (FX1_mayBe fu (XD X) M x0) 0 [(0, .int x0)] [] M 0 0 := by
  unfold FX1_mayBe
  refine j_iload_n hC 0 dX1_mayBe_0 rfl ?_
  refine j_if_ne (tgt := 12) hC dX1_mayBe_1 (by decide) (fun h1 => ?_) (fun h1 => ?_)
  · exact j_throw0 hC hT (en := 2) (ik := 69) (ic := 71) (names := ["java/lang/RuntimeException", "java/lang/Exception"]) (by decide +kernel) (by decide +kernel) (by decide) q896 q143 (tbl_in _ [131, 371, 380, 388, 391, 393, 372, 373, 164, 165, 374, 379, 389, 410, 361, 411, 363, 412, 365, 375, 377, 367, 906, 907, 908, 885, 352, 885, 886, 887, 888, 354, 888, 889, 890, 372, 356, 905, 897, 898, 899, 386, 900, 901, 902, 903, 370, 369, 904] (by decide +kernel)) (by decide +kernel) dX1_mayBe_4 dX1_mayBe_7 dX1_mayBe_8 dX1_mayBe_11 (by decide) (Nat.le_of_ble_eq_true rfl) rfl rfl
  · exact j_vretT hC rfl rfl dX1_mayBe_12
set_option linter.unusedVariables false in
set_option maxRecDepth 100000 in
theorem mX1_mayBe (l : Launch) (hst : l.stackTraces = false) (Γ : xG) (hG : dmI dmX Γ) (fu : Nat) (D : List LDen) (M : Mem) (x0 : Int32) (r : TR) (hr : FX1_mayBe fu D M x0 = some r) : CT l yX1_mayBe (ws_ yX1_mayBe cX1_mayBe 1 none) 6 93 1 6 Γ D [.int x0] M foV r := by
  refine CT.of hst (own := RX1) (lv0 := lv_args 0 [.int x0]) (by decide +kernel) rfl (Nat.le_of_ble_eq_true rfl) rfl (fun X e1 e2 e3 e4 hC hT => ?_) r hr
  subst e1
  subst e2
  exact wX1_mayBe hC hT hG e4 fu M x0
set_option linter.unusedVariables false in
set_option maxRecDepth 100000 in
theorem wX1_mustBe {X : JX} (hC : JC X cX1_mustBe RX1 none 6 93 1 6) (hT : JT X) (hG : dmI dmX (XG X)) (hnl : nLof X = 1) (fu : Nat) (M : Mem) (x0 : Int32) : J X (ZT X foV 1 6) (FX1_mustBe fu (XD X) M x0) 0 [(0, .int x0)] [] M 0 0 := by
  unfold FX1_mustBe
  refine j_iload_n hC 0 dX1_mustBe_0 rfl ?_
  refine j_if_ne (tgt := 12) hC dX1_mustBe_1 (by decide) (fun h1 => ?_) (fun h1 => ?_)
  · exact j_throw0 hC hT (en := 3) (ik := 72) (ic := 74) (names := ["java/lang/RuntimeException", "java/lang/Exception"]) (by decide +kernel) (by decide +kernel) (by decide) q1096 q152 (tbl_in _ [131, 371, 380, 388, 391, 393, 372, 373, 164, 165, 374, 379, 389, 410, 361, 411, 363, 412, 365, 375, 377, 367, 1106, 1107, 1108, 885, 352, 885, 886, 887, 888, 354, 888, 889, 890, 372, 356, 1105, 1097, 1098, 1099, 385, 1100, 1101, 1102, 1103, 370, 369, 1104] (by decide +kernel)) (by decide +kernel) dX1_mustBe_4 dX1_mustBe_7 dX1_mustBe_8 dX1_mustBe_11 (by decide) (Nat.le_of_ble_eq_true rfl) rfl rfl
  · exact j_vretT hC rfl rfl dX1_mustBe_12
set_option linter.unusedVariables false in
set_option maxRecDepth 100000 in
theorem mX1_mustBe (l : Launch) (hst : l.stackTraces = false) (Γ : xG) (hG : dmI dmX Γ) (fu : Nat) (D : List LDen) (M : Mem) (x0 : Int32) (r : TR) (hr : FX1_mustBe fu D M x0 = some r) : CT l yX1_mustBe (ws_ yX1_mustBe cX1_mustBe 1 none) 6 93 1 6 Γ D [.int x0] M foV r := by
  refine CT.of hst (own := RX1) (lv0 := lv_args 0 [.int x0]) (by decide +kernel) rfl (Nat.le_of_ble_eq_true rfl) rfl (fun X e1 e2 e3 e4 hC hT => ?_) r hr
  subst e1
  subst e2
  exact wX1_mustBe hC hT hG e4 fu M x0
set_option linter.unusedVariables false in
set_option maxRecDepth 100000 in
theorem wX1_birdAt {X : JX} (hC : JC X cX1_birdAt RX1 (some (.object "FeatherYard$Bird")) 7 113 1 6) (hT : JT X) (hG : dmI dmX (XG X)) (hnl : nLof X = 2) (fu : Nat) (M : Mem) (x1 : Int32) : J X (ZT X (fun v => some (.ref (gadr (XG X) (1, 0, v.toNatClampNeg)))) 1 6) (FX1_birdAt fu (XD X) M x1) 0 [(0, .ref (gadr (XG X) (4, 0, 0))), (1, .int x1)] [] M 0 0 := by
  unfold FX1_birdAt
  refine j_iload_n hC 1 dX1_birdAt_0 rfl ?_
  refine j_iconst (v := 0) hC dX1_birdAt_1 (by decide) ?_
  refine j_aload_n hC 0 dX1_birdAt_2 rfl ?_
  refine j_getR (fk := 1) hC (dmY hG rfl) rfl rfl in_X1 rfl rfl q496 rfl dX1_birdAt_3 ?_
  refine j_getNI (fk := 7) hC (dmS hG (by decide) rfl) rfl rfl in_X3 rfl rfl q273 rfl dX1_birdAt_6 ?_
  refine j_iconst (v := 1) hC dX1_birdAt_9 (by decide) ?_
  refine j_isub hC dX1_birdAt_10 ?_
  refine j_callS (nA := 3) (rest := []) hC [.int x1, .int 0, .int ((M (0, 0, 0) 7) - 1)] rfl (fun r hr => mX1_isIn (XL X) (XG X) hG fu (XD X) M x1 0 ((M (0, 0, 0) 7) - 1) r hr) q558 q559 q126 q560 (by decide +kernel) rfl rfl rfl rfl rfl rfl dX1_birdAt_11 (fun v11 => [.int v11]) (fun _ => rfl) (fun v11 M11 => ?_)
  refine j_callST (nA := 1) (rest := []) hC hT [.int v11] rfl (fun r hr => mX1_mustBe (XL X) (JT.st hT) (XG X) hG fu (XD X) M11 v11 r hr) q1093 q1094 q126 q1095 (by decide +kernel) rfl rfl rfl rfl rfl rfl dX1_birdAt_14 (fun _ => []) (fun _ => rfl) (fun v14 M14 => ?_)
  refine j_aload_n hC 0 dX1_birdAt_17 rfl ?_
  refine j_getR (fk := 1) hC (dmY hG rfl) rfl rfl in_X1 rfl rfl q496 rfl dX1_birdAt_18 ?_
  refine j_getNR (fk := 0) hC (dmS hG (by decide) rfl) rfl rfl in_X3 rfl rfl q257 rfl dX1_birdAt_21 ?_
  refine j_iload_n hC 1 dX1_birdAt_24 rfl ?_
  refine j_aald3 (d := (1, 0, x1.toNatClampNeg)) hC (dmS hG (by decide) rfl) rfl rfl dX1_birdAt_25 (fun h25 => ?_)
  exact j_aretT hC rfl rfl rfl dX1_birdAt_26
set_option linter.unusedVariables false in
set_option maxRecDepth 100000 in
theorem mX1_birdAt (l : Launch) (hst : l.stackTraces = false) (Γ : xG) (hG : dmI dmX Γ) (fu : Nat) (D : List LDen) (M : Mem) (x1 : Int32) (r : TR) (hr : FX1_birdAt fu D M x1 = some r) : CT l yX1_birdAt (ws_ yX1_birdAt cX1_birdAt 2 (some (.object "FeatherYard$Bird"))) 7 113 1 6 Γ D [.ref (gadr Γ (4, 0, 0)), .int x1] M (fun v => some (.ref (gadr Γ (1, 0, v.toNatClampNeg)))) r := by
  refine CT.of hst (own := RX1) (lv0 := lv_args 0 [.ref (gadr Γ (4, 0, 0)), .int x1]) (by decide +kernel) rfl (Nat.le_of_ble_eq_true rfl) rfl (fun X e1 e2 e3 e4 hC hT => ?_) r hr
  subst e1
  subst e2
  exact wX1_birdAt hC hT hG e4 fu M x1
set_option linter.unusedVariables false in
set_option maxRecDepth 100000 in
theorem wX1_bird {X : JX} (hC : JC X cX1_bird RX1 (some .int) 8 134 2 12) (hT : JT X) (hG : dmI dmX (XG X)) (hnl : nLof X = 4) (fu : Nat) (M : Mem) (x1 x2 : Int32) : J X (ZT X foI 2 12) (FX1_bird fu (XD X) M x1 x2) 0 [(0, .ref (gadr (XG X) (4, 0, 0))), (1, .int x1), (2, .int x2)] [] M 0 0 := by
  unfold FX1_bird
  refine j_aload_n hC 0 dX1_bird_0 rfl ?_
  refine j_iload_n hC 1 dX1_bird_1 rfl ?_
  refine j_callVT (nA := 1) (rest := []) hC hT [.int x1] rfl (fun r hr => mX1_birdAt (XL X) (JT.st hT) (XG X) hG fu (XD X) M x1 r hr) q1089 q1091 qs30 q126 q1092 (dmY hG rfl) rfl rfl (by decide +kernel) rfl rfl rfl rfl rfl rfl dX1_bird_2 (fun v2 => [.ref (gadr (XG X) (1, 0, v2.toNatClampNeg))]) (fun _ => rfl) (fun v2 M2 => ?_)
  refine j_gd (fun h2 => ?_)
  refine j_astore_n hC [(3, .ref (gadr (XG X) (1, 0, v2.toNatClampNeg))), (0, .ref (gadr (XG X) (4, 0, 0))), (1, .int x1), (2, .int x2)] hnl dX1_bird_5 rfl rfl ?_
  refine j_iload_n hC 3 dX1_bird_6 rfl ?_
  refine j_table (tgt := 56) (os := [29, 34, 39, 44]) hC dX1_bird_7 rfl rfl rfl (by decide) (by decide) ?_ ⟨?_, ?_, ?_, ?_, trivial⟩
  · exact j_throw0 hC hT (en := 4) (ik := 75) (ic := 77) (names := ["java/lang/RuntimeException", "java/lang/Exception"]) (by decide +kernel) (by decide +kernel) (by decide) q1111 q154 (tbl_in _ [131, 371, 380, 388, 391, 393, 372, 373, 164, 165, 374, 379, 389, 410, 361, 411, 363, 412, 365, 375, 377, 367, 1121, 1122, 1123, 885, 352, 885, 886, 887, 888, 354, 888, 889, 890, 372, 356, 1120, 1112, 1113, 1114, 387, 1115, 1116, 1117, 1118, 370, 369, 1119] (by decide +kernel)) (by decide +kernel) dX1_bird_56 dX1_bird_59 dX1_bird_60 dX1_bird_63 (by decide) (Nat.le_of_ble_eq_true rfl) rfl rfl
  · show J X (ZT X foI 2 12) _ 36 _ _ _ _ _
    refine j_aload_n hC 0 dX1_bird_36 rfl ?_
    refine j_getNI (fk := 0) hC (dmB hG (by decide) (vin_lt h2)) rfl rfl in_X4 rfl rfl q203 rfl dX1_bird_37 ?_
    exact j_iretT hC rfl rfl dX1_bird_40
  · show J X (ZT X foI 2 12) _ 41 _ _ _ _ _
    refine j_aload_n hC 0 dX1_bird_41 rfl ?_
    refine j_getNI (fk := 1) hC (dmB hG (by decide) (vin_lt h2)) rfl rfl in_X4 rfl rfl q208 rfl dX1_bird_42 ?_
    exact j_iretT hC rfl rfl dX1_bird_45
  · show J X (ZT X foI 2 12) _ 46 _ _ _ _ _
    refine j_aload_n hC 0 dX1_bird_46 rfl ?_
    refine j_getNI (fk := 2) hC (dmB hG (by decide) (vin_lt h2)) rfl rfl in_X4 rfl rfl q211 rfl dX1_bird_47 ?_
    exact j_iretT hC rfl rfl dX1_bird_50
  · show J X (ZT X foI 2 12) _ 51 _ _ _ _ _
    refine j_aload_n hC 0 dX1_bird_51 rfl ?_
    refine j_getNI (fk := 3) hC (dmB hG (by decide) (vin_lt h2)) rfl rfl in_X4 rfl rfl q214 rfl dX1_bird_52 ?_
    exact j_iretT hC rfl rfl dX1_bird_55
set_option linter.unusedVariables false in
set_option maxRecDepth 100000 in
theorem mX1_bird (l : Launch) (hst : l.stackTraces = false) (Γ : xG) (hG : dmI dmX Γ) (fu : Nat) (D : List LDen) (M : Mem) (x1 x2 : Int32) (r : TR) (hr : FX1_bird fu D M x1 x2 = some r) : CT l yX1_bird (ws_ yX1_bird cX1_bird 4 (some .int)) 8 134 2 12 Γ D [.ref (gadr Γ (4, 0, 0)), .int x1, .int x2] M foI r := by
  refine CT.of hst (own := RX1) (lv0 := lv_args 0 [.ref (gadr Γ (4, 0, 0)), .int x1, .int x2]) (by decide +kernel) rfl (Nat.le_of_ble_eq_true rfl) rfl (fun X e1 e2 e3 e4 hC hT => ?_) r hr
  subst e1
  subst e2
  exact wX1_bird hC hT hG e4 fu M x1 x2
set_option linter.unusedVariables false in
set_option maxRecDepth 100000 in
theorem wX1_isCounsel {X : JX} (hC : JC X cX1_isCounsel RX1 none 7 113 1 6) (hT : JT X) (hG : dmI dmX (XG X)) (hnl : nLof X = 2) (fu : Nat) (M : Mem) (x1 : Int32) : J X (ZT X foV 1 6) (FX1_isCounsel fu (XD X) M x1) 0 [(0, .ref (gadr (XG X) (4, 0, 0))), (1, .int x1)] [] M 0 0 := by
  unfold FX1_isCounsel
  refine j_iload_n hC 1 dX1_isCounsel_0 rfl ?_
  refine j_iconst (v := 0) hC dX1_isCounsel_1 (by decide) ?_
  refine j_aload_n hC 0 dX1_isCounsel_2 rfl ?_
  refine j_getR (fk := 1) hC (dmY hG rfl) rfl rfl in_X1 rfl rfl q496 rfl dX1_isCounsel_3 ?_
  refine j_getNI (fk := 8) hC (dmS hG (by decide) rfl) rfl rfl in_X3 rfl rfl q276 rfl dX1_isCounsel_6 ?_
  refine j_iconst (v := 1) hC dX1_isCounsel_9 (by decide) ?_
  refine j_isub hC dX1_isCounsel_10 ?_
  refine j_callS (nA := 3) (rest := []) hC [.int x1, .int 0, .int ((M (0, 0, 0) 8) - 1)] rfl (fun r hr => mX1_isIn (XL X) (XG X) hG fu (XD X) M x1 0 ((M (0, 0, 0) 8) - 1) r hr) q558 q559 q126 q560 (by decide +kernel) rfl rfl rfl rfl rfl rfl dX1_isCounsel_11 (fun v11 => [.int v11]) (fun _ => rfl) (fun v11 M11 => ?_)
  refine j_callST (nA := 1) (rest := []) hC hT [.int v11] rfl (fun r hr => mX1_mustBe (XL X) (JT.st hT) (XG X) hG fu (XD X) M11 v11 r hr) q1093 q1094 q126 q1095 (by decide +kernel) rfl rfl rfl rfl rfl rfl dX1_isCounsel_14 (fun _ => []) (fun _ => rfl) (fun v14 M14 => ?_)
  exact j_vretT hC rfl rfl dX1_isCounsel_17
set_option linter.unusedVariables false in
set_option maxRecDepth 100000 in
theorem mX1_isCounsel (l : Launch) (hst : l.stackTraces = false) (Γ : xG) (hG : dmI dmX Γ) (fu : Nat) (D : List LDen) (M : Mem) (x1 : Int32) (r : TR) (hr : FX1_isCounsel fu D M x1 = some r) : CT l yX1_isCounsel (ws_ yX1_isCounsel cX1_isCounsel 2 none) 7 113 1 6 Γ D [.ref (gadr Γ (4, 0, 0)), .int x1] M foV r := by
  refine CT.of hst (own := RX1) (lv0 := lv_args 0 [.ref (gadr Γ (4, 0, 0)), .int x1]) (by decide +kernel) rfl (Nat.le_of_ble_eq_true rfl) rfl (fun X e1 e2 e3 e4 hC hT => ?_) r hr
  subst e1
  subst e2
  exact wX1_isCounsel hC hT hG e4 fu M x1
set_option linter.unusedVariables false in
set_option maxRecDepth 100000 in
theorem wX1_stock {X : JX} (hC : JC X cX1_stock RX1 (some .int) 8 134 2 12) (hT : JT X) (hG : dmI dmX (XG X)) (hnl : nLof X = 3) (fu : Nat) (M : Mem) (x1 x2 : Int32) : J X (ZT X foI 2 12) (FX1_stock fu (XD X) M x1 x2) 0 [(0, .ref (gadr (XG X) (4, 0, 0))), (1, .int x1), (2, .int x2)] [] M 0 0 := by
  unfold FX1_stock
  refine j_aload_n hC 0 dX1_stock_0 rfl ?_
  refine j_iload_n hC 1 dX1_stock_1 rfl ?_
  refine j_callVT (nA := 1) (rest := []) hC hT [.int x1] rfl (fun r hr => mX1_isCounsel (XL X) (JT.st hT) (XG X) hG fu (XD X) M x1 r hr) q1133 q1135 qs31 q126 q1136 (dmY hG rfl) rfl rfl (by decide +kernel) rfl rfl rfl rfl rfl rfl dX1_stock_2 (fun _ => []) (fun _ => rfl) (fun v2 M2 => ?_)
  refine j_aload_n hC 0 dX1_stock_5 rfl ?_
  refine j_iload_n hC 2 dX1_stock_6 rfl ?_
  refine j_callVT (nA := 1) (rest := []) hC hT [.int x2] rfl (fun r hr => mX1_birdAt (XL X) (JT.st hT) (XG X) hG fu (XD X) M2 x2 r hr) q1089 q1091 qs30 q126 q1092 (dmY hG rfl) rfl rfl (by decide +kernel) rfl rfl rfl rfl rfl rfl dX1_stock_7 (fun v7 => [.ref (gadr (XG X) (1, 0, v7.toNatClampNeg))]) (fun _ => rfl) (fun v7 M7 => ?_)
  refine j_gd (fun h7 => ?_)
  refine j_pop hC dX1_stock_10 rfl ?_
  refine j_aload_n hC 0 dX1_stock_11 rfl ?_
  refine j_getR (fk := 1) hC (dmY hG rfl) rfl rfl in_X1 rfl rfl q496 rfl dX1_stock_12 ?_
  refine j_iload_n hC 1 dX1_stock_15 rfl ?_
  refine j_iload_n hC 2 dX1_stock_16 rfl ?_
  refine j_callV (nA := 2) (rest := []) hC [.int x1, .int x2] rfl (fun r hr => mX3_stock (XL X) (XG X) hG fu (XD X) 0 (by decide) M7 x1 x2 r hr) q676 q677 q678 q128 q679 (dmS hG (by decide) rfl) rfl rfl (by decide +kernel) rfl rfl rfl rfl rfl rfl dX1_stock_17 (fun v17 => [.int v17]) (fun _ => rfl) (fun v17 M17 => ?_)
  exact j_iretT hC rfl rfl dX1_stock_20
set_option linter.unusedVariables false in
set_option maxRecDepth 100000 in
theorem mX1_stock (l : Launch) (hst : l.stackTraces = false) (Γ : xG) (hG : dmI dmX Γ) (fu : Nat) (D : List LDen) (M : Mem) (x1 x2 : Int32) (r : TR) (hr : FX1_stock fu D M x1 x2 = some r) : CT l yX1_stock (ws_ yX1_stock cX1_stock 3 (some .int)) 8 134 2 12 Γ D [.ref (gadr Γ (4, 0, 0)), .int x1, .int x2] M foI r := by
  refine CT.of hst (own := RX1) (lv0 := lv_args 0 [.ref (gadr Γ (4, 0, 0)), .int x1, .int x2]) (by decide +kernel) rfl (Nat.le_of_ble_eq_true rfl) rfl (fun X e1 e2 e3 e4 hC hT => ?_) r hr
  subst e1
  subst e2
  exact wX1_stock hC hT hG e4 fu M x1 x2
set_option linter.unusedVariables false in
set_option maxRecDepth 100000 in
theorem wX1_caseAt {X : JX} (hC : JC X cX1_caseAt RX1 (some (.object "FeatherYard$Case")) 7 113 1 6) (hT : JT X) (hG : dmI dmX (XG X)) (hnl : nLof X = 2) (fu : Nat) (M : Mem) (x1 : Int32) : J X (ZT X (fun v => some (.ref (gadr (XG X) (2, 0, v.toNatClampNeg)))) 1 6) (FX1_caseAt fu (XD X) M x1) 0 [(0, .ref (gadr (XG X) (4, 0, 0))), (1, .int x1)] [] M 0 0 := by
  unfold FX1_caseAt
  refine j_iload_n hC 1 dX1_caseAt_0 rfl ?_
  refine j_iconst (v := 0) hC dX1_caseAt_1 (by decide) ?_
  refine j_aload_n hC 0 dX1_caseAt_2 rfl ?_
  refine j_getR (fk := 1) hC (dmY hG rfl) rfl rfl in_X1 rfl rfl q496 rfl dX1_caseAt_3 ?_
  refine j_getNI (fk := 9) hC (dmS hG (by decide) rfl) rfl rfl in_X3 rfl rfl q279 rfl dX1_caseAt_6 ?_
  refine j_iconst (v := 1) hC dX1_caseAt_9 (by decide) ?_
  refine j_isub hC dX1_caseAt_10 ?_
  refine j_callS (nA := 3) (rest := []) hC [.int x1, .int 0, .int ((M (0, 0, 0) 9) - 1)] rfl (fun r hr => mX1_isIn (XL X) (XG X) hG fu (XD X) M x1 0 ((M (0, 0, 0) 9) - 1) r hr) q558 q559 q126 q560 (by decide +kernel) rfl rfl rfl rfl rfl rfl dX1_caseAt_11 (fun v11 => [.int v11]) (fun _ => rfl) (fun v11 M11 => ?_)
  refine j_callST (nA := 1) (rest := []) hC hT [.int v11] rfl (fun r hr => mX1_mustBe (XL X) (JT.st hT) (XG X) hG fu (XD X) M11 v11 r hr) q1093 q1094 q126 q1095 (by decide +kernel) rfl rfl rfl rfl rfl rfl dX1_caseAt_14 (fun _ => []) (fun _ => rfl) (fun v14 M14 => ?_)
  refine j_aload_n hC 0 dX1_caseAt_17 rfl ?_
  refine j_getR (fk := 1) hC (dmY hG rfl) rfl rfl in_X1 rfl rfl q496 rfl dX1_caseAt_18 ?_
  refine j_getNR (fk := 1) hC (dmS hG (by decide) rfl) rfl rfl in_X3 rfl rfl q260 rfl dX1_caseAt_21 ?_
  refine j_iload_n hC 1 dX1_caseAt_24 rfl ?_
  refine j_aald4 (d := (2, 0, x1.toNatClampNeg)) hC (dmS hG (by decide) rfl) rfl rfl dX1_caseAt_25 (fun h25 => ?_)
  exact j_aretT hC rfl rfl rfl dX1_caseAt_26
set_option linter.unusedVariables false in
set_option maxRecDepth 100000 in
theorem mX1_caseAt (l : Launch) (hst : l.stackTraces = false) (Γ : xG) (hG : dmI dmX Γ) (fu : Nat) (D : List LDen) (M : Mem) (x1 : Int32) (r : TR) (hr : FX1_caseAt fu D M x1 = some r) : CT l yX1_caseAt (ws_ yX1_caseAt cX1_caseAt 2 (some (.object "FeatherYard$Case"))) 7 113 1 6 Γ D [.ref (gadr Γ (4, 0, 0)), .int x1] M (fun v => some (.ref (gadr Γ (2, 0, v.toNatClampNeg)))) r := by
  refine CT.of hst (own := RX1) (lv0 := lv_args 0 [.ref (gadr Γ (4, 0, 0)), .int x1]) (by decide +kernel) rfl (Nat.le_of_ble_eq_true rfl) rfl (fun X e1 e2 e3 e4 hC hT => ?_) r hr
  subst e1
  subst e2
  exact wX1_caseAt hC hT hG e4 fu M x1
set_option linter.unusedVariables false in
set_option maxRecDepth 100000 in
theorem wX1_matter {X : JX} (hC : JC X cX1_matter RX1 (some .int) 8 134 2 12) (hT : JT X) (hG : dmI dmX (XG X)) (hnl : nLof X = 4) (fu : Nat) (M : Mem) (x1 x2 : Int32) : J X (ZT X foI 2 12) (FX1_matter fu (XD X) M x1 x2) 0 [(0, .ref (gadr (XG X) (4, 0, 0))), (1, .int x1), (2, .int x2)] [] M 0 0 := by
  unfold FX1_matter
  refine j_aload_n hC 0 dX1_matter_0 rfl ?_
  refine j_iload_n hC 1 dX1_matter_1 rfl ?_
  refine j_callVT (nA := 1) (rest := []) hC hT [.int x1] rfl (fun r hr => mX1_caseAt (XL X) (JT.st hT) (XG X) hG fu (XD X) M x1 r hr) q1144 q1146 qs32 q126 q1147 (dmY hG rfl) rfl rfl (by decide +kernel) rfl rfl rfl rfl rfl rfl dX1_matter_2 (fun v2 => [.ref (gadr (XG X) (2, 0, v2.toNatClampNeg))]) (fun _ => rfl) (fun v2 M2 => ?_)
  refine j_gd (fun h2 => ?_)
  refine j_astore_n hC [(3, .ref (gadr (XG X) (2, 0, v2.toNatClampNeg))), (0, .ref (gadr (XG X) (4, 0, 0))), (1, .int x1), (2, .int x2)] hnl dX1_matter_5 rfl rfl ?_
  refine j_iload_n hC 3 dX1_matter_6 rfl ?_
  refine j_table (tgt := 84) (os := [37, 42, 47, 52, 57, 67]) hC dX1_matter_7 rfl rfl rfl (by decide) (by decide) ?_ ⟨?_, ?_, ?_, ?_, ?_, ?_, trivial⟩
  · exact j_throw0 hC hT (en := 4) (ik := 75) (ic := 77) (names := ["java/lang/RuntimeException", "java/lang/Exception"]) (by decide +kernel) (by decide +kernel) (by decide) q1111 q154 (tbl_in _ [131, 371, 380, 388, 391, 393, 372, 373, 164, 165, 374, 379, 389, 410, 361, 411, 363, 412, 365, 375, 377, 367, 1121, 1122, 1123, 885, 352, 885, 886, 887, 888, 354, 888, 889, 890, 372, 356, 1120, 1112, 1113, 1114, 387, 1115, 1116, 1117, 1118, 370, 369, 1119] (by decide +kernel)) (by decide +kernel) dX1_matter_84 dX1_matter_87 dX1_matter_88 dX1_matter_91 (by decide) (Nat.le_of_ble_eq_true rfl) rfl rfl
  · show J X (ZT X foI 2 12) _ 44 _ _ _ _ _
    refine j_aload_n hC 0 dX1_matter_44 rfl ?_
    refine j_getNI (fk := 0) hC (dmC hG (by decide) (vin_lt h2)) rfl rfl in_X5 rfl rfl q234 rfl dX1_matter_45 ?_
    exact j_iretT hC rfl rfl dX1_matter_48
  · show J X (ZT X foI 2 12) _ 49 _ _ _ _ _
    refine j_aload_n hC 0 dX1_matter_49 rfl ?_
    refine j_getNI (fk := 1) hC (dmC hG (by decide) (vin_lt h2)) rfl rfl in_X5 rfl rfl q238 rfl dX1_matter_50 ?_
    exact j_iretT hC rfl rfl dX1_matter_53
  · show J X (ZT X foI 2 12) _ 54 _ _ _ _ _
    refine j_aload_n hC 0 dX1_matter_54 rfl ?_
    refine j_getNI (fk := 2) hC (dmC hG (by decide) (vin_lt h2)) rfl rfl in_X5 rfl rfl q242 rfl dX1_matter_55 ?_
    exact j_iretT hC rfl rfl dX1_matter_58
  · show J X (ZT X foI 2 12) _ 59 _ _ _ _ _
    refine j_aload_n hC 0 dX1_matter_59 rfl ?_
    refine j_getNI (fk := 3) hC (dmC hG (by decide) (vin_lt h2)) rfl rfl in_X5 rfl rfl q245 rfl dX1_matter_60 ?_
    exact j_iretT hC rfl rfl dX1_matter_63
  · show J X (ZT X foI 2 12) _ 64 _ _ _ _ _
    refine j_aload_n hC 1 dX1_matter_64 rfl ?_
    refine j_getR (fk := 1) hC (dmY hG rfl) rfl rfl in_X1 rfl rfl q496 rfl dX1_matter_65 ?_
    refine j_iload_n hC 2 dX1_matter_68 rfl ?_
    refine j_iconst (v := 0) hC dX1_matter_69 (by decide) ?_
    refine j_callV (nA := 2) (rest := []) hC [.int x1, .int 0] rfl (fun r hr => mX3_choices (XL X) (XG X) hG fu (XD X) 0 (by decide) M2 x1 0 r hr) q1148 q1149 q1150 q128 q1151 (dmS hG (by decide) rfl) rfl rfl (by decide +kernel) rfl rfl rfl rfl rfl rfl dX1_matter_70 (fun v70 => [.int v70]) (fun _ => rfl) (fun v70 M70 => ?_)
    exact j_iretT hC rfl rfl dX1_matter_73
  · show J X (ZT X foI 2 12) _ 74 _ _ _ _ _
    refine j_aload_n hC 1 dX1_matter_74 rfl ?_
    refine j_getR (fk := 1) hC (dmY hG rfl) rfl rfl in_X1 rfl rfl q496 rfl dX1_matter_75 ?_
    refine j_iload_n hC 2 dX1_matter_78 rfl ?_
    refine j_iconst (v := 1) hC dX1_matter_79 (by decide) ?_
    refine j_callV (nA := 2) (rest := []) hC [.int x1, .int 1] rfl (fun r hr => mX3_choices (XL X) (XG X) hG fu (XD X) 0 (by decide) M2 x1 1 r hr) q1148 q1149 q1150 q128 q1151 (dmS hG (by decide) rfl) rfl rfl (by decide +kernel) rfl rfl rfl rfl rfl rfl dX1_matter_80 (fun v80 => [.int v80]) (fun _ => rfl) (fun v80 M80 => ?_)
    exact j_iretT hC rfl rfl dX1_matter_83
set_option linter.unusedVariables false in
set_option maxRecDepth 100000 in
theorem mX1_matter (l : Launch) (hst : l.stackTraces = false) (Γ : xG) (hG : dmI dmX Γ) (fu : Nat) (D : List LDen) (M : Mem) (x1 x2 : Int32) (r : TR) (hr : FX1_matter fu D M x1 x2 = some r) : CT l yX1_matter (ws_ yX1_matter cX1_matter 4 (some .int)) 8 134 2 12 Γ D [.ref (gadr Γ (4, 0, 0)), .int x1, .int x2] M foI r := by
  refine CT.of hst (own := RX1) (lv0 := lv_args 0 [.ref (gadr Γ (4, 0, 0)), .int x1, .int x2]) (by decide +kernel) rfl (Nat.le_of_ble_eq_true rfl) rfl (fun X e1 e2 e3 e4 hC hT => ?_) r hr
  subst e1
  subst e2
  exact wX1_matter hC hT hG e4 fu M x1 x2
set_option linter.unusedVariables false in
set_option maxRecDepth 100000 in
theorem wX1_wind {X : JX} (hC : JC X cX1_wind RX1 (some .int) 7 113 1 6) (hT : JT X) (hG : dmI dmX (XG X)) (hnl : nLof X = 2) (fu : Nat) (M : Mem) (x1 : Int32) : J X (ZT X foI 1 6) (FX1_wind fu (XD X) M x1) 0 [(0, .ref (gadr (XG X) (4, 0, 0))), (1, .int x1)] [] M 0 0 := by
  unfold FX1_wind
  refine j_iload_n hC 1 dX1_wind_0 rfl ?_
  refine j_iconst (v := 0) hC dX1_wind_1 (by decide) ?_
  refine j_bipush (v := 12) hC dX1_wind_2 (by decide) ?_
  refine j_callS (nA := 3) (rest := []) hC [.int x1, .int 0, .int 12] rfl (fun r hr => mX1_isIn (XL X) (XG X) hG fu (XD X) M x1 0 12 r hr) q558 q559 q126 q560 (by decide +kernel) rfl rfl rfl rfl rfl rfl dX1_wind_4 (fun v4 => [.int v4]) (fun _ => rfl) (fun v4 M4 => ?_)
  refine j_callST (nA := 1) (rest := []) hC hT [.int v4] rfl (fun r hr => mX1_mustBe (XL X) (JT.st hT) (XG X) hG fu (XD X) M4 v4 r hr) q1093 q1094 q126 q1095 (by decide +kernel) rfl rfl rfl rfl rfl rfl dX1_wind_7 (fun _ => []) (fun _ => rfl) (fun v7 M7 => ?_)
  refine j_aload_n hC 0 dX1_wind_10 rfl ?_
  refine j_getR (fk := 1) hC (dmY hG rfl) rfl rfl in_X1 rfl rfl q496 rfl dX1_wind_11 ?_
  refine j_getNR (fk := 4) hC (dmS hG (by decide) rfl) rfl rfl in_X3 rfl rfl q269 rfl dX1_wind_14 ?_
  refine j_iload_n hC 1 dX1_wind_17 rfl ?_
  refine j_iald hC (dmS hG (by decide) rfl) rfl dX1_wind_18 (fun h18 => ?_)
  exact j_iretT hC rfl rfl dX1_wind_19
set_option linter.unusedVariables false in
set_option maxRecDepth 100000 in
theorem mX1_wind (l : Launch) (hst : l.stackTraces = false) (Γ : xG) (hG : dmI dmX Γ) (fu : Nat) (D : List LDen) (M : Mem) (x1 : Int32) (r : TR) (hr : FX1_wind fu D M x1 = some r) : CT l yX1_wind (ws_ yX1_wind cX1_wind 2 (some .int)) 7 113 1 6 Γ D [.ref (gadr Γ (4, 0, 0)), .int x1] M foI r := by
  refine CT.of hst (own := RX1) (lv0 := lv_args 0 [.ref (gadr Γ (4, 0, 0)), .int x1]) (by decide +kernel) rfl (Nat.le_of_ble_eq_true rfl) rfl (fun X e1 e2 e3 e4 hC hT => ?_) r hr
  subst e1
  subst e2
  exact wX1_wind hC hT hG e4 fu M x1
set_option linter.unusedVariables false in
set_option maxRecDepth 100000 in
theorem wX1_must {X : JX} (hC : JC X cX1_must RX1 none 6 93 1 6) (hT : JT X) (hG : dmI dmX (XG X)) (hnl : nLof X = 1) (fu : Nat) (M : Mem) (x0 : Int32) : J X (ZT X foV 1 6) (FX1_must fu (XD X) M x0) 0 [(0, .int x0)] [] M 0 0 := by
  unfold FX1_must
  refine j_iload_n hC 0 dX1_must_0 rfl ?_
  refine j_if_ne (tgt := 12) hC dX1_must_1 (by decide) (fun h1 => ?_) (fun h1 => ?_)
  · exact j_throw0 hC hT (en := 1) (ik := 66) (ic := 68) (names := ["java/lang/RuntimeException", "java/lang/Exception"]) (by decide +kernel) (by decide +kernel) (by decide) q872 q142 (tbl_in _ [131, 371, 380, 388, 391, 393, 372, 373, 164, 165, 374, 379, 389, 410, 361, 411, 363, 412, 365, 375, 377, 367, 882, 883, 884, 885, 352, 885, 886, 887, 888, 354, 888, 889, 890, 372, 356, 881, 873, 874, 875, 383, 876, 877, 878, 879, 370, 369, 880] (by decide +kernel)) (by decide +kernel) dX1_must_4 dX1_must_7 dX1_must_8 dX1_must_11 (by decide) (Nat.le_of_ble_eq_true rfl) rfl rfl
  · exact j_vretT hC rfl rfl dX1_must_12
set_option linter.unusedVariables false in
set_option maxRecDepth 100000 in
theorem mX1_must (l : Launch) (hst : l.stackTraces = false) (Γ : xG) (hG : dmI dmX Γ) (fu : Nat) (D : List LDen) (M : Mem) (x0 : Int32) (r : TR) (hr : FX1_must fu D M x0 = some r) : CT l yX1_must (ws_ yX1_must cX1_must 1 none) 6 93 1 6 Γ D [.int x0] M foV r := by
  refine CT.of hst (own := RX1) (lv0 := lv_args 0 [.int x0]) (by decide +kernel) rfl (Nat.le_of_ble_eq_true rfl) rfl (fun X e1 e2 e3 e4 hC hT => ?_) r hr
  subst e1
  subst e2
  exact wX1_must hC hT hG e4 fu M x0
set_option linter.unusedVariables false in
set_option maxRecDepth 100000 in
theorem wX1_moves_77 {X : JX} (hC : JC X cX1_moves RX1 (some .int) 37 1386 3 18) (hT : JT X) (hG : dmI dmX (XG X)) (hnl : nLof X = 6) (fu : Nat) (M : Mem) (t0 : Int32) : J X (ZT X foI 3 18) (FX1_moves_77 fu (XD X) M t0) 77 [] [.int t0] M 3 18 := by
  unfold FX1_moves_77
  exact j_iretT hC rfl rfl dX1_moves_77
set_option linter.unusedVariables false in
set_option maxRecDepth 100000 in
theorem wX1_moves_31 {X : JX} (hC : JC X cX1_moves RX1 (some .int) 37 1386 3 18) (hT : JT X) (hG : dmI dmX (XG X)) (hnl : nLof X = 6) (fu : Nat) (M : Mem) (x1 x2 x3 x4 x5 t0 : Int32) : J X (ZT X foI 3 18) (FX1_moves_31 fu (XD X) M x1 x2 x3 x4 x5 t0) 31 [(0, .ref (gadr (XG X) (4, 0, 0))), (1, .int x1), (2, .int x2), (3, .int x3), (4, .int x4), (5, .int x5)] [.int t0] M 1 6 := by
  unfold FX1_moves_31
  refine j_callST (nA := 1) (rest := []) hC hT [.int t0] rfl (fun r hr => mX1_mustBe (XL X) (JT.st hT) (XG X) hG fu (XD X) M t0 r hr) q1093 q1094 q126 q1095 (by decide +kernel) rfl rfl rfl rfl rfl rfl dX1_moves_31 (fun _ => []) (fun _ => rfl) (fun v31 M31 => ?_)
  refine j_iload hC 4 dX1_moves_34 rfl ?_
  refine j_iconst (v := 0) hC dX1_moves_36 (by decide) ?_
  refine j_bipush (v := 7) hC dX1_moves_37 (by decide) ?_
  refine j_callS (nA := 3) (rest := []) hC [.int x4, .int 0, .int 7] rfl (fun r hr => mX1_isIn (XL X) (XG X) hG fu (XD X) M31 x4 0 7 r hr) q558 q559 q126 q560 (by decide +kernel) rfl rfl rfl rfl rfl rfl dX1_moves_39 (fun v39 => [.int v39]) (fun _ => rfl) (fun v39 M39 => ?_)
  refine j_callST (nA := 1) (rest := []) hC hT [.int v39] rfl (fun r hr => mX1_must (XL X) (JT.st hT) (XG X) hG fu (XD X) M39 v39 r hr) q1167 q1168 q126 q1169 (by decide +kernel) rfl rfl rfl rfl rfl rfl dX1_moves_42 (fun _ => []) (fun _ => rfl) (fun v42 M42 => ?_)
  refine j_iload hC 5 dX1_moves_45 rfl ?_
  refine j_if_eq (tgt := 65) hC dX1_moves_47 (by decide) (fun h47 => ?_) (fun h47 => ?_)
  · refine j_aload_n hC 0 dX1_moves_65 rfl ?_
    refine j_getR (fk := 1) hC (dmY hG rfl) rfl rfl in_X1 rfl rfl q496 rfl dX1_moves_66 ?_
    refine j_iload_n hC 1 dX1_moves_69 rfl ?_
    refine j_iload_n hC 2 dX1_moves_70 rfl ?_
    refine j_iload_n hC 3 dX1_moves_71 rfl ?_
    refine j_iload hC 4 dX1_moves_72 rfl ?_
    refine j_callV (nA := 4) (rest := []) hC [.int x1, .int x2, .int x3, .int x4] rfl (fun r hr => mX3_sinks (XL X) (XG X) hG fu (XD X) 0 (by decide) M42 x1 x2 x3 x4 r hr) q1171 q578 q579 q128 q580 (dmS hG (by decide) rfl) rfl rfl (by decide +kernel) rfl rfl rfl rfl rfl rfl dX1_moves_74 (fun v74 => [.int v74]) (fun _ => rfl) (fun v74 M74 => ?_)
    exact j_sub [] rfl (wX1_moves_77 hC hT hG hnl fu M74 v74)
  · refine j_aload_n hC 0 dX1_moves_50 rfl ?_
    refine j_getR (fk := 1) hC (dmY hG rfl) rfl rfl in_X1 rfl rfl q496 rfl dX1_moves_51 ?_
    refine j_iload_n hC 1 dX1_moves_54 rfl ?_
    refine j_iload_n hC 2 dX1_moves_55 rfl ?_
    refine j_iload_n hC 3 dX1_moves_56 rfl ?_
    refine j_iload hC 4 dX1_moves_57 rfl ?_
    refine j_callV (nA := 4) (rest := []) hC [.int x1, .int x2, .int x3, .int x4] rfl (fun r hr => mX3_carried (XL X) (XG X) hG fu (XD X) 0 (by decide) M42 x1 x2 x3 x4 r hr) q1170 q646 q647 q128 q648 (dmS hG (by decide) rfl) rfl rfl (by decide +kernel) rfl rfl rfl rfl rfl rfl dX1_moves_59 (fun v59 => [.int v59]) (fun _ => rfl) (fun v59 M59 => ?_)
    refine j_goto (tgt := 77) hC dX1_moves_62 (by decide) ?_
    exact j_sub [] rfl (wX1_moves_77 hC hT hG hnl fu M59 v59)
set_option linter.unusedVariables false in
set_option maxRecDepth 100000 in
theorem wX1_moves_30 {X : JX} (hC : JC X cX1_moves RX1 (some .int) 37 1386 3 18) (hT : JT X) (hG : dmI dmX (XG X)) (hnl : nLof X = 6) (fu : Nat) (M : Mem) (x1 x2 x3 x4 x5 : Int32) : J X (ZT X foI 3 18) (FX1_moves_30 fu (XD X) M x1 x2 x3 x4 x5) 30 [(0, .ref (gadr (XG X) (4, 0, 0))), (1, .int x1), (2, .int x2), (3, .int x3), (4, .int x4), (5, .int x5)] [] M 1 6 := by
  unfold FX1_moves_30
  refine j_iconst (v := 0) hC dX1_moves_30 (by decide) ?_
  exact j_sub [0, 1, 2, 3, 4, 5] rfl (wX1_moves_31 hC hT hG hnl fu M x1 x2 x3 x4 x5 0)
set_option linter.unusedVariables false in
set_option maxRecDepth 100000 in
theorem wX1_moves {X : JX} (hC : JC X cX1_moves RX1 (some .int) 37 1386 3 18) (hT : JT X) (hG : dmI dmX (XG X)) (hnl : nLof X = 6) (fu : Nat) (M : Mem) (x1 x2 x3 x4 x5 : Int32) : J X (ZT X foI 3 18) (FX1_moves fu (XD X) M x1 x2 x3 x4 x5) 0 [(0, .ref (gadr (XG X) (4, 0, 0))), (1, .int x1), (2, .int x2), (3, .int x3), (4, .int x4), (5, .int x5)] [] M 0 0 := by
  unfold FX1_moves
  refine j_aload_n hC 0 dX1_moves_0 rfl ?_
  refine j_iload_n hC 1 dX1_moves_1 rfl ?_
  refine j_callVT (nA := 1) (rest := []) hC hT [.int x1] rfl (fun r hr => mX1_birdAt (XL X) (JT.st hT) (XG X) hG fu (XD X) M x1 r hr) q1089 q1091 qs30 q126 q1092 (dmY hG rfl) rfl rfl (by decide +kernel) rfl rfl rfl rfl rfl rfl dX1_moves_2 (fun v2 => [.ref (gadr (XG X) (1, 0, v2.toNatClampNeg))]) (fun _ => rfl) (fun v2 M2 => ?_)
  refine j_gd (fun h2 => ?_)
  refine j_pop hC dX1_moves_5 rfl ?_
  refine j_iload_n hC 2 dX1_moves_6 rfl ?_
  refine j_iconst (v := 1) hC dX1_moves_7 (by decide) ?_
  refine j_bipush (v := 12) hC dX1_moves_8 (by decide) ?_
  refine j_callS (nA := 3) (rest := []) hC [.int x2, .int 1, .int 12] rfl (fun r hr => mX1_isIn (XL X) (XG X) hG fu (XD X) M2 x2 1 12 r hr) q558 q559 q126 q560 (by decide +kernel) rfl rfl rfl rfl rfl rfl dX1_moves_10 (fun v10 => [.int v10]) (fun _ => rfl) (fun v10 M10 => ?_)
  refine j_if_eq (tgt := 30) hC dX1_moves_13 (by decide) (fun h13 => ?_) (fun h13 => ?_)
  · exact j_sub [0, 1, 2, 3, 4, 5] rfl (wX1_moves_30 hC hT hG hnl fu M10 x1 x2 x3 x4 x5)
  · refine j_iload_n hC 3 dX1_moves_16 rfl ?_
    refine j_iconst (v := 0) hC dX1_moves_17 (by decide) ?_
    refine j_bipush (v := 15) hC dX1_moves_18 (by decide) ?_
    refine j_callS (nA := 3) (rest := []) hC [.int x3, .int 0, .int 15] rfl (fun r hr => mX1_isIn (XL X) (XG X) hG fu (XD X) M10 x3 0 15 r hr) q558 q559 q126 q560 (by decide +kernel) rfl rfl rfl rfl rfl rfl dX1_moves_20 (fun v20 => [.int v20]) (fun _ => rfl) (fun v20 M20 => ?_)
    refine j_if_eq (tgt := 30) hC dX1_moves_23 (by decide) (fun h23 => ?_) (fun h23 => ?_)
    · exact j_sub [0, 1, 2, 3, 4, 5] rfl (wX1_moves_30 hC hT hG hnl fu M20 x1 x2 x3 x4 x5)
    · refine j_iconst (v := 1) hC dX1_moves_26 (by decide) ?_
      refine j_goto (tgt := 31) hC dX1_moves_27 (by decide) ?_
      exact j_sub [0, 1, 2, 3, 4, 5] rfl (wX1_moves_31 hC hT hG hnl fu M20 x1 x2 x3 x4 x5 1)
set_option linter.unusedVariables false in
set_option maxRecDepth 100000 in
theorem mX1_moves (l : Launch) (hst : l.stackTraces = false) (Γ : xG) (hG : dmI dmX Γ) (fu : Nat) (D : List LDen) (M : Mem) (x1 x2 x3 x4 x5 : Int32) (r : TR) (hr : FX1_moves fu D M x1 x2 x3 x4 x5 = some r) : CT l yX1_moves (ws_ yX1_moves cX1_moves 6 (some .int)) 37 1386 3 18 Γ D [.ref (gadr Γ (4, 0, 0)), .int x1, .int x2, .int x3, .int x4, .int x5] M foI r := by
  refine CT.of hst (own := RX1) (lv0 := lv_args 0 [.ref (gadr Γ (4, 0, 0)), .int x1, .int x2, .int x3, .int x4, .int x5]) (by decide +kernel) rfl (Nat.le_of_ble_eq_true rfl) rfl (fun X e1 e2 e3 e4 hC hT => ?_) r hr
  subst e1
  subst e2
  exact wX1_moves hC hT hG e4 fu M x1 x2 x3 x4 x5
set_option linter.unusedVariables false in
set_option maxRecDepth 100000 in
theorem wX1_can {X : JX} (hC : JC X cX1_can RX1 none 6 93 1 6) (hT : JT X) (hG : dmI dmX (XG X)) (hnl : nLof X = 1) (fu : Nat) (M : Mem) (x0 : Int32) : J X (ZT X foV 1 6) (FX1_can fu (XD X) M x0) 0 [(0, .int x0)] [] M 0 0 := by
  unfold FX1_can
  refine j_iload_n hC 0 dX1_can_0 rfl ?_
  refine j_if_ne (tgt := 12) hC dX1_can_1 (by decide) (fun h1 => ?_) (fun h1 => ?_)
  · exact j_throw0 hC hT (en := 5) (ik := 78) (ic := 80) (names := ["java/lang/RuntimeException", "java/lang/Exception"]) (by decide +kernel) (by decide +kernel) (by decide) q1183 q156 (tbl_in _ [131, 371, 380, 388, 391, 393, 372, 373, 164, 165, 374, 379, 389, 410, 361, 411, 363, 412, 365, 375, 377, 367, 1193, 1194, 1195, 885, 352, 885, 886, 887, 888, 354, 888, 889, 890, 372, 356, 1192, 1184, 1185, 1186, 384, 1187, 1188, 1189, 1190, 370, 369, 1191] (by decide +kernel)) (by decide +kernel) dX1_can_4 dX1_can_7 dX1_can_8 dX1_can_11 (by decide) (Nat.le_of_ble_eq_true rfl) rfl rfl
  · exact j_vretT hC rfl rfl dX1_can_12
set_option linter.unusedVariables false in
set_option maxRecDepth 100000 in
theorem mX1_can (l : Launch) (hst : l.stackTraces = false) (Γ : xG) (hG : dmI dmX Γ) (fu : Nat) (D : List LDen) (M : Mem) (x0 : Int32) (r : TR) (hr : FX1_can fu D M x0 = some r) : CT l yX1_can (ws_ yX1_can cX1_can 1 none) 6 93 1 6 Γ D [.int x0] M foV r := by
  refine CT.of hst (own := RX1) (lv0 := lv_args 0 [.int x0]) (by decide +kernel) rfl (Nat.le_of_ble_eq_true rfl) rfl (fun X e1 e2 e3 e4 hC hT => ?_) r hr
  subst e1
  subst e2
  exact wX1_can hC hT hG e4 fu M x0
set_option linter.unusedVariables false in
set_option maxRecDepth 100000 in
theorem wX1_remembers {X : JX} (hC : JC X cX1_remembers RX1 none 3 62 0 0) (hG : dmI dmX (XG X)) (hnl : nLof X = 1) (fu : Nat) (M : Mem) : J X (ZN X foV) (FX1_remembers fu (XD X) M) 0 [(0, .ref (gadr (XG X) (4, 0, 0)))] [] M 0 0 := by
  unfold FX1_remembers
  refine j_aload_n hC 0 dX1_remembers_0 rfl ?_
  refine j_getR (fk := 3) hC (dmY hG rfl) rfl rfl in_X1 rfl rfl q499 rfl dX1_remembers_1 ?_
  refine j_aload_n hC 0 dX1_remembers_4 rfl ?_
  refine j_getI (fk := 14) hC (dmY hG rfl) rfl rfl in_X1 rfl rfl q510 rfl dX1_remembers_5 ?_
  refine j_aald6 (d := (0, (((M (4, 0, 0) 14).toNatClampNeg) + 3), 0)) hC (dmY hG rfl) rfl rfl dX1_remembers_8 (fun h8 => ?_)
  refine j_aload_n hC 0 dX1_remembers_9 rfl ?_
  refine j_getR (fk := 1) hC (dmY hG rfl) rfl rfl in_X1 rfl rfl q496 rfl dX1_remembers_10 ?_
  refine j_callV (nA := 1) (rest := []) hC [.ref (gadr (XG X) (0, 0, 0))] rfl (fun r hr => mX3_be (XL X) (XG X) hG fu (XD X) (((M (4, 0, 0) 14).toNatClampNeg) + 3) (Nat.add_lt_add_right (vin_lt h8) 3) 0 (by decide) M r hr) q698 q699 q700 q128 q701 (dmS hG (Nat.add_lt_add_right (vin_lt h8) 3) rfl) rfl rfl (by decide +kernel) rfl rfl rfl rfl rfl rfl dX1_remembers_13 (fun _ => []) (fun _ => rfl) (fun v13 M13 => ?_)
  refine j_aload_n hC 0 dX1_remembers_16 rfl ?_
  refine j_aload_n hC 0 dX1_remembers_17 rfl ?_
  refine j_getI (fk := 14) hC (dmY hG rfl) rfl rfl in_X1 rfl rfl q510 rfl dX1_remembers_18 ?_
  refine j_iconst (v := 1) hC dX1_remembers_21 (by decide) ?_
  refine j_iadd hC dX1_remembers_22 ?_
  refine j_bipush (v := 12) hC dX1_remembers_23 (by decide) ?_
  refine j_iremL hC dX1_remembers_25 (by decide) ?_
  refine j_put (fk := 14) (ty := .int) hC (dmY hG rfl) rfl rfl in_X1 rfl rfl q510 tyX1 tyX1_ok nmX1 rfl rfl (by decide +kernel) rfl rfl dX1_remembers_26 ?_
  refine j_lt (fun M26 => ?_)
  refine j_aload_n hC 0 dX1_remembers_29 rfl ?_
  refine j_bipush (v := 12) hC dX1_remembers_30 (by decide) ?_
  refine j_aload_n hC 0 dX1_remembers_32 rfl ?_
  refine j_getI (fk := 13) hC (dmY hG rfl) rfl rfl in_X1 rfl rfl q509 rfl dX1_remembers_33 ?_
  refine j_iconst (v := 1) hC dX1_remembers_36 (by decide) ?_
  refine j_iadd hC dX1_remembers_37 ?_
  refine j_min hC q731 q640 q155 q641 dX1_remembers_38 rfl (Nat.le_of_ble_eq_true rfl) (Nat.le_of_ble_eq_true rfl) (Nat.le_of_ble_eq_true rfl) ?_
  refine j_put (fk := 13) (ty := .int) hC (dmY hG rfl) rfl rfl in_X1 rfl rfl q509 tyX1 tyX1_ok nmX1 rfl rfl (by decide +kernel) rfl rfl dX1_remembers_41 ?_
  refine j_lt (fun M41 => ?_)
  exact j_vret hC dX1_remembers_44
set_option linter.unusedVariables false in
set_option maxRecDepth 100000 in
theorem mX1_remembers (l : Launch) (Γ : xG) (hG : dmI dmX Γ) (fu : Nat) (D : List LDen) (M : Mem) (r : Int32 × Mem) (hr : FX1_remembers fu D M = some r) : CN l yX1_remembers (ws_ yX1_remembers cX1_remembers 1 none) 3 62 Γ D [.ref (gadr Γ (4, 0, 0))] M (foV r.1) r.2 := by
  refine CN.of (own := RX1) (lv0 := lv_args 0 [.ref (gadr Γ (4, 0, 0))]) (by decide +kernel) rfl (Nat.le_of_ble_eq_true rfl) rfl (fun X e1 e2 e3 e4 hC => ?_) r hr
  subst e1
  subst e2
  exact wX1_remembers hC hG e4 fu M
set_option linter.unusedVariables false in
set_option maxRecDepth 100000 in
theorem wX1_breathes_171 {X : JX} (hC : JC X cX1_breathes RX1 none 37 1386 0 0) (hG : dmI dmX (XG X)) (hnl : nLof X = 7) (fu : Nat) (M : Mem) : J X (ZN X foV) (FX1_breathes_171 fu (XD X) M) 171 [] [] M 0 0 := by
  unfold FX1_breathes_171
  exact j_vret hC dX1_breathes_171
set_option linter.unusedVariables false in
set_option maxRecDepth 100000 in
theorem wX1_breathes_109 {X : JX} (hC : JC X cX1_breathes RX1 none 37 1386 0 0) (hG : dmI dmX (XG X)) (hnl : nLof X = 7) (fu : Nat) (M : Mem) (x1 x3 t0 t1 t2 t3 : Int32) : J X (ZN X foV) (FX1_breathes_109 fu (XD X) M x1 x3 t0 t1 t2 t3) 109 [(0, .ref (gadr (XG X) (4, 0, 0))), (1, .int x1), (3, .int x3)] [.int t0, .int t1, .int t2, .int t3, .ref (gadr (XG X) (4, 0, 5))] M 0 0 := by
  unfold FX1_breathes_109
  refine j_iadd hC dX1_breathes_109 ?_
  refine j_iadd hC dX1_breathes_110 ?_
  refine j_iast hC (dmY hG rfl) rfl dX1_breathes_111 (fun h111 => ?_)
  refine j_lt (fun M111 => ?_)
  refine j_aload_n hC 0 dX1_breathes_112 rfl ?_
  refine j_getR (fk := 9) hC (dmY hG rfl) rfl rfl in_X1 rfl rfl q505 rfl dX1_breathes_113 ?_
  refine j_iload_n hC 1 dX1_breathes_116 rfl ?_
  refine j_iald hC (dmY hG rfl) rfl dX1_breathes_117 (fun h117 => ?_)
  refine j_iconst (v := 0) hC dX1_breathes_118 (by decide) ?_
  refine j_bipush (v := 15) hC dX1_breathes_119 (by decide) ?_
  refine j_callS (nA := 3) (rest := []) hC [.int (M111 (4, 0, 5) x1.toNatClampNeg), .int 0, .int 15] rfl (fun r hr => mX1_isIn (XL X) (XG X) hG fu (XD X) M111 (M111 (4, 0, 5) x1.toNatClampNeg) 0 15 r hr) q558 q559 q126 q560 (by decide +kernel) rfl rfl rfl rfl rfl rfl dX1_breathes_121 (fun v121 => [.int v121]) (fun _ => rfl) (fun v121 M121 => ?_)
  refine j_if_ne (tgt := 137) hC dX1_breathes_124 (by decide) (fun h124 => ?_) (fun h124 => ?_)
  · refine j_aload_n hC 0 dX1_breathes_127 rfl ?_
    refine j_getR (fk := 8) hC (dmY hG rfl) rfl rfl in_X1 rfl rfl q504 rfl dX1_breathes_128 ?_
    refine j_iload_n hC 1 dX1_breathes_131 rfl ?_
    refine j_iconst (v := 0) hC dX1_breathes_132 (by decide) ?_
    refine j_iast hC (dmY hG rfl) rfl dX1_breathes_133 (fun h133 => ?_)
    refine j_lt (fun M133 => ?_)
    refine j_goto (tgt := 171) hC dX1_breathes_134 (by decide) ?_
    exact j_sub [] rfl (wX1_breathes_171 hC hG hnl fu M133)
  · refine j_aload_n hC 0 dX1_breathes_137 rfl ?_
    refine j_getR (fk := 8) hC (dmY hG rfl) rfl rfl in_X1 rfl rfl q504 rfl dX1_breathes_138 ?_
    refine j_iload_n hC 1 dX1_breathes_141 rfl ?_
    refine j_iald hC (dmY hG rfl) rfl dX1_breathes_142 (fun h142 => ?_)
    refine j_if_gt (tgt := 171) hC dX1_breathes_143 (by decide) (fun h143 => ?_) (fun h143 => ?_)
    · exact j_sub [] rfl (wX1_breathes_171 hC hG hnl fu M121)
    · refine j_aload_n hC 0 dX1_breathes_146 rfl ?_
      refine j_getR (fk := 1) hC (dmY hG rfl) rfl rfl in_X1 rfl rfl q496 rfl dX1_breathes_147 ?_
      refine j_aload_n hC 0 dX1_breathes_150 rfl ?_
      refine j_getR (fk := 9) hC (dmY hG rfl) rfl rfl in_X1 rfl rfl q505 rfl dX1_breathes_151 ?_
      refine j_iload_n hC 1 dX1_breathes_154 rfl ?_
      refine j_iald hC (dmY hG rfl) rfl dX1_breathes_155 (fun h155 => ?_)
      refine j_callV (nA := 1) (rest := []) hC [.int (M121 (4, 0, 5) x1.toNatClampNeg)] rfl (fun r hr => mX3_isYard (XL X) (XG X) hG fu (XD X) 0 (by decide) M121 (M121 (4, 0, 5) x1.toNatClampNeg) r hr) q1215 q586 q587 q128 q588 (dmS hG (by decide) rfl) rfl rfl (by decide +kernel) rfl rfl rfl rfl rfl rfl dX1_breathes_156 (fun v156 => [.int v156]) (fun _ => rfl) (fun v156 M156 => ?_)
      refine j_if_eq (tgt := 171) hC dX1_breathes_159 (by decide) (fun h159 => ?_) (fun h159 => ?_)
      · exact j_sub [] rfl (wX1_breathes_171 hC hG hnl fu M156)
      · refine j_aload_n hC 0 dX1_breathes_162 rfl ?_
        refine j_getR (fk := 10) hC (dmY hG rfl) rfl rfl in_X1 rfl rfl q506 rfl dX1_breathes_163 ?_
        refine j_iload_n hC 1 dX1_breathes_166 rfl ?_
        refine j_iload_n hC 2 dX1_breathes_167 rfl ?_
        refine j_iconst (v := 1) hC dX1_breathes_168 (by decide) ?_
        refine j_iadd hC dX1_breathes_169 ?_
        refine j_iast hC (dmY hG rfl) rfl dX1_breathes_170 (fun h170 => ?_)
        refine j_lt (fun M170 => ?_)
        exact j_sub [] rfl (wX1_breathes_171 hC hG hnl fu M170)
set_option linter.unusedVariables false in
set_option maxRecDepth 100000 in
theorem wX1_breathes {X : JX} (hC : JC X cX1_breathes RX1 none 37 1386 0 0) (hG : dmI dmX (XG X)) (hnl : nLof X = 7) (fu : Nat) (M : Mem) (x1 x2 x3 : Int32) : J X (ZN X foV) (FX1_breathes fu (XD X) M x1 x2 x3) 0 [(0, .ref (gadr (XG X) (4, 0, 0))), (1, .int x1), (2, .int x2), (3, .int x3)] [] M 0 0 := by
  unfold FX1_breathes
  refine j_aload_n hC 0 dX1_breathes_0 rfl ?_
  refine j_getR (fk := 8) hC (dmY hG rfl) rfl rfl in_X1 rfl rfl q504 rfl dX1_breathes_1 ?_
  refine j_iload_n hC 1 dX1_breathes_4 rfl ?_
  refine j_iald hC (dmY hG rfl) rfl dX1_breathes_5 (fun h5 => ?_)
  refine j_if_gt (tgt := 10) hC dX1_breathes_6 (by decide) (fun h6 => ?_) (fun h6 => ?_)
  · refine j_aload_n hC 0 dX1_breathes_10 rfl ?_
    refine j_getR (fk := 1) hC (dmY hG rfl) rfl rfl in_X1 rfl rfl q496 rfl dX1_breathes_11 ?_
    refine j_iconst (v := 3) hC dX1_breathes_14 (by decide) ?_
    refine j_callV (nA := 1) (rest := []) hC [.int 3] rfl (fun r hr => mX3_draw (XL X) (XG X) hG fu (XD X) 0 (by decide) M 3 r hr) q1210 q1211 q1212 q128 q1213 (dmS hG (by decide) rfl) rfl rfl (by decide +kernel) rfl rfl rfl rfl rfl rfl dX1_breathes_15 (fun v15 => [.int v15]) (fun _ => rfl) (fun v15 M15 => ?_)
    refine j_iconst (v := 1) hC dX1_breathes_18 (by decide) ?_
    refine j_isub hC dX1_breathes_19 ?_
    refine j_ltT (fun y20 => ?_)
    refine j_istore hC [(4, .int y20), (0, .ref (gadr (XG X) (4, 0, 0))), (1, .int x1), (2, .int x2), (3, .int x3)] hnl dX1_breathes_20 rfl rfl ?_
    refine j_aload_n hC 1 dX1_breathes_22 rfl ?_
    refine j_getR (fk := 1) hC (dmY hG rfl) rfl rfl in_X1 rfl rfl q496 rfl dX1_breathes_23 ?_
    refine j_iload_n hC 3 dX1_breathes_26 rfl ?_
    refine j_aload_n hC 1 dX1_breathes_27 rfl ?_
    refine j_getR (fk := 8) hC (dmY hG rfl) rfl rfl in_X1 rfl rfl q504 rfl dX1_breathes_28 ?_
    refine j_iload_n hC 2 dX1_breathes_31 rfl ?_
    refine j_iald hC (dmY hG rfl) rfl dX1_breathes_32 (fun h32 => ?_)
    refine j_aload_n hC 1 dX1_breathes_33 rfl ?_
    refine j_getR (fk := 9) hC (dmY hG rfl) rfl rfl in_X1 rfl rfl q505 rfl dX1_breathes_34 ?_
    refine j_iload_n hC 2 dX1_breathes_37 rfl ?_
    refine j_iald hC (dmY hG rfl) rfl dX1_breathes_38 (fun h38 => ?_)
    refine j_iload_n hC 4 dX1_breathes_39 rfl ?_
    refine j_callV (nA := 4) (rest := []) hC [.int x2, .int (M15 (4, 0, 4) x1.toNatClampNeg), .int (M15 (4, 0, 5) x1.toNatClampNeg), .int x3] rfl (fun r hr => mX3_sinks (XL X) (XG X) hG fu (XD X) 0 (by decide) M15 x2 (M15 (4, 0, 4) x1.toNatClampNeg) (M15 (4, 0, 5) x1.toNatClampNeg) x3 r hr) q1171 q578 q579 q128 q580 (dmS hG (by decide) rfl) rfl rfl (by decide +kernel) rfl rfl rfl rfl rfl rfl dX1_breathes_40 (fun v40 => [.int v40]) (fun _ => rfl) (fun v40 M40 => ?_)
    refine j_istore hC [(5, .int v40), (4, .int y20), (0, .ref (gadr (XG X) (4, 0, 0))), (1, .int x1), (2, .int x2), (3, .int x3)] hnl dX1_breathes_43 rfl rfl ?_
    refine j_aload_n hC 2 dX1_breathes_45 rfl ?_
    refine j_getR (fk := 1) hC (dmY hG rfl) rfl rfl in_X1 rfl rfl q496 rfl dX1_breathes_46 ?_
    refine j_iload_n hC 4 dX1_breathes_49 rfl ?_
    refine j_aload_n hC 2 dX1_breathes_50 rfl ?_
    refine j_getR (fk := 8) hC (dmY hG rfl) rfl rfl in_X1 rfl rfl q504 rfl dX1_breathes_51 ?_
    refine j_iload_n hC 3 dX1_breathes_54 rfl ?_
    refine j_iald hC (dmY hG rfl) rfl dX1_breathes_55 (fun h55 => ?_)
    refine j_aload_n hC 2 dX1_breathes_56 rfl ?_
    refine j_getR (fk := 9) hC (dmY hG rfl) rfl rfl in_X1 rfl rfl q505 rfl dX1_breathes_57 ?_
    refine j_iload_n hC 3 dX1_breathes_60 rfl ?_
    refine j_iald hC (dmY hG rfl) rfl dX1_breathes_61 (fun h61 => ?_)
    refine j_iload_n hC 5 dX1_breathes_62 rfl ?_
    refine j_callV (nA := 4) (rest := []) hC [.int x2, .int (M40 (4, 0, 4) x1.toNatClampNeg), .int (M40 (4, 0, 5) x1.toNatClampNeg), .int x3] rfl (fun r hr => mX3_carried (XL X) (XG X) hG fu (XD X) 0 (by decide) M40 x2 (M40 (4, 0, 4) x1.toNatClampNeg) (M40 (4, 0, 5) x1.toNatClampNeg) x3 r hr) q1170 q646 q647 q128 q648 (dmS hG (by decide) rfl) rfl rfl (by decide +kernel) rfl rfl rfl rfl rfl rfl dX1_breathes_63 (fun v63 => [.int v63]) (fun _ => rfl) (fun v63 M63 => ?_)
    refine j_istore hC [(6, .int v63), (5, .int v40), (4, .int y20), (0, .ref (gadr (XG X) (4, 0, 0))), (1, .int x1), (2, .int x2), (3, .int x3)] hnl dX1_breathes_66 rfl rfl ?_
    refine j_aload_n hC 3 dX1_breathes_68 rfl ?_
    refine j_getR (fk := 8) hC (dmY hG rfl) rfl rfl in_X1 rfl rfl q504 rfl dX1_breathes_69 ?_
    refine j_iload_n hC 4 dX1_breathes_72 rfl ?_
    refine j_dup2 hC dX1_breathes_73 rfl rfl ?_
    refine j_iald hC (dmY hG rfl) rfl dX1_breathes_74 (fun h74 => ?_)
    refine j_iload hC 1 dX1_breathes_75 rfl ?_
    refine j_isub hC dX1_breathes_77 ?_
    refine j_iast hC (dmY hG rfl) rfl dX1_breathes_78 (fun h78 => ?_)
    refine j_lt (fun M78 => ?_)
    refine j_aload_n hC 3 dX1_breathes_79 rfl ?_
    refine j_getR (fk := 9) hC (dmY hG rfl) rfl rfl in_X1 rfl rfl q505 rfl dX1_breathes_80 ?_
    refine j_iload_n hC 4 dX1_breathes_83 rfl ?_
    refine j_dup2 hC dX1_breathes_84 rfl rfl ?_
    refine j_iald hC (dmY hG rfl) rfl dX1_breathes_85 (fun h85 => ?_)
    refine j_iload hC 0 dX1_breathes_86 rfl ?_
    refine j_aload_n hC 3 dX1_breathes_88 rfl ?_
    refine j_getR (fk := 1) hC (dmY hG rfl) rfl rfl in_X1 rfl rfl q496 rfl dX1_breathes_89 ?_
    refine j_getNR (fk := 0) hC (dmS hG (by decide) rfl) rfl rfl in_X3 rfl rfl q257 rfl dX1_breathes_92 ?_
    refine j_iload_n hC 5 dX1_breathes_95 rfl ?_
    refine j_aald3 (d := (1, 0, x2.toNatClampNeg)) hC (dmS hG (by decide) rfl) rfl rfl dX1_breathes_96 (fun h96 => ?_)
    refine j_getNI (fk := 1) hC (dmB hG (by decide) (vin_lt h96)) rfl rfl in_X4 rfl rfl q208 rfl dX1_breathes_97 ?_
    refine j_if_le (tgt := 108) hC dX1_breathes_100 (by decide) (fun h100 => ?_) (fun h100 => ?_)
    · refine j_iconst (v := 0) hC dX1_breathes_108 (by decide) ?_
      exact j_sub [3, 4, 6] rfl (wX1_breathes_109 hC hG hnl fu M78 x1 x3 0 v63 (M78 (4, 0, 5) x1.toNatClampNeg) x1)
    · refine j_iload hC 2 dX1_breathes_103 rfl ?_
      refine j_goto (tgt := 109) hC dX1_breathes_105 (by decide) ?_
      exact j_sub [3, 4, 6] rfl (wX1_breathes_109 hC hG hnl fu M78 x1 x3 y20 v63 (M78 (4, 0, 5) x1.toNatClampNeg) x1)
  · exact j_vret hC dX1_breathes_9
set_option linter.unusedVariables false in
set_option maxRecDepth 100000 in
theorem mX1_breathes (l : Launch) (Γ : xG) (hG : dmI dmX Γ) (fu : Nat) (D : List LDen) (M : Mem) (x1 x2 x3 : Int32) (r : Int32 × Mem) (hr : FX1_breathes fu D M x1 x2 x3 = some r) : CN l yX1_breathes (ws_ yX1_breathes cX1_breathes 7 none) 37 1386 Γ D [.ref (gadr Γ (4, 0, 0)), .int x1, .int x2, .int x3] M (foV r.1) r.2 := by
  refine CN.of (own := RX1) (lv0 := lv_args 0 [.ref (gadr Γ (4, 0, 0)), .int x1, .int x2, .int x3]) (by decide +kernel) rfl (Nat.le_of_ble_eq_true rfl) rfl (fun X e1 e2 e3 e4 hC => ?_) r hr
  subst e1
  subst e2
  exact wX1_breathes hC hG e4 fu M x1 x2 x3
set_option linter.unusedVariables false in
set_option maxRecDepth 100000 in
theorem wX1_flies_142 {X : JX} (hC : JC X cX1_flies RX1 (some .int) 38 1412 0 0) (hG : dmI dmX (XG X)) (hnl : nLof X = 4) (fu : Nat) (M : Mem) (t0 : Int32) : J X (ZN X foI) (FX1_flies_142 fu (XD X) M t0) 142 [] [.int t0] M 0 0 := by
  unfold FX1_flies_142
  exact j_iret hC dX1_flies_142
set_option linter.unusedVariables false in
set_option maxRecDepth 100000 in
theorem wX1_flies_137 {X : JX} (hC : JC X cX1_flies RX1 (some .int) 38 1412 0 0) (hG : dmI dmX (XG X)) (hnl : nLof X = 4) (fu : Nat) (M : Mem) : J X (ZN X foI) (FX1_flies_137 fu (XD X) M) 137 [] [] M 0 0 := by
  unfold FX1_flies_137
  refine j_iconst (v := 1) hC dX1_flies_137 (by decide) ?_
  refine j_goto (tgt := 142) hC dX1_flies_138 (by decide) ?_
  exact j_sub [] rfl (wX1_flies_142 hC hG hnl fu M 1)
set_option linter.unusedVariables false in
set_option maxRecDepth 100000 in
theorem wX1_flies_141 {X : JX} (hC : JC X cX1_flies RX1 (some .int) 38 1412 0 0) (hG : dmI dmX (XG X)) (hnl : nLof X = 4) (fu : Nat) (M : Mem) : J X (ZN X foI) (FX1_flies_141 fu (XD X) M) 141 [] [] M 0 0 := by
  unfold FX1_flies_141
  refine j_iconst (v := 2) hC dX1_flies_141 (by decide) ?_
  exact j_sub [] rfl (wX1_flies_142 hC hG hnl fu M 2)
set_option linter.unusedVariables false in
set_option maxRecDepth 100000 in
theorem wX1_flies_103 {X : JX} (hC : JC X cX1_flies RX1 (some .int) 38 1412 0 0) (hG : dmI dmX (XG X)) (hnl : nLof X = 4) (fu : Nat) (M : Mem) (t0 : Int32) : J X (ZN X foI) (FX1_flies_103 fu (XD X) M t0) 103 [] [.int t0] M 0 0 := by
  unfold FX1_flies_103
  exact j_iret hC dX1_flies_103
set_option linter.unusedVariables false in
set_option maxRecDepth 100000 in
theorem wgX1_flies_48 {X : JX} (hC : JC X cX1_flies RX1 (some .int) 38 1412 0 0) (hG : dmI dmX (XG X)) (hnl : nLof X = 4) (fu : Nat) (kn48 : Mem × Int32 × Int32 × Int32 → Option (Int32 × Mem)) (hk48 : ∀ (M : Mem) (x1 x2 x3 : Int32), J X (ZN X foI) (kn48 (M, x1, x2, x3)) 48 [(0, .ref (gadr (XG X) (4, 0, 0))), (1, .int x1), (2, .int x2), (3, .int x3)] [] M 0 0) (M : Mem) (x1 x2 x3 : Int32) : J X (ZN X foI) (GX1_flies_48 fu (XD X) kn48 M x1 x2 x3) 48 [(0, .ref (gadr (XG X) (4, 0, 0))), (1, .int x1), (2, .int x2), (3, .int x3)] [] M 0 0 := by
  unfold GX1_flies_48
  refine j_iload_n hC 3 dX1_flies_48 rfl ?_
  refine j_bipush (v := 8) hC dX1_flies_49 (by decide) ?_
  refine j_icmp_ge (tgt := 74) hC dX1_flies_51 (by decide) (fun h51 => ?_) (fun h51 => ?_)
  · refine j_aload_n hC 0 dX1_flies_74 rfl ?_
    refine j_getR (fk := 10) hC (dmY hG rfl) rfl rfl in_X1 rfl rfl q506 rfl dX1_flies_75 ?_
    refine j_iconst (v := 0) hC dX1_flies_78 (by decide) ?_
    refine j_iald hC (dmY hG rfl) rfl dX1_flies_79 (fun h79 => ?_)
    refine j_aload_n hC 0 dX1_flies_80 rfl ?_
    refine j_getR (fk := 10) hC (dmY hG rfl) rfl rfl in_X1 rfl rfl q506 rfl dX1_flies_81 ?_
    refine j_iconst (v := 1) hC dX1_flies_84 (by decide) ?_
    refine j_iald hC (dmY hG rfl) rfl dX1_flies_85 (fun h85 => ?_)
    refine j_icmp_ne (tgt := 104) hC dX1_flies_86 (by decide) (fun h86 => ?_) (fun h86 => ?_)
    · refine j_aload_n hC 0 dX1_flies_89 rfl ?_
      refine j_getR (fk := 10) hC (dmY hG rfl) rfl rfl in_X1 rfl rfl q506 rfl dX1_flies_90 ?_
      refine j_iconst (v := 0) hC dX1_flies_93 (by decide) ?_
      refine j_iald hC (dmY hG rfl) rfl dX1_flies_94 (fun h94 => ?_)
      refine j_if_ne (tgt := 102) hC dX1_flies_95 (by decide) (fun h95 => ?_) (fun h95 => ?_)
      · refine j_iconst (v := 4) hC dX1_flies_98 (by decide) ?_
        refine j_goto (tgt := 103) hC dX1_flies_99 (by decide) ?_
        exact j_sub [] rfl (wX1_flies_103 hC hG hnl fu M 4)
      · refine j_iconst (v := 3) hC dX1_flies_102 (by decide) ?_
        exact j_sub [] rfl (wX1_flies_103 hC hG hnl fu M 3)
    · refine j_aload_n hC 0 dX1_flies_104 rfl ?_
      refine j_getR (fk := 10) hC (dmY hG rfl) rfl rfl in_X1 rfl rfl q506 rfl dX1_flies_105 ?_
      refine j_iconst (v := 1) hC dX1_flies_108 (by decide) ?_
      refine j_iald hC (dmY hG rfl) rfl dX1_flies_109 (fun h109 => ?_)
      refine j_if_eq (tgt := 137) hC dX1_flies_110 (by decide) (fun h110 => ?_) (fun h110 => ?_)
      · exact j_sub [] rfl (wX1_flies_137 hC hG hnl fu M)
      · refine j_aload_n hC 0 dX1_flies_113 rfl ?_
        refine j_getR (fk := 10) hC (dmY hG rfl) rfl rfl in_X1 rfl rfl q506 rfl dX1_flies_114 ?_
        refine j_iconst (v := 0) hC dX1_flies_117 (by decide) ?_
        refine j_iald hC (dmY hG rfl) rfl dX1_flies_118 (fun h118 => ?_)
        refine j_if_le (tgt := 141) hC dX1_flies_119 (by decide) (fun h119 => ?_) (fun h119 => ?_)
        · exact j_sub [] rfl (wX1_flies_141 hC hG hnl fu M)
        · refine j_aload_n hC 0 dX1_flies_122 rfl ?_
          refine j_getR (fk := 10) hC (dmY hG rfl) rfl rfl in_X1 rfl rfl q506 rfl dX1_flies_123 ?_
          refine j_iconst (v := 0) hC dX1_flies_126 (by decide) ?_
          refine j_iald hC (dmY hG rfl) rfl dX1_flies_127 (fun h127 => ?_)
          refine j_aload_n hC 0 dX1_flies_128 rfl ?_
          refine j_getR (fk := 10) hC (dmY hG rfl) rfl rfl in_X1 rfl rfl q506 rfl dX1_flies_129 ?_
          refine j_iconst (v := 1) hC dX1_flies_132 (by decide) ?_
          refine j_iald hC (dmY hG rfl) rfl dX1_flies_133 (fun h133 => ?_)
          refine j_icmp_ge (tgt := 141) hC dX1_flies_134 (by decide) (fun h134 => ?_) (fun h134 => ?_)
          · exact j_sub [] rfl (wX1_flies_141 hC hG hnl fu M)
          · exact j_sub [] rfl (wX1_flies_137 hC hG hnl fu M)
  · refine j_aload_n hC 0 dX1_flies_54 rfl ?_
    refine j_iconst (v := 0) hC dX1_flies_55 (by decide) ?_
    refine j_iload_n hC 1 dX1_flies_56 rfl ?_
    refine j_iload_n hC 3 dX1_flies_57 rfl ?_
    refine j_callV (nA := 3) (rest := []) hC [.int 0, .int x1, .int x3] rfl (fun r hr => mX1_breathes (XL X) (XG X) hG fu (XD X) M 0 x1 x3 r hr) q1206 q1208 qs35 q126 q1209 (dmY hG rfl) rfl rfl (by decide +kernel) rfl rfl rfl rfl rfl rfl dX1_flies_58 (fun _ => []) (fun _ => rfl) (fun v58 M58 => ?_)
    refine j_aload_n hC 0 dX1_flies_61 rfl ?_
    refine j_iconst (v := 1) hC dX1_flies_62 (by decide) ?_
    refine j_iload_n hC 2 dX1_flies_63 rfl ?_
    refine j_iload_n hC 3 dX1_flies_64 rfl ?_
    refine j_callV (nA := 3) (rest := []) hC [.int 1, .int x2, .int x3] rfl (fun r hr => mX1_breathes (XL X) (XG X) hG fu (XD X) M58 1 x2 x3 r hr) q1206 q1208 qs35 q126 q1209 (dmY hG rfl) rfl rfl (by decide +kernel) rfl rfl rfl rfl rfl rfl dX1_flies_65 (fun _ => []) (fun _ => rfl) (fun v65 M65 => ?_)
    refine j_iincL hC 3 (fun y68 => [(3, .int y68), (0, .ref (gadr (XG X) (4, 0, 0))), (1, .int x1), (2, .int x2)]) hnl dX1_flies_68 rfl (by decide) rfl (fun _ => rfl) (fun y68 => ?_)
    refine j_goto (tgt := 48) hC dX1_flies_71 (by decide) ?_
    exact j_sub [1, 2, 3, 0] rfl (hk48 M65 x1 x2 y68)
set_option linter.unusedVariables false in
set_option maxRecDepth 100000 in
theorem wX1_flies_48 {X : JX} (hC : JC X cX1_flies RX1 (some .int) 38 1412 0 0) (hG : dmI dmX (XG X)) (hnl : nLof X = 4) (fu : Nat) (M : Mem) (x1 x2 x3 : Int32) : J X (ZN X foI) (FX1_flies_48 fu (XD X) M x1 x2 x3) 48 [(0, .ref (gadr (XG X) (4, 0, 0))), (1, .int x1), (2, .int x2), (3, .int x3)] [] M 0 0 := by
  exact j_lp (lvf := fun z => [(0, .ref (gadr (XG X) (4, 0, 0))), (1, .int (z.2.1)), (2, .int (z.2.2.1)), (3, .int (z.2.2.2))]) (Mf := fun z => z.1) (fun kn hk z => wgX1_flies_48 hC hG hnl fu kn (fun M x1 x2 x3 => hk (M, x1, x2, x3)) z.1 z.2.1 z.2.2.1 z.2.2.2) fu (M, x1, x2, x3)
set_option linter.unusedVariables false in
set_option maxRecDepth 100000 in
theorem wgX1_flies_2 {X : JX} (hC : JC X cX1_flies RX1 (some .int) 38 1412 0 0) (hG : dmI dmX (XG X)) (hnl : nLof X = 4) (fu : Nat) (kn2 : Mem × Int32 × Int32 × Int32 → Option (Int32 × Mem)) (hk2 : ∀ (M : Mem) (x1 x2 x3 : Int32), J X (ZN X foI) (kn2 (M, x1, x2, x3)) 2 [(0, .ref (gadr (XG X) (4, 0, 0))), (1, .int x1), (2, .int x2), (3, .int x3)] [] M 0 0) (M : Mem) (x1 x2 x3 : Int32) : J X (ZN X foI) (GX1_flies_2 fu (XD X) kn2 M x1 x2 x3) 2 [(0, .ref (gadr (XG X) (4, 0, 0))), (1, .int x1), (2, .int x2), (3, .int x3)] [] M 0 0 := by
  unfold GX1_flies_2
  refine j_iload_n hC 3 dX1_flies_2 rfl ?_
  refine j_iconst (v := 2) hC dX1_flies_3 (by decide) ?_
  refine j_icmp_ge (tgt := 46) hC dX1_flies_4 (by decide) (fun h4 => ?_) (fun h4 => ?_)
  · refine j_iconst (v := 0) hC dX1_flies_46 (by decide) ?_
    refine j_istore_n hC [(3, .int 0), (0, .ref (gadr (XG X) (4, 0, 0))), (1, .int x1), (2, .int x2)] hnl dX1_flies_47 rfl rfl ?_
    exact j_sub [1, 2, 3, 0] rfl (wX1_flies_48 hC hG hnl fu M x1 x2 0)
  · refine j_aload_n hC 0 dX1_flies_7 rfl ?_
    refine j_getR (fk := 8) hC (dmY hG rfl) rfl rfl in_X1 rfl rfl q504 rfl dX1_flies_8 ?_
    refine j_iload_n hC 3 dX1_flies_11 rfl ?_
    refine j_aload_n hC 0 dX1_flies_12 rfl ?_
    refine j_getR (fk := 1) hC (dmY hG rfl) rfl rfl in_X1 rfl rfl q496 rfl dX1_flies_13 ?_
    refine j_getNI (fk := 13) hC (dmS hG (by decide) rfl) rfl rfl in_X3 rfl rfl q292 rfl dX1_flies_16 ?_
    refine j_iast hC (dmY hG rfl) rfl dX1_flies_19 (fun h19 => ?_)
    refine j_lt (fun M19 => ?_)
    refine j_aload_n hC 0 dX1_flies_20 rfl ?_
    refine j_getR (fk := 9) hC (dmY hG rfl) rfl rfl in_X1 rfl rfl q505 rfl dX1_flies_21 ?_
    refine j_iload_n hC 3 dX1_flies_24 rfl ?_
    refine j_aload_n hC 0 dX1_flies_25 rfl ?_
    refine j_getR (fk := 1) hC (dmY hG rfl) rfl rfl in_X1 rfl rfl q496 rfl dX1_flies_26 ?_
    refine j_getNI (fk := 12) hC (dmS hG (by decide) rfl) rfl rfl in_X3 rfl rfl q288 rfl dX1_flies_29 ?_
    refine j_iast hC (dmY hG rfl) rfl dX1_flies_32 (fun h32 => ?_)
    refine j_lt (fun M32 => ?_)
    refine j_aload_n hC 0 dX1_flies_33 rfl ?_
    refine j_getR (fk := 10) hC (dmY hG rfl) rfl rfl in_X1 rfl rfl q506 rfl dX1_flies_34 ?_
    refine j_iload_n hC 3 dX1_flies_37 rfl ?_
    refine j_iconst (v := 0) hC dX1_flies_38 (by decide) ?_
    refine j_iast hC (dmY hG rfl) rfl dX1_flies_39 (fun h39 => ?_)
    refine j_lt (fun M39 => ?_)
    refine j_iincL hC 3 (fun y40 => [(3, .int y40), (0, .ref (gadr (XG X) (4, 0, 0))), (1, .int x1), (2, .int x2)]) hnl dX1_flies_40 rfl (by decide) rfl (fun _ => rfl) (fun y40 => ?_)
    refine j_goto (tgt := 2) hC dX1_flies_43 (by decide) ?_
    exact j_sub [1, 2, 3, 0] rfl (hk2 M39 x1 x2 y40)
set_option linter.unusedVariables false in
set_option maxRecDepth 100000 in
theorem wX1_flies_2 {X : JX} (hC : JC X cX1_flies RX1 (some .int) 38 1412 0 0) (hG : dmI dmX (XG X)) (hnl : nLof X = 4) (fu : Nat) (M : Mem) (x1 x2 x3 : Int32) : J X (ZN X foI) (FX1_flies_2 fu (XD X) M x1 x2 x3) 2 [(0, .ref (gadr (XG X) (4, 0, 0))), (1, .int x1), (2, .int x2), (3, .int x3)] [] M 0 0 := by
  exact j_lp (lvf := fun z => [(0, .ref (gadr (XG X) (4, 0, 0))), (1, .int (z.2.1)), (2, .int (z.2.2.1)), (3, .int (z.2.2.2))]) (Mf := fun z => z.1) (fun kn hk z => wgX1_flies_2 hC hG hnl fu kn (fun M x1 x2 x3 => hk (M, x1, x2, x3)) z.1 z.2.1 z.2.2.1 z.2.2.2) fu (M, x1, x2, x3)
set_option linter.unusedVariables false in
set_option maxRecDepth 100000 in
theorem wX1_flies {X : JX} (hC : JC X cX1_flies RX1 (some .int) 38 1412 0 0) (hG : dmI dmX (XG X)) (hnl : nLof X = 4) (fu : Nat) (M : Mem) (x1 x2 : Int32) : J X (ZN X foI) (FX1_flies fu (XD X) M x1 x2) 0 [(0, .ref (gadr (XG X) (4, 0, 0))), (1, .int x1), (2, .int x2)] [] M 0 0 := by
  unfold FX1_flies
  refine j_iconst (v := 0) hC dX1_flies_0 (by decide) ?_
  refine j_istore_n hC [(3, .int 0), (0, .ref (gadr (XG X) (4, 0, 0))), (1, .int x1), (2, .int x2)] hnl dX1_flies_1 rfl rfl ?_
  exact j_sub [1, 2, 3, 0] rfl (wX1_flies_2 hC hG hnl fu M x1 x2 0)
set_option linter.unusedVariables false in
set_option maxRecDepth 100000 in
theorem mX1_flies (l : Launch) (Γ : xG) (hG : dmI dmX Γ) (fu : Nat) (D : List LDen) (M : Mem) (x1 x2 : Int32) (r : Int32 × Mem) (hr : FX1_flies fu D M x1 x2 = some r) : CN l yX1_flies (ws_ yX1_flies cX1_flies 4 (some .int)) 38 1412 Γ D [.ref (gadr Γ (4, 0, 0)), .int x1, .int x2] M (foI r.1) r.2 := by
  refine CN.of (own := RX1) (lv0 := lv_args 0 [.ref (gadr Γ (4, 0, 0)), .int x1, .int x2]) (by decide +kernel) rfl (Nat.le_of_ble_eq_true rfl) rfl (fun X e1 e2 e3 e4 hC => ?_) r hr
  subst e1
  subst e2
  exact wX1_flies hC hG e4 fu M x1 x2
set_option linter.unusedVariables false in
set_option maxRecDepth 100000 in
theorem wX1_call_176 {X : JX} (hC : JC X cX1_call RX1 (some .int) 39 1435 4 24) (hT : JT X) (hG : dmI dmX (XG X)) (hnl : nLof X = 6) (fu : Nat) (n4 : Nat) (hn4 : n4 < 12) (M : Mem) (x1 x2 x3 t0 : Int32) : J X (ZT X foI 4 24) (FX1_call_176 fu (XD X) n4 M x1 x2 x3 t0) 176 [(0, .ref (gadr (XG X) (4, 0, 0))), (1, .int x1), (2, .int x2), (3, .int x3), (4, .ref (gadr (XG X) (2, 0, n4)))] [.int t0] M 4 24 := by
  unfold FX1_call_176
  refine j_istore hC [(5, .int t0), (0, .ref (gadr (XG X) (4, 0, 0))), (1, .int x1), (2, .int x2), (3, .int x3), (4, .ref (gadr (XG X) (2, 0, n4)))] hnl dX1_call_176 rfl rfl ?_
  refine j_aload_n hC 1 dX1_call_178 rfl ?_
  refine j_getR (fk := 1) hC (dmY hG rfl) rfl rfl in_X1 rfl rfl q496 rfl dX1_call_179 ?_
  refine j_iload_n hC 2 dX1_call_182 rfl ?_
  refine j_iload_n hC 3 dX1_call_183 rfl ?_
  refine j_iload_n hC 4 dX1_call_184 rfl ?_
  refine j_aload hC 5 dX1_call_185 rfl ?_
  refine j_getNI (fk := 3) hC (dmC hG (by decide) hn4) rfl rfl in_X5 rfl rfl q245 rfl dX1_call_187 ?_
  refine j_iload hC 0 dX1_call_190 rfl ?_
  refine j_callV (nA := 5) (rest := []) hC [.int x1, .int x2, .int x3, .int (M (2, 0, n4) 3), .int t0] rfl (fun r hr => mX3_writes (XL X) (XG X) hG fu (XD X) 0 (by decide) M x1 x2 x3 (M (2, 0, n4) 3) t0 r hr) q1216 q1217 q1218 q128 q1219 (dmS hG (by decide) rfl) rfl rfl (by decide +kernel) rfl rfl rfl rfl rfl rfl dX1_call_192 (fun _ => []) (fun _ => rfl) (fun v192 M192 => ?_)
  refine j_aload hC 5 dX1_call_195 rfl ?_
  refine j_getNI (fk := 3) hC (dmC hG (by decide) hn4) rfl rfl in_X5 rfl rfl q245 rfl dX1_call_197 ?_
  exact j_iretT hC rfl rfl dX1_call_200
set_option linter.unusedVariables false in
set_option maxRecDepth 100000 in
theorem wX1_call_161 {X : JX} (hC : JC X cX1_call RX1 (some .int) 39 1435 4 24) (hT : JT X) (hG : dmI dmX (XG X)) (hnl : nLof X = 6) (fu : Nat) (n4 : Nat) (hn4 : n4 < 12) (M : Mem) (x1 x2 x3 : Int32) : J X (ZT X foI 4 24) (FX1_call_161 fu (XD X) n4 M x1 x2 x3) 161 [(0, .ref (gadr (XG X) (4, 0, 0))), (1, .int x1), (2, .int x2), (3, .int x3), (4, .ref (gadr (XG X) (2, 0, n4)))] [] M 4 24 := by
  unfold FX1_call_161
  refine j_aload_n hC 0 dX1_call_161 rfl ?_
  refine j_getR (fk := 10) hC (dmY hG rfl) rfl rfl in_X1 rfl rfl q506 rfl dX1_call_162 ?_
  refine j_iconst (v := 1) hC dX1_call_165 (by decide) ?_
  refine j_iald hC (dmY hG rfl) rfl dX1_call_166 (fun h166 => ?_)
  refine j_goto (tgt := 176) hC dX1_call_167 (by decide) ?_
  exact j_sub [0, 1, 2, 3, 4] rfl (wX1_call_176 hC hT hG hnl fu n4 hn4 M x1 x2 x3 (M (4, 0, 6) 1))
set_option linter.unusedVariables false in
set_option maxRecDepth 100000 in
theorem wX1_call_170 {X : JX} (hC : JC X cX1_call RX1 (some .int) 39 1435 4 24) (hT : JT X) (hG : dmI dmX (XG X)) (hnl : nLof X = 6) (fu : Nat) (n4 : Nat) (hn4 : n4 < 12) (M : Mem) (x1 x2 x3 : Int32) : J X (ZT X foI 4 24) (FX1_call_170 fu (XD X) n4 M x1 x2 x3) 170 [(0, .ref (gadr (XG X) (4, 0, 0))), (1, .int x1), (2, .int x2), (3, .int x3), (4, .ref (gadr (XG X) (2, 0, n4)))] [] M 4 24 := by
  unfold FX1_call_170
  refine j_aload_n hC 0 dX1_call_170 rfl ?_
  refine j_getR (fk := 10) hC (dmY hG rfl) rfl rfl in_X1 rfl rfl q506 rfl dX1_call_171 ?_
  refine j_iconst (v := 0) hC dX1_call_174 (by decide) ?_
  refine j_iald hC (dmY hG rfl) rfl dX1_call_175 (fun h175 => ?_)
  exact j_sub [0, 1, 2, 3, 4] rfl (wX1_call_176 hC hT hG hnl fu n4 hn4 M x1 x2 x3 (M (4, 0, 6) 0))
set_option linter.unusedVariables false in
set_option maxRecDepth 100000 in
theorem wX1_call_66 {X : JX} (hC : JC X cX1_call RX1 (some .int) 39 1435 4 24) (hT : JT X) (hG : dmI dmX (XG X)) (hnl : nLof X = 6) (fu : Nat) (n4 : Nat) (hn4 : n4 < 12) (M : Mem) (x1 x2 x3 t0 : Int32) : J X (ZT X foI 4 24) (FX1_call_66 fu (XD X) n4 M x1 x2 x3 t0) 66 [(0, .ref (gadr (XG X) (4, 0, 0))), (1, .int x1), (2, .int x2), (3, .int x3), (4, .ref (gadr (XG X) (2, 0, n4)))] [.int t0] M 3 18 := by
  unfold FX1_call_66
  refine j_callST (nA := 1) (rest := []) hC hT [.int t0] rfl (fun r hr => mX1_can (XL X) (JT.st hT) (XG X) hG fu (XD X) M t0 r hr) q1180 q1181 q126 q1182 (by decide +kernel) rfl rfl rfl rfl rfl rfl dX1_call_66 (fun _ => []) (fun _ => rfl) (fun v66 M66 => ?_)
  refine j_aload_n hC 0 dX1_call_69 rfl ?_
  refine j_callV (nA := 0) (rest := []) hC [] rfl (fun r hr => mX1_remembers (XL X) (XG X) hG fu (XD X) M66 r hr) q1198 q1200 qs33 q126 q1201 (dmY hG rfl) rfl rfl (by decide +kernel) rfl rfl rfl rfl rfl rfl dX1_call_70 (fun _ => []) (fun _ => rfl) (fun v70 M70 => ?_)
  refine j_aload_n hC 0 dX1_call_73 rfl ?_
  refine j_getR (fk := 1) hC (dmY hG rfl) rfl rfl in_X1 rfl rfl q496 rfl dX1_call_74 ?_
  refine j_getNR (fk := 3) hC (dmS hG (by decide) rfl) rfl rfl in_X3 rfl rfl q266 rfl dX1_call_77 ?_
  refine j_bipush (v := 6) hC dX1_call_80 (by decide) ?_
  refine j_aload hC 4 dX1_call_82 rfl ?_
  refine j_getNI (fk := 0) hC (dmC hG (by decide) hn4) rfl rfl in_X5 rfl rfl q234 rfl dX1_call_84 ?_
  refine j_imul hC dX1_call_87 ?_
  refine j_iload_n hC 2 dX1_call_88 rfl ?_
  refine j_iadd hC dX1_call_89 ?_
  refine j_dup2 hC dX1_call_90 rfl rfl ?_
  refine j_iald hC (dmS hG (by decide) rfl) rfl dX1_call_91 (fun h91 => ?_)
  refine j_iconst (v := 1) hC dX1_call_92 (by decide) ?_
  refine j_isub hC dX1_call_93 ?_
  refine j_iast hC (dmS hG (by decide) rfl) rfl dX1_call_94 (fun h94 => ?_)
  refine j_lt (fun M94 => ?_)
  refine j_aload_n hC 0 dX1_call_95 rfl ?_
  refine j_getR (fk := 1) hC (dmY hG rfl) rfl rfl in_X1 rfl rfl q496 rfl dX1_call_96 ?_
  refine j_getNR (fk := 3) hC (dmS hG (by decide) rfl) rfl rfl in_X3 rfl rfl q266 rfl dX1_call_99 ?_
  refine j_bipush (v := 6) hC dX1_call_102 (by decide) ?_
  refine j_aload hC 4 dX1_call_104 rfl ?_
  refine j_getNI (fk := 1) hC (dmC hG (by decide) hn4) rfl rfl in_X5 rfl rfl q238 rfl dX1_call_106 ?_
  refine j_imul hC dX1_call_109 ?_
  refine j_iload_n hC 3 dX1_call_110 rfl ?_
  refine j_iadd hC dX1_call_111 ?_
  refine j_dup2 hC dX1_call_112 rfl rfl ?_
  refine j_iald hC (dmS hG (by decide) rfl) rfl dX1_call_113 (fun h113 => ?_)
  refine j_iconst (v := 1) hC dX1_call_114 (by decide) ?_
  refine j_isub hC dX1_call_115 ?_
  refine j_iast hC (dmS hG (by decide) rfl) rfl dX1_call_116 (fun h116 => ?_)
  refine j_lt (fun M116 => ?_)
  refine j_aload hC 4 dX1_call_117 rfl ?_
  refine j_aload_n hC 0 dX1_call_119 rfl ?_
  refine j_iload_n hC 2 dX1_call_120 rfl ?_
  refine j_iload_n hC 3 dX1_call_121 rfl ?_
  refine j_callV (nA := 2) (rest := [.ref (gadr (XG X) (2, 0, n4))]) hC [.int x2, .int x3] rfl (fun r hr => mX1_flies (XL X) (XG X) hG fu (XD X) M116 x2 x3 r hr) q1202 q1204 qs34 q126 q1205 (dmY hG rfl) rfl rfl (by decide +kernel) rfl rfl rfl rfl rfl rfl dX1_call_122 (fun v122 => [.int v122, .ref (gadr (XG X) (2, 0, n4))]) (fun _ => rfl) (fun v122 M122 => ?_)
  refine j_putN (fk := 3) (ty := .int) hC (dmC hG (by decide) hn4) rfl rfl in_X5 rfl rfl q245 tyX5 tyX5_ok nmX5 rfl rfl (by decide +kernel) rfl rfl dX1_call_125 ?_
  refine j_lt (fun M125 => ?_)
  refine j_aload_n hC 0 dX1_call_128 rfl ?_
  refine j_getR (fk := 10) hC (dmY hG rfl) rfl rfl in_X1 rfl rfl q506 rfl dX1_call_129 ?_
  refine j_iconst (v := 0) hC dX1_call_132 (by decide) ?_
  refine j_iald hC (dmY hG rfl) rfl dX1_call_133 (fun h133 => ?_)
  refine j_if_eq (tgt := 161) hC dX1_call_134 (by decide) (fun h134 => ?_) (fun h134 => ?_)
  · exact j_sub [0, 1, 2, 3, 4] rfl (wX1_call_161 hC hT hG hnl fu n4 hn4 M125 x1 x2 x3)
  · refine j_aload_n hC 0 dX1_call_137 rfl ?_
    refine j_getR (fk := 10) hC (dmY hG rfl) rfl rfl in_X1 rfl rfl q506 rfl dX1_call_138 ?_
    refine j_iconst (v := 1) hC dX1_call_141 (by decide) ?_
    refine j_iald hC (dmY hG rfl) rfl dX1_call_142 (fun h142 => ?_)
    refine j_if_le (tgt := 170) hC dX1_call_143 (by decide) (fun h143 => ?_) (fun h143 => ?_)
    · exact j_sub [0, 1, 2, 3, 4] rfl (wX1_call_170 hC hT hG hnl fu n4 hn4 M125 x1 x2 x3)
    · refine j_aload_n hC 0 dX1_call_146 rfl ?_
      refine j_getR (fk := 10) hC (dmY hG rfl) rfl rfl in_X1 rfl rfl q506 rfl dX1_call_147 ?_
      refine j_iconst (v := 1) hC dX1_call_150 (by decide) ?_
      refine j_iald hC (dmY hG rfl) rfl dX1_call_151 (fun h151 => ?_)
      refine j_aload_n hC 0 dX1_call_152 rfl ?_
      refine j_getR (fk := 10) hC (dmY hG rfl) rfl rfl in_X1 rfl rfl q506 rfl dX1_call_153 ?_
      refine j_iconst (v := 0) hC dX1_call_156 (by decide) ?_
      refine j_iald hC (dmY hG rfl) rfl dX1_call_157 (fun h157 => ?_)
      refine j_icmp_ge (tgt := 170) hC dX1_call_158 (by decide) (fun h158 => ?_) (fun h158 => ?_)
      · exact j_sub [0, 1, 2, 3, 4] rfl (wX1_call_170 hC hT hG hnl fu n4 hn4 M125 x1 x2 x3)
      · exact j_sub [0, 1, 2, 3, 4] rfl (wX1_call_161 hC hT hG hnl fu n4 hn4 M125 x1 x2 x3)
set_option linter.unusedVariables false in
set_option maxRecDepth 100000 in
theorem wX1_call_65 {X : JX} (hC : JC X cX1_call RX1 (some .int) 39 1435 4 24) (hT : JT X) (hG : dmI dmX (XG X)) (hnl : nLof X = 6) (fu : Nat) (n4 : Nat) (hn4 : n4 < 12) (M : Mem) (x1 x2 x3 : Int32) : J X (ZT X foI 4 24) (FX1_call_65 fu (XD X) n4 M x1 x2 x3) 65 [(0, .ref (gadr (XG X) (4, 0, 0))), (1, .int x1), (2, .int x2), (3, .int x3), (4, .ref (gadr (XG X) (2, 0, n4)))] [] M 3 18 := by
  unfold FX1_call_65
  refine j_iconst (v := 0) hC dX1_call_65 (by decide) ?_
  exact j_sub [0, 1, 2, 3, 4] rfl (wX1_call_66 hC hT hG hnl fu n4 hn4 M x1 x2 x3 0)
set_option linter.unusedVariables false in
set_option maxRecDepth 100000 in
theorem wX1_call {X : JX} (hC : JC X cX1_call RX1 (some .int) 39 1435 4 24) (hT : JT X) (hG : dmI dmX (XG X)) (hnl : nLof X = 6) (fu : Nat) (M : Mem) (x1 x2 x3 : Int32) : J X (ZT X foI 4 24) (FX1_call fu (XD X) M x1 x2 x3) 0 [(0, .ref (gadr (XG X) (4, 0, 0))), (1, .int x1), (2, .int x2), (3, .int x3)] [] M 0 0 := by
  unfold FX1_call
  refine j_aload_n hC 0 dX1_call_0 rfl ?_
  refine j_iload_n hC 1 dX1_call_1 rfl ?_
  refine j_callVT (nA := 1) (rest := []) hC hT [.int x1] rfl (fun r hr => mX1_caseAt (XL X) (JT.st hT) (XG X) hG fu (XD X) M x1 r hr) q1144 q1146 qs32 q126 q1147 (dmY hG rfl) rfl rfl (by decide +kernel) rfl rfl rfl rfl rfl rfl dX1_call_2 (fun v2 => [.ref (gadr (XG X) (2, 0, v2.toNatClampNeg))]) (fun _ => rfl) (fun v2 M2 => ?_)
  refine j_gd (fun h2 => ?_)
  refine j_astore hC [(4, .ref (gadr (XG X) (2, 0, v2.toNatClampNeg))), (0, .ref (gadr (XG X) (4, 0, 0))), (1, .int x1), (2, .int x2), (3, .int x3)] hnl dX1_call_5 rfl rfl ?_
  refine j_aload_n hC 1 dX1_call_7 rfl ?_
  refine j_iload_n hC 3 dX1_call_8 rfl ?_
  refine j_callVT (nA := 1) (rest := []) hC hT [.int x2] rfl (fun r hr => mX1_birdAt (XL X) (JT.st hT) (XG X) hG fu (XD X) M2 x2 r hr) q1089 q1091 qs30 q126 q1092 (dmY hG rfl) rfl rfl (by decide +kernel) rfl rfl rfl rfl rfl rfl dX1_call_9 (fun v9 => [.ref (gadr (XG X) (1, 0, v9.toNatClampNeg))]) (fun _ => rfl) (fun v9 M9 => ?_)
  refine j_gd (fun h9 => ?_)
  refine j_pop hC dX1_call_12 rfl ?_
  refine j_aload_n hC 1 dX1_call_13 rfl ?_
  refine j_iload_n hC 4 dX1_call_14 rfl ?_
  refine j_callVT (nA := 1) (rest := []) hC hT [.int x3] rfl (fun r hr => mX1_birdAt (XL X) (JT.st hT) (XG X) hG fu (XD X) M9 x3 r hr) q1089 q1091 qs30 q126 q1092 (dmY hG rfl) rfl rfl (by decide +kernel) rfl rfl rfl rfl rfl rfl dX1_call_15 (fun v15 => [.ref (gadr (XG X) (1, 0, v15.toNatClampNeg))]) (fun _ => rfl) (fun v15 M15 => ?_)
  refine j_gd (fun h15 => ?_)
  refine j_pop hC dX1_call_18 rfl ?_
  refine j_aload hC 0 dX1_call_19 rfl ?_
  refine j_getNI (fk := 3) hC (dmC hG (by decide) (vin_lt h2)) rfl rfl in_X5 rfl rfl q245 rfl dX1_call_21 ?_
  refine j_if_ne (tgt := 65) hC dX1_call_24 (by decide) (fun h24 => ?_) (fun h24 => ?_)
  · refine j_aload_n hC 1 dX1_call_27 rfl ?_
    refine j_getR (fk := 1) hC (dmY hG rfl) rfl rfl in_X1 rfl rfl q496 rfl dX1_call_28 ?_
    refine j_iload_n hC 2 dX1_call_31 rfl ?_
    refine j_iconst (v := 0) hC dX1_call_32 (by decide) ?_
    refine j_callV (nA := 2) (rest := []) hC [.int x1, .int 0] rfl (fun r hr => mX3_choices (XL X) (XG X) hG fu (XD X) 0 (by decide) M15 x1 0 r hr) q1148 q1149 q1150 q128 q1151 (dmS hG (by decide) rfl) rfl rfl (by decide +kernel) rfl rfl rfl rfl rfl rfl dX1_call_33 (fun v33 => [.int v33]) (fun _ => rfl) (fun v33 M33 => ?_)
    refine j_iload_n hC 3 dX1_call_36 rfl ?_
    refine j_ishr hC dX1_call_37 ?_
    refine j_iconst (v := 1) hC dX1_call_38 (by decide) ?_
    refine j_iand hC dX1_call_39 ?_
    refine j_iconst (v := 1) hC dX1_call_40 (by decide) ?_
    refine j_icmp_ne (tgt := 65) hC dX1_call_41 (by decide) (fun h41 => ?_) (fun h41 => ?_)
    · refine j_aload_n hC 1 dX1_call_44 rfl ?_
      refine j_getR (fk := 1) hC (dmY hG rfl) rfl rfl in_X1 rfl rfl q496 rfl dX1_call_45 ?_
      refine j_iload_n hC 2 dX1_call_48 rfl ?_
      refine j_iconst (v := 1) hC dX1_call_49 (by decide) ?_
      refine j_callV (nA := 2) (rest := []) hC [.int x1, .int 1] rfl (fun r hr => mX3_choices (XL X) (XG X) hG fu (XD X) 0 (by decide) M33 x1 1 r hr) q1148 q1149 q1150 q128 q1151 (dmS hG (by decide) rfl) rfl rfl (by decide +kernel) rfl rfl rfl rfl rfl rfl dX1_call_50 (fun v50 => [.int v50]) (fun _ => rfl) (fun v50 M50 => ?_)
      refine j_iload_n hC 4 dX1_call_53 rfl ?_
      refine j_ishr hC dX1_call_54 ?_
      refine j_iconst (v := 1) hC dX1_call_55 (by decide) ?_
      refine j_iand hC dX1_call_56 ?_
      refine j_iconst (v := 1) hC dX1_call_57 (by decide) ?_
      refine j_icmp_ne (tgt := 65) hC dX1_call_58 (by decide) (fun h58 => ?_) (fun h58 => ?_)
      · refine j_iconst (v := 1) hC dX1_call_61 (by decide) ?_
        refine j_goto (tgt := 66) hC dX1_call_62 (by decide) ?_
        exact j_sub [1, 2, 3, 4, 0] rfl (wX1_call_66 hC hT hG hnl fu (v2.toNatClampNeg) (vin_lt h2) M50 x1 x2 x3 1)
      · exact j_sub [1, 2, 3, 4, 0] rfl (wX1_call_65 hC hT hG hnl fu (v2.toNatClampNeg) (vin_lt h2) M50 x1 x2 x3)
    · exact j_sub [1, 2, 3, 4, 0] rfl (wX1_call_65 hC hT hG hnl fu (v2.toNatClampNeg) (vin_lt h2) M33 x1 x2 x3)
  · exact j_sub [1, 2, 3, 4, 0] rfl (wX1_call_65 hC hT hG hnl fu (v2.toNatClampNeg) (vin_lt h2) M15 x1 x2 x3)
set_option linter.unusedVariables false in
set_option maxRecDepth 100000 in
theorem mX1_call (l : Launch) (hst : l.stackTraces = false) (Γ : xG) (hG : dmI dmX Γ) (fu : Nat) (D : List LDen) (M : Mem) (x1 x2 x3 : Int32) (r : TR) (hr : FX1_call fu D M x1 x2 x3 = some r) : CT l yX1_call (ws_ yX1_call cX1_call 6 (some .int)) 39 1435 4 24 Γ D [.ref (gadr Γ (4, 0, 0)), .int x1, .int x2, .int x3] M foI r := by
  refine CT.of hst (own := RX1) (lv0 := lv_args 0 [.ref (gadr Γ (4, 0, 0)), .int x1, .int x2, .int x3]) (by decide +kernel) rfl (Nat.le_of_ble_eq_true rfl) rfl (fun X e1 e2 e3 e4 hC hT => ?_) r hr
  subst e1
  subst e2
  exact wX1_call hC hT hG e4 fu M x1 x2 x3
set_option linter.unusedVariables false in
set_option maxRecDepth 100000 in
theorem wX1_hour {X : JX} (hC : JC X cX1_hour RX1 (some .int) 7 113 1 6) (hT : JT X) (hG : dmI dmX (XG X)) (hnl : nLof X = 3) (fu : Nat) (M : Mem) (x1 : Int32) : J X (ZT X foI 1 6) (FX1_hour fu (XD X) M x1) 0 [(0, .ref (gadr (XG X) (4, 0, 0))), (1, .int x1)] [] M 0 0 := by
  unfold FX1_hour
  refine j_iload_n hC 1 dX1_hour_0 rfl ?_
  refine j_iconst (v := 0) hC dX1_hour_1 (by decide) ?_
  refine j_bipush (v := 23) hC dX1_hour_2 (by decide) ?_
  refine j_callS (nA := 3) (rest := []) hC [.int x1, .int 0, .int 23] rfl (fun r hr => mX1_isIn (XL X) (XG X) hG fu (XD X) M x1 0 23 r hr) q558 q559 q126 q560 (by decide +kernel) rfl rfl rfl rfl rfl rfl dX1_hour_4 (fun v4 => [.int v4]) (fun _ => rfl) (fun v4 M4 => ?_)
  refine j_callST (nA := 1) (rest := []) hC hT [.int v4] rfl (fun r hr => mX1_must (XL X) (JT.st hT) (XG X) hG fu (XD X) M4 v4 r hr) q1167 q1168 q126 q1169 (by decide +kernel) rfl rfl rfl rfl rfl rfl dX1_hour_7 (fun _ => []) (fun _ => rfl) (fun v7 M7 => ?_)
  refine j_aload_n hC 0 dX1_hour_10 rfl ?_
  refine j_callV (nA := 0) (rest := []) hC [] rfl (fun r hr => mX1_remembers (XL X) (XG X) hG fu (XD X) M7 r hr) q1198 q1200 qs33 q126 q1201 (dmY hG rfl) rfl rfl (by decide +kernel) rfl rfl rfl rfl rfl rfl dX1_hour_11 (fun _ => []) (fun _ => rfl) (fun v11 M11 => ?_)
  refine j_aload_n hC 0 dX1_hour_14 rfl ?_
  refine j_getR (fk := 1) hC (dmY hG rfl) rfl rfl in_X1 rfl rfl q496 rfl dX1_hour_15 ?_
  refine j_getNI (fk := 16) hC (dmS hG (by decide) rfl) rfl rfl in_X3 rfl rfl q301 rfl dX1_hour_18 ?_
  refine j_ltT (fun y21 => ?_)
  refine j_istore_n hC [(2, .int y21), (0, .ref (gadr (XG X) (4, 0, 0))), (1, .int x1)] hnl dX1_hour_21 rfl rfl ?_
  refine j_aload_n hC 1 dX1_hour_22 rfl ?_
  refine j_getR (fk := 1) hC (dmY hG rfl) rfl rfl in_X1 rfl rfl q496 rfl dX1_hour_23 ?_
  refine j_iload_n hC 2 dX1_hour_26 rfl ?_
  refine j_putN (fk := 16) (ty := .int) hC (dmS hG (by decide) rfl) rfl rfl in_X3 rfl rfl q301 tyX3 tyX3_ok nmX3 rfl rfl (by decide +kernel) rfl rfl dX1_hour_27 ?_
  refine j_lt (fun M27 => ?_)
  refine j_iload_n hC 0 dX1_hour_30 rfl ?_
  exact j_iretT hC rfl rfl dX1_hour_31
set_option linter.unusedVariables false in
set_option maxRecDepth 100000 in
theorem mX1_hour (l : Launch) (hst : l.stackTraces = false) (Γ : xG) (hG : dmI dmX Γ) (fu : Nat) (D : List LDen) (M : Mem) (x1 : Int32) (r : TR) (hr : FX1_hour fu D M x1 = some r) : CT l yX1_hour (ws_ yX1_hour cX1_hour 3 (some .int)) 7 113 1 6 Γ D [.ref (gadr Γ (4, 0, 0)), .int x1] M foI r := by
  refine CT.of hst (own := RX1) (lv0 := lv_args 0 [.ref (gadr Γ (4, 0, 0)), .int x1]) (by decide +kernel) rfl (Nat.le_of_ble_eq_true rfl) rfl (fun X e1 e2 e3 e4 hC hT => ?_) r hr
  subst e1
  subst e2
  exact wX1_hour hC hT hG e4 fu M x1
