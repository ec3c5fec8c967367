/-! the model: the walks (printed by gen/gen.py) -/
set_option maxRecDepth 100000
set_option linter.unusedVariables false in
set_option maxRecDepth 100000 in
theorem wX8_thrown {X : JX} (hC : JC X cX8_thrown RX8 (some .int) 1 12 0 0) (hG : dmI dmM (XG X)) (hnl : nLof X = 1) (fu : Nat) (M : Mem) : J X (ZN X foI) (FX8_thrown fu (XD X) M) 0 [(0, .ref (gadr (XG X) (5, 0, 0)))] [] M 0 0 := by
  unfold FX8_thrown
  refine j_aload_n hC 0 dX8_thrown_0 rfl ?_
  refine j_getI (fk := 0) hC (dmMo hG rfl) rfl rfl in_X8 rfl rfl q1464 rfl dX8_thrown_1 ?_
  exact j_iret hC dX8_thrown_4
set_option linter.unusedVariables false in
set_option maxRecDepth 100000 in
theorem mX8_thrown (l : Launch) (Γ : xG) (hG : dmI dmM Γ) (fu : Nat) (D : List LDen) (M : Mem) (r : Int32 × Mem) (hr : FX8_thrown fu D M = some r) : CN l yX8_thrown (ws_ yX8_thrown cX8_thrown 1 (some .int)) 1 12 Γ D [.ref (gadr Γ (5, 0, 0))] M (foI r.1) r.2 := by
  refine CN.of (own := RX8) (lv0 := lv_args 0 [.ref (gadr Γ (5, 0, 0))]) (by decide +kernel) rfl (Nat.le_of_ble_eq_true rfl) rfl (fun X e1 e2 e3 e4 hC => ?_) r hr
  subst e1
  subst e2
  exact wX8_thrown hC hG e4 fu M
set_option linter.unusedVariables false in
set_option maxRecDepth 100000 in
theorem wgX8_image_7 {X : JX} (hC : JC X cX8_image RX8 none 1 12 0 0) (hG : dmI dmM (XG X)) (hnl : nLof X = 2) (fu : Nat) (kn7 : Mem × Int32 → Option (Int32 × Mem)) (hk7 : ∀ (M : Mem) (x1 : Int32), J X (ZN X foV) (kn7 (M, x1)) 7 [(0, .ref (gadr (XG X) (5, 0, 0))), (1, .int x1)] [] M 0 0) (M : Mem) (x1 : Int32) : J X (ZN X foV) (GX8_image_7 fu (XD X) kn7 M x1) 7 [(0, .ref (gadr (XG X) (5, 0, 0))), (1, .int x1)] [] M 0 0 := by
  unfold GX8_image_7
  refine j_iload_n hC 1 dX8_image_7 rfl ?_
  refine j_sipush (v := 1331) hC dX8_image_8 (by decide) ?_
  refine j_icmp_ge (tgt := 32) hC dX8_image_11 (by decide) (fun h11 => ?_) (fun h11 => ?_)
  · refine j_aload_n hC 0 dX8_image_32 rfl ?_
    refine j_iconst (v := 1) hC dX8_image_33 (by decide) ?_
    refine j_put (fk := 6) (ty := .boolean) hC (dmMo hG rfl) rfl rfl in_X8 rfl rfl q1470 tyX8 tyX8_ok nmX8 rfl rfl (by decide +kernel) rfl rfl dX8_image_34 ?_
    refine j_lt (fun M34 => ?_)
    exact j_vret hC dX8_image_37
  · refine j_aload_n hC 0 dX8_image_14 rfl ?_
    refine j_getR (fk := 2) hC (dmMo hG rfl) rfl rfl in_X8 rfl rfl q1466 rfl dX8_image_15 ?_
    refine j_iload_n hC 1 dX8_image_18 rfl ?_
    refine j_aload_n hC 0 dX8_image_19 rfl ?_
    refine j_getR (fk := 1) hC (dmMo hG rfl) rfl rfl in_X8 rfl rfl q1465 rfl dX8_image_20 ?_
    refine j_iload_n hC 1 dX8_image_23 rfl ?_
    refine j_iald hC (dmMo hG rfl) rfl dX8_image_24 (fun h24 => ?_)
    refine j_iast hC (dmMo hG rfl) rfl dX8_image_25 (fun h25 => ?_)
    refine j_lt (fun M25 => ?_)
    refine j_iincL hC 1 (fun y26 => [(1, .int y26), (0, .ref (gadr (XG X) (5, 0, 0)))]) hnl dX8_image_26 rfl (by decide) rfl (fun _ => rfl) (fun y26 => ?_)
    refine j_goto (tgt := 7) hC dX8_image_29 (by decide) ?_
    exact j_sub [1, 0] rfl (hk7 M25 y26)
set_option linter.unusedVariables false in
set_option maxRecDepth 100000 in
theorem wX8_image_7 {X : JX} (hC : JC X cX8_image RX8 none 1 12 0 0) (hG : dmI dmM (XG X)) (hnl : nLof X = 2) (fu : Nat) (M : Mem) (x1 : Int32) : J X (ZN X foV) (FX8_image_7 fu (XD X) M x1) 7 [(0, .ref (gadr (XG X) (5, 0, 0))), (1, .int x1)] [] M 0 0 := by
  exact j_lp (lvf := fun z => [(0, .ref (gadr (XG X) (5, 0, 0))), (1, .int (z.2))]) (Mf := fun z => z.1) (fun kn hk z => wgX8_image_7 hC hG hnl fu kn (fun M x1 => hk (M, x1)) z.1 z.2) fu (M, x1)
set_option linter.unusedVariables false in
set_option maxRecDepth 100000 in
theorem wX8_image {X : JX} (hC : JC X cX8_image RX8 none 1 12 0 0) (hG : dmI dmM (XG X)) (hnl : nLof X = 2) (fu : Nat) (M : Mem) : J X (ZN X foV) (FX8_image fu (XD X) M) 0 [(0, .ref (gadr (XG X) (5, 0, 0)))] [] M 0 0 := by
  unfold FX8_image
  refine j_aload_n hC 0 dX8_image_0 rfl ?_
  refine j_iconst (v := 0) hC dX8_image_1 (by decide) ?_
  refine j_put (fk := 0) (ty := .int) hC (dmMo hG rfl) rfl rfl in_X8 rfl rfl q1464 tyX8 tyX8_ok nmX8 rfl rfl (by decide +kernel) rfl rfl dX8_image_2 ?_
  refine j_lt (fun M2 => ?_)
  refine j_iconst (v := 0) hC dX8_image_5 (by decide) ?_
  refine j_istore_n hC [(1, .int 0), (0, .ref (gadr (XG X) (5, 0, 0)))] hnl dX8_image_6 rfl rfl ?_
  exact j_sub [1, 0] rfl (wX8_image_7 hC hG hnl fu M2 0)
set_option linter.unusedVariables false in
set_option maxRecDepth 100000 in
theorem mX8_image (l : Launch) (Γ : xG) (hG : dmI dmM Γ) (fu : Nat) (D : List LDen) (M : Mem) (r : Int32 × Mem) (hr : FX8_image fu D M = some r) : CN l yX8_image (ws_ yX8_image cX8_image 2 none) 1 12 Γ D [.ref (gadr Γ (5, 0, 0))] M (foV r.1) r.2 := by
  refine CN.of (own := RX8) (lv0 := lv_args 0 [.ref (gadr Γ (5, 0, 0))]) (by decide +kernel) rfl (Nat.le_of_ble_eq_true rfl) rfl (fun X e1 e2 e3 e4 hC => ?_) r hr
  subst e1
  subst e2
  exact wX8_image hC hG e4 fu M
set_option linter.unusedVariables false in
set_option maxRecDepth 100000 in
theorem wgX8_back_16 {X : JX} (hC : JC X cX8_back RX8 (some .boolean) 1 12 0 0) (hG : dmI dmM (XG X)) (hnl : nLof X = 2) (fu : Nat) (kn16 : Mem × Int32 → Option (Int32 × Mem)) (hk16 : ∀ (M : Mem) (x1 : Int32), J X (ZN X foI) (kn16 (M, x1)) 16 [(0, .ref (gadr (XG X) (5, 0, 0))), (1, .int x1)] [] M 0 0) (M : Mem) (x1 : Int32) : J X (ZN X foI) (GX8_back_16 fu (XD X) kn16 M x1) 16 [(0, .ref (gadr (XG X) (5, 0, 0))), (1, .int x1)] [] M 0 0 := by
  unfold GX8_back_16
  refine j_iload_n hC 1 dX8_back_16 rfl ?_
  refine j_sipush (v := 1331) hC dX8_back_17 (by decide) ?_
  refine j_icmp_ge (tgt := 41) hC dX8_back_20 (by decide) (fun h20 => ?_) (fun h20 => ?_)
  · refine j_aload_n hC 0 dX8_back_41 rfl ?_
    refine j_iconst (v := 0) hC dX8_back_42 (by decide) ?_
    refine j_put (fk := 7) (ty := .int) hC (dmMo hG rfl) rfl rfl in_X8 rfl rfl q1471 tyX8 tyX8_ok nmX8 rfl rfl (by decide +kernel) rfl rfl dX8_back_43 ?_
    refine j_lt (fun M43 => ?_)
    refine j_iconst (v := 1) hC dX8_back_46 (by decide) ?_
    exact j_zret hC (by decide) dX8_back_47
  · refine j_aload_n hC 0 dX8_back_23 rfl ?_
    refine j_getR (fk := 1) hC (dmMo hG rfl) rfl rfl in_X8 rfl rfl q1465 rfl dX8_back_24 ?_
    refine j_iload_n hC 1 dX8_back_27 rfl ?_
    refine j_aload_n hC 0 dX8_back_28 rfl ?_
    refine j_getR (fk := 2) hC (dmMo hG rfl) rfl rfl in_X8 rfl rfl q1466 rfl dX8_back_29 ?_
    refine j_iload_n hC 1 dX8_back_32 rfl ?_
    refine j_iald hC (dmMo hG rfl) rfl dX8_back_33 (fun h33 => ?_)
    refine j_iast hC (dmMo hG rfl) rfl dX8_back_34 (fun h34 => ?_)
    refine j_lt (fun M34 => ?_)
    refine j_iincL hC 1 (fun y35 => [(1, .int y35), (0, .ref (gadr (XG X) (5, 0, 0)))]) hnl dX8_back_35 rfl (by decide) rfl (fun _ => rfl) (fun y35 => ?_)
    refine j_goto (tgt := 16) hC dX8_back_38 (by decide) ?_
    exact j_sub [1, 0] rfl (hk16 M34 y35)
set_option linter.unusedVariables false in
set_option maxRecDepth 100000 in
theorem wX8_back_16 {X : JX} (hC : JC X cX8_back RX8 (some .boolean) 1 12 0 0) (hG : dmI dmM (XG X)) (hnl : nLof X = 2) (fu : Nat) (M : Mem) (x1 : Int32) : J X (ZN X foI) (FX8_back_16 fu (XD X) M x1) 16 [(0, .ref (gadr (XG X) (5, 0, 0))), (1, .int x1)] [] M 0 0 := by
  exact j_lp (lvf := fun z => [(0, .ref (gadr (XG X) (5, 0, 0))), (1, .int (z.2))]) (Mf := fun z => z.1) (fun kn hk z => wgX8_back_16 hC hG hnl fu kn (fun M x1 => hk (M, x1)) z.1 z.2) fu (M, x1)
set_option linter.unusedVariables false in
set_option maxRecDepth 100000 in
theorem wX8_back {X : JX} (hC : JC X cX8_back RX8 (some .boolean) 1 12 0 0) (hG : dmI dmM (XG X)) (hnl : nLof X = 2) (fu : Nat) (M : Mem) : J X (ZN X foI) (FX8_back fu (XD X) M) 0 [(0, .ref (gadr (XG X) (5, 0, 0)))] [] M 0 0 := by
  unfold FX8_back
  refine j_aload_n hC 0 dX8_back_0 rfl ?_
  refine j_iconst (v := 0) hC dX8_back_1 (by decide) ?_
  refine j_put (fk := 0) (ty := .int) hC (dmMo hG rfl) rfl rfl in_X8 rfl rfl q1464 tyX8 tyX8_ok nmX8 rfl rfl (by decide +kernel) rfl rfl dX8_back_2 ?_
  refine j_lt (fun M2 => ?_)
  refine j_aload_n hC 0 dX8_back_5 rfl ?_
  refine j_getI (fk := 6) hC (dmMo hG rfl) rfl rfl in_X8 rfl rfl q1470 rfl dX8_back_6 ?_
  refine j_if_ne (tgt := 14) hC dX8_back_9 (by decide) (fun h9 => ?_) (fun h9 => ?_)
  · refine j_iconst (v := 0) hC dX8_back_12 (by decide) ?_
    exact j_zret hC (by decide) dX8_back_13
  · refine j_iconst (v := 0) hC dX8_back_14 (by decide) ?_
    refine j_istore_n hC [(1, .int 0), (0, .ref (gadr (XG X) (5, 0, 0)))] hnl dX8_back_15 rfl rfl ?_
    exact j_sub [1, 0] rfl (wX8_back_16 hC hG hnl fu M2 0)
set_option linter.unusedVariables false in
set_option maxRecDepth 100000 in
theorem mX8_back (l : Launch) (Γ : xG) (hG : dmI dmM Γ) (fu : Nat) (D : List LDen) (M : Mem) (r : Int32 × Mem) (hr : FX8_back fu D M = some r) : CN l yX8_back (ws_ yX8_back cX8_back 2 (some .boolean)) 1 12 Γ D [.ref (gadr Γ (5, 0, 0))] M (foI r.1) r.2 := by
  refine CN.of (own := RX8) (lv0 := lv_args 0 [.ref (gadr Γ (5, 0, 0))]) (by decide +kernel) rfl (Nat.le_of_ble_eq_true rfl) rfl (fun X e1 e2 e3 e4 hC => ?_) r hr
  subst e1
  subst e2
  exact wX8_back hC hG e4 fu M
set_option linter.unusedVariables false in
set_option maxRecDepth 100000 in
theorem wgX8_undo_26 {X : JX} (hC : JC X cX8_undo RX8 (some .boolean) 1 12 0 0) (hG : dmI dmM (XG X)) (hnl : nLof X = 2) (fu : Nat) (kn26 : Mem × Int32 → Option (Int32 × Mem)) (hk26 : ∀ (M : Mem) (x1 : Int32), J X (ZN X foI) (kn26 (M, x1)) 26 [(0, .ref (gadr (XG X) (5, 0, 0))), (1, .int x1)] [] M 0 0) (M : Mem) (x1 : Int32) : J X (ZN X foI) (GX8_undo_26 fu (XD X) kn26 M x1) 26 [(0, .ref (gadr (XG X) (5, 0, 0))), (1, .int x1)] [] M 0 0 := by
  unfold GX8_undo_26
  refine j_iload_n hC 1 dX8_undo_26 rfl ?_
  refine j_sipush (v := 482) hC dX8_undo_27 (by decide) ?_
  refine j_icmp_ge (tgt := 60) hC dX8_undo_30 (by decide) (fun h30 => ?_) (fun h30 => ?_)
  · refine j_iconst (v := 1) hC dX8_undo_60 (by decide) ?_
    exact j_zret hC (by decide) dX8_undo_61
  · refine j_aload_n hC 0 dX8_undo_33 rfl ?_
    refine j_getR (fk := 1) hC (dmMo hG rfl) rfl rfl in_X8 rfl rfl q1465 rfl dX8_undo_34 ?_
    refine j_iload_n hC 1 dX8_undo_37 rfl ?_
    refine j_aload_n hC 0 dX8_undo_38 rfl ?_
    refine j_getR (fk := 5) hC (dmMo hG rfl) rfl rfl in_X8 rfl rfl q1469 rfl dX8_undo_39 ?_
    refine j_sipush (v := 482) hC dX8_undo_42 (by decide) ?_
    refine j_aload_n hC 0 dX8_undo_45 rfl ?_
    refine j_getI (fk := 7) hC (dmMo hG rfl) rfl rfl in_X8 rfl rfl q1471 rfl dX8_undo_46 ?_
    refine j_imul hC dX8_undo_49 ?_
    refine j_iload_n hC 1 dX8_undo_50 rfl ?_
    refine j_iadd hC dX8_undo_51 ?_
    refine j_iald hC (dmMo hG rfl) rfl dX8_undo_52 (fun h52 => ?_)
    refine j_iast hC (dmMo hG rfl) rfl dX8_undo_53 (fun h53 => ?_)
    refine j_lt (fun M53 => ?_)
    refine j_iincL hC 1 (fun y54 => [(1, .int y54), (0, .ref (gadr (XG X) (5, 0, 0)))]) hnl dX8_undo_54 rfl (by decide) rfl (fun _ => rfl) (fun y54 => ?_)
    refine j_goto (tgt := 26) hC dX8_undo_57 (by decide) ?_
    exact j_sub [1, 0] rfl (hk26 M53 y54)
set_option linter.unusedVariables false in
set_option maxRecDepth 100000 in
theorem wX8_undo_26 {X : JX} (hC : JC X cX8_undo RX8 (some .boolean) 1 12 0 0) (hG : dmI dmM (XG X)) (hnl : nLof X = 2) (fu : Nat) (M : Mem) (x1 : Int32) : J X (ZN X foI) (FX8_undo_26 fu (XD X) M x1) 26 [(0, .ref (gadr (XG X) (5, 0, 0))), (1, .int x1)] [] M 0 0 := by
  exact j_lp (lvf := fun z => [(0, .ref (gadr (XG X) (5, 0, 0))), (1, .int (z.2))]) (Mf := fun z => z.1) (fun kn hk z => wgX8_undo_26 hC hG hnl fu kn (fun M x1 => hk (M, x1)) z.1 z.2) fu (M, x1)
set_option linter.unusedVariables false in
set_option maxRecDepth 100000 in
theorem wX8_undo {X : JX} (hC : JC X cX8_undo RX8 (some .boolean) 1 12 0 0) (hG : dmI dmM (XG X)) (hnl : nLof X = 2) (fu : Nat) (M : Mem) : J X (ZN X foI) (FX8_undo fu (XD X) M) 0 [(0, .ref (gadr (XG X) (5, 0, 0)))] [] M 0 0 := by
  unfold FX8_undo
  refine j_aload_n hC 0 dX8_undo_0 rfl ?_
  refine j_iconst (v := 0) hC dX8_undo_1 (by decide) ?_
  refine j_put (fk := 0) (ty := .int) hC (dmMo hG rfl) rfl rfl in_X8 rfl rfl q1464 tyX8 tyX8_ok nmX8 rfl rfl (by decide +kernel) rfl rfl dX8_undo_2 ?_
  refine j_lt (fun M2 => ?_)
  refine j_aload_n hC 0 dX8_undo_5 rfl ?_
  refine j_getI (fk := 7) hC (dmMo hG rfl) rfl rfl in_X8 rfl rfl q1471 rfl dX8_undo_6 ?_
  refine j_if_ne (tgt := 14) hC dX8_undo_9 (by decide) (fun h9 => ?_) (fun h9 => ?_)
  · refine j_iconst (v := 0) hC dX8_undo_12 (by decide) ?_
    exact j_zret hC (by decide) dX8_undo_13
  · refine j_aload_n hC 0 dX8_undo_14 rfl ?_
    refine j_dup hC dX8_undo_15 rfl ?_
    refine j_getI (fk := 7) hC (dmMo hG rfl) rfl rfl in_X8 rfl rfl q1471 rfl dX8_undo_16 ?_
    refine j_iconst (v := 1) hC dX8_undo_19 (by decide) ?_
    refine j_isub hC dX8_undo_20 ?_
    refine j_put (fk := 7) (ty := .int) hC (dmMo hG rfl) rfl rfl in_X8 rfl rfl q1471 tyX8 tyX8_ok nmX8 rfl rfl (by decide +kernel) rfl rfl dX8_undo_21 ?_
    refine j_lt (fun M21 => ?_)
    refine j_iconst (v := 0) hC dX8_undo_24 (by decide) ?_
    refine j_istore_n hC [(1, .int 0), (0, .ref (gadr (XG X) (5, 0, 0)))] hnl dX8_undo_25 rfl rfl ?_
    exact j_sub [1, 0] rfl (wX8_undo_26 hC hG hnl fu M21 0)
set_option linter.unusedVariables false in
set_option maxRecDepth 100000 in
theorem mX8_undo (l : Launch) (Γ : xG) (hG : dmI dmM Γ) (fu : Nat) (D : List LDen) (M : Mem) (r : Int32 × Mem) (hr : FX8_undo fu D M = some r) : CN l yX8_undo (ws_ yX8_undo cX8_undo 2 (some .boolean)) 1 12 Γ D [.ref (gadr Γ (5, 0, 0))] M (foI r.1) r.2 := by
  refine CN.of (own := RX8) (lv0 := lv_args 0 [.ref (gadr Γ (5, 0, 0))]) (by decide +kernel) rfl (Nat.le_of_ble_eq_true rfl) rfl (fun X e1 e2 e3 e4 hC => ?_) r hr
  subst e1
  subst e2
  exact wX8_undo hC hG e4 fu M
set_option linter.unusedVariables false in
set_option maxRecDepth 100000 in
theorem wgX8_feed_60 {X : JX} (hC : JC X cX8_feed RX8 (some .int) 1 12 0 0) (hG : dmI dmM (XG X)) (hnl : nLof X = 7) (fu : Nat) (kn60 : Mem × Int32 → Option (Int32 × Mem)) (hk60 : ∀ (M : Mem) (x6 : Int32), J X (ZN X foI) (kn60 (M, x6)) 60 [(0, .ref (gadr (XG X) (5, 0, 0))), (6, .int x6)] [] M 0 0) (M : Mem) (x6 : Int32) : J X (ZN X foI) (GX8_feed_60 fu (XD X) kn60 M x6) 60 [(0, .ref (gadr (XG X) (5, 0, 0))), (6, .int x6)] [] M 0 0 := by
  unfold GX8_feed_60
  refine j_iload hC 1 dX8_feed_60 rfl ?_
  refine j_bipush (v := 20) hC dX8_feed_62 (by decide) ?_
  refine j_icmp_ge (tgt := 106) hC dX8_feed_64 (by decide) (fun h64 => ?_) (fun h64 => ?_)
  · refine j_aload_n hC 0 dX8_feed_106 rfl ?_
    refine j_dup hC dX8_feed_107 rfl ?_
    refine j_getI (fk := 9) hC (dmMo hG rfl) rfl rfl in_X8 rfl rfl q1473 rfl dX8_feed_108 ?_
    refine j_bipush (v := 20) hC dX8_feed_111 (by decide) ?_
    refine j_iadd hC dX8_feed_113 ?_
    refine j_put (fk := 9) (ty := .int) hC (dmMo hG rfl) rfl rfl in_X8 rfl rfl q1473 tyX8 tyX8_ok nmX8 rfl rfl (by decide +kernel) rfl rfl dX8_feed_114 ?_
    refine j_lt (fun M114 => ?_)
    refine j_aload_n hC 0 dX8_feed_117 rfl ?_
    refine j_getI (fk := 9) hC (dmMo hG rfl) rfl rfl in_X8 rfl rfl q1473 rfl dX8_feed_118 ?_
    exact j_iret hC dX8_feed_121
  · refine j_aload_n hC 0 dX8_feed_67 rfl ?_
    refine j_getR (fk := 8) hC (dmMo hG rfl) rfl rfl in_X8 rfl rfl q1472 rfl dX8_feed_68 ?_
    refine j_aload_n hC 0 dX8_feed_71 rfl ?_
    refine j_getI (fk := 9) hC (dmMo hG rfl) rfl rfl in_X8 rfl rfl q1473 rfl dX8_feed_72 ?_
    refine j_iload hC 1 dX8_feed_75 rfl ?_
    refine j_iadd hC dX8_feed_77 ?_
    refine j_aload_n hC 0 dX8_feed_78 rfl ?_
    refine j_getR (fk := 15) hC (dmMo hG rfl) rfl rfl in_X8 rfl rfl q1479 rfl dX8_feed_79 ?_
    refine j_iload hC 1 dX8_feed_82 rfl ?_
    refine j_iconst (v := 4) hC dX8_feed_84 (by decide) ?_
    refine j_idivL hC dX8_feed_85 (by decide) ?_
    refine j_iald hC (dmMo hG rfl) rfl dX8_feed_86 (fun h86 => ?_)
    refine j_bipush (v := 24) hC dX8_feed_87 (by decide) ?_
    refine j_bipush (v := 8) hC dX8_feed_89 (by decide) ?_
    refine j_iload hC 1 dX8_feed_91 rfl ?_
    refine j_iconst (v := 4) hC dX8_feed_93 (by decide) ?_
    refine j_iremL hC dX8_feed_94 (by decide) ?_
    refine j_imul hC dX8_feed_95 ?_
    refine j_isub hC dX8_feed_96 ?_
    refine j_ishr hC dX8_feed_97 ?_
    refine j_i2b hC dX8_feed_98 ?_
    refine j_bast hC (dmMo hG rfl) rfl dX8_feed_99 (fun h99 => ?_)
    refine j_lt (fun M99 => ?_)
    refine j_iincL hC 1 (fun y100 => [(6, .int y100), (0, .ref (gadr (XG X) (5, 0, 0)))]) hnl dX8_feed_100 rfl (by decide) rfl (fun _ => rfl) (fun y100 => ?_)
    refine j_goto (tgt := 60) hC dX8_feed_103 (by decide) ?_
    exact j_sub [1, 0] rfl (hk60 M99 y100)
set_option linter.unusedVariables false in
set_option maxRecDepth 100000 in
theorem wX8_feed_60 {X : JX} (hC : JC X cX8_feed RX8 (some .int) 1 12 0 0) (hG : dmI dmM (XG X)) (hnl : nLof X = 7) (fu : Nat) (M : Mem) (x6 : Int32) : J X (ZN X foI) (FX8_feed_60 fu (XD X) M x6) 60 [(0, .ref (gadr (XG X) (5, 0, 0))), (6, .int x6)] [] M 0 0 := by
  exact j_lp (lvf := fun z => [(0, .ref (gadr (XG X) (5, 0, 0))), (6, .int (z.2))]) (Mf := fun z => z.1) (fun kn hk z => wgX8_feed_60 hC hG hnl fu kn (fun M x6 => hk (M, x6)) z.1 z.2) fu (M, x6)
set_option linter.unusedVariables false in
set_option maxRecDepth 100000 in
theorem wX8_feed {X : JX} (hC : JC X cX8_feed RX8 (some .int) 1 12 0 0) (hG : dmI dmM (XG X)) (hnl : nLof X = 7) (fu : Nat) (M : Mem) (x1 x2 x3 x4 x5 : Int32) : J X (ZN X foI) (FX8_feed fu (XD X) M x1 x2 x3 x4 x5) 0 [(0, .ref (gadr (XG X) (5, 0, 0))), (1, .int x1), (2, .int x2), (3, .int x3), (4, .int x4), (5, .int x5)] [] M 0 0 := by
  unfold FX8_feed
  refine j_aload_n hC 0 dX8_feed_0 rfl ?_
  refine j_iconst (v := 0) hC dX8_feed_1 (by decide) ?_
  refine j_put (fk := 0) (ty := .int) hC (dmMo hG rfl) rfl rfl in_X8 rfl rfl q1464 tyX8 tyX8_ok nmX8 rfl rfl (by decide +kernel) rfl rfl dX8_feed_2 ?_
  refine j_lt (fun M2 => ?_)
  refine j_aload_n hC 0 dX8_feed_5 rfl ?_
  refine j_getI (fk := 9) hC (dmMo hG rfl) rfl rfl in_X8 rfl rfl q1473 rfl dX8_feed_6 ?_
  refine j_bipush (v := 20) hC dX8_feed_9 (by decide) ?_
  refine j_iadd hC dX8_feed_11 ?_
  refine j_sipush (v := 400) hC dX8_feed_12 (by decide) ?_
  refine j_icmp_le (tgt := 20) hC dX8_feed_15 (by decide) (fun h15 => ?_) (fun h15 => ?_)
  · refine j_aload_n hC 0 dX8_feed_20 rfl ?_
    refine j_getR (fk := 15) hC (dmMo hG rfl) rfl rfl in_X8 rfl rfl q1479 rfl dX8_feed_21 ?_
    refine j_iconst (v := 0) hC dX8_feed_24 (by decide) ?_
    refine j_iload_n hC 1 dX8_feed_25 rfl ?_
    refine j_iast hC (dmMo hG rfl) rfl dX8_feed_26 (fun h26 => ?_)
    refine j_lt (fun M26 => ?_)
    refine j_aload_n hC 0 dX8_feed_27 rfl ?_
    refine j_getR (fk := 15) hC (dmMo hG rfl) rfl rfl in_X8 rfl rfl q1479 rfl dX8_feed_28 ?_
    refine j_iconst (v := 1) hC dX8_feed_31 (by decide) ?_
    refine j_iload_n hC 2 dX8_feed_32 rfl ?_
    refine j_iast hC (dmMo hG rfl) rfl dX8_feed_33 (fun h33 => ?_)
    refine j_lt (fun M33 => ?_)
    refine j_aload_n hC 0 dX8_feed_34 rfl ?_
    refine j_getR (fk := 15) hC (dmMo hG rfl) rfl rfl in_X8 rfl rfl q1479 rfl dX8_feed_35 ?_
    refine j_iconst (v := 2) hC dX8_feed_38 (by decide) ?_
    refine j_iload_n hC 3 dX8_feed_39 rfl ?_
    refine j_iast hC (dmMo hG rfl) rfl dX8_feed_40 (fun h40 => ?_)
    refine j_lt (fun M40 => ?_)
    refine j_aload_n hC 0 dX8_feed_41 rfl ?_
    refine j_getR (fk := 15) hC (dmMo hG rfl) rfl rfl in_X8 rfl rfl q1479 rfl dX8_feed_42 ?_
    refine j_iconst (v := 3) hC dX8_feed_45 (by decide) ?_
    refine j_iload hC 4 dX8_feed_46 rfl ?_
    refine j_iast hC (dmMo hG rfl) rfl dX8_feed_48 (fun h48 => ?_)
    refine j_lt (fun M48 => ?_)
    refine j_aload_n hC 0 dX8_feed_49 rfl ?_
    refine j_getR (fk := 15) hC (dmMo hG rfl) rfl rfl in_X8 rfl rfl q1479 rfl dX8_feed_50 ?_
    refine j_iconst (v := 4) hC dX8_feed_53 (by decide) ?_
    refine j_iload hC 5 dX8_feed_54 rfl ?_
    refine j_iast hC (dmMo hG rfl) rfl dX8_feed_56 (fun h56 => ?_)
    refine j_lt (fun M56 => ?_)
    refine j_iconst (v := 0) hC dX8_feed_57 (by decide) ?_
    refine j_istore hC [(6, .int 0), (0, .ref (gadr (XG X) (5, 0, 0))), (1, .int x1), (2, .int x2), (3, .int x3), (4, .int x4), (5, .int x5)] hnl dX8_feed_58 rfl rfl ?_
    exact j_sub [1, 0] rfl (wX8_feed_60 hC hG hnl fu M56 0)
  · refine j_iconst (v := (-1)) hC dX8_feed_18 (by decide) ?_
    exact j_iret hC dX8_feed_19
set_option linter.unusedVariables false in
set_option maxRecDepth 100000 in
theorem mX8_feed (l : Launch) (Γ : xG) (hG : dmI dmM Γ) (fu : Nat) (D : List LDen) (M : Mem) (x1 x2 x3 x4 x5 : Int32) (r : Int32 × Mem) (hr : FX8_feed fu D M x1 x2 x3 x4 x5 = some r) : CN l yX8_feed (ws_ yX8_feed cX8_feed 7 (some .int)) 1 12 Γ D [.ref (gadr Γ (5, 0, 0)), .int x1, .int x2, .int x3, .int x4, .int x5] M (foI r.1) r.2 := by
  refine CN.of (own := RX8) (lv0 := lv_args 0 [.ref (gadr Γ (5, 0, 0)), .int x1, .int x2, .int x3, .int x4, .int x5]) (by decide +kernel) rfl (Nat.le_of_ble_eq_true rfl) rfl (fun X e1 e2 e3 e4 hC => ?_) r hr
  subst e1
  subst e2
  exact wX8_feed hC hG e4 fu M x1 x2 x3 x4 x5
set_option linter.unusedVariables false in
set_option maxRecDepth 100000 in
theorem wX8_end_17 {X : JX} (hC : JC X cX8_end RX8 (some .boolean) 1 12 0 0) (hG : dmI dmM (XG X)) (hnl : nLof X = 2) (fu : Nat) (M : Mem) : J X (ZN X foI) (FX8_end_17 fu (XD X) M) 17 [] [] M 0 0 := by
  unfold FX8_end_17
  refine j_iconst (v := 0) hC dX8_end_17 (by decide) ?_
  exact j_zret hC (by decide) dX8_end_18
set_option linter.unusedVariables false in
set_option maxRecDepth 100000 in
theorem wX8_end {X : JX} (hC : JC X cX8_end RX8 (some .boolean) 1 12 0 0) (hG : dmI dmM (XG X)) (hnl : nLof X = 2) (fu : Nat) (M : Mem) (x1 : Int32) : J X (ZN X foI) (FX8_end fu (XD X) M x1) 0 [(0, .ref (gadr (XG X) (5, 0, 0))), (1, .int x1)] [] M 0 0 := by
  unfold FX8_end
  refine j_aload_n hC 0 dX8_end_0 rfl ?_
  refine j_iconst (v := 0) hC dX8_end_1 (by decide) ?_
  refine j_put (fk := 0) (ty := .int) hC (dmMo hG rfl) rfl rfl in_X8 rfl rfl q1464 tyX8 tyX8_ok nmX8 rfl rfl (by decide +kernel) rfl rfl dX8_end_2 ?_
  refine j_lt (fun M2 => ?_)
  refine j_iload_n hC 1 dX8_end_5 rfl ?_
  refine j_if_lt (tgt := 17) hC dX8_end_6 (by decide) (fun h6 => ?_) (fun h6 => ?_)
  · exact j_sub [] rfl (wX8_end_17 hC hG hnl fu M2)
  · refine j_iload_n hC 1 dX8_end_9 rfl ?_
    refine j_aload_n hC 0 dX8_end_10 rfl ?_
    refine j_getI (fk := 9) hC (dmMo hG rfl) rfl rfl in_X8 rfl rfl q1473 rfl dX8_end_11 ?_
    refine j_icmp_le (tgt := 19) hC dX8_end_14 (by decide) (fun h14 => ?_) (fun h14 => ?_)
    · refine j_aload_n hC 0 dX8_end_19 rfl ?_
      refine j_iload_n hC 1 dX8_end_20 rfl ?_
      refine j_put (fk := 9) (ty := .int) hC (dmMo hG rfl) rfl rfl in_X8 rfl rfl q1473 tyX8 tyX8_ok nmX8 rfl rfl (by decide +kernel) rfl rfl dX8_end_21 ?_
      refine j_lt (fun M21 => ?_)
      refine j_iconst (v := 1) hC dX8_end_24 (by decide) ?_
      exact j_zret hC (by decide) dX8_end_25
    · exact j_sub [] rfl (wX8_end_17 hC hG hnl fu M2)
set_option linter.unusedVariables false in
set_option maxRecDepth 100000 in
theorem mX8_end (l : Launch) (Γ : xG) (hG : dmI dmM Γ) (fu : Nat) (D : List LDen) (M : Mem) (x1 : Int32) (r : Int32 × Mem) (hr : FX8_end fu D M x1 = some r) : CN l yX8_end (ws_ yX8_end cX8_end 2 (some .boolean)) 1 12 Γ D [.ref (gadr Γ (5, 0, 0)), .int x1] M (foI r.1) r.2 := by
  refine CN.of (own := RX8) (lv0 := lv_args 0 [.ref (gadr Γ (5, 0, 0)), .int x1]) (by decide +kernel) rfl (Nat.le_of_ble_eq_true rfl) rfl (fun X e1 e2 e3 e4 hC => ?_) r hr
  subst e1
  subst e2
  exact wX8_end hC hG e4 fu M x1
set_option linter.unusedVariables false in
set_option maxRecDepth 100000 in
theorem wX8_fault {X : JX} (hC : JC X cX8_fault RX8 (some .int) 1 12 0 0) (hG : dmI dmM (XG X)) (hnl : nLof X = 1) (fu : Nat) (M : Mem) : J X (ZN X foI) (FX8_fault fu (XD X) M) 0 [(0, .ref (gadr (XG X) (5, 0, 0)))] [] M 0 0 := by
  unfold FX8_fault
  refine j_aload_n hC 0 dX8_fault_0 rfl ?_
  refine j_iconst (v := 0) hC dX8_fault_1 (by decide) ?_
  refine j_put (fk := 0) (ty := .int) hC (dmMo hG rfl) rfl rfl in_X8 rfl rfl q1464 tyX8 tyX8_ok nmX8 rfl rfl (by decide +kernel) rfl rfl dX8_fault_2 ?_
  refine j_lt (fun M2 => ?_)
  refine j_aload_n hC 0 dX8_fault_5 rfl ?_
  refine j_getI (fk := 14) hC (dmMo hG rfl) rfl rfl in_X8 rfl rfl q1478 rfl dX8_fault_6 ?_
  exact j_iret hC dX8_fault_9
set_option linter.unusedVariables false in
set_option maxRecDepth 100000 in
theorem mX8_fault (l : Launch) (Γ : xG) (hG : dmI dmM Γ) (fu : Nat) (D : List LDen) (M : Mem) (r : Int32 × Mem) (hr : FX8_fault fu D M = some r) : CN l yX8_fault (ws_ yX8_fault cX8_fault 1 (some .int)) 1 12 Γ D [.ref (gadr Γ (5, 0, 0))] M (foI r.1) r.2 := by
  refine CN.of (own := RX8) (lv0 := lv_args 0 [.ref (gadr Γ (5, 0, 0))]) (by decide +kernel) rfl (Nat.le_of_ble_eq_true rfl) rfl (fun X e1 e2 e3 e4 hC => ?_) r hr
  subst e1
  subst e2
  exact wX8_fault hC hG e4 fu M
set_option linter.unusedVariables false in
set_option maxRecDepth 100000 in
theorem wX8_uses {X : JX} (hC : JC X cX8_uses RX8 none 1 12 0 0) (hG : dmI dmM (XG X)) (hnl : nLof X = 1) (fu : Nat) (M : Mem) : J X (ZN X foV) (FX8_uses fu (XD X) M) 0 [(0, .ref (gadr (XG X) (5, 0, 0)))] [] M 0 0 := by
  unfold FX8_uses
  refine j_aload_n hC 0 dX8_uses_0 rfl ?_
  refine j_iconst (v := 0) hC dX8_uses_1 (by decide) ?_
  refine j_put (fk := 0) (ty := .int) hC (dmMo hG rfl) rfl rfl in_X8 rfl rfl q1464 tyX8 tyX8_ok nmX8 rfl rfl (by decide +kernel) rfl rfl dX8_uses_2 ?_
  refine j_lt (fun M2 => ?_)
  refine j_aload_n hC 0 dX8_uses_5 rfl ?_
  refine j_aload_n hC 0 dX8_uses_6 rfl ?_
  refine j_getI (fk := 9) hC (dmMo hG rfl) rfl rfl in_X8 rfl rfl q1473 rfl dX8_uses_7 ?_
  refine j_put (fk := 11) (ty := .int) hC (dmMo hG rfl) rfl rfl in_X8 rfl rfl q1475 tyX8 tyX8_ok nmX8 rfl rfl (by decide +kernel) rfl rfl dX8_uses_10 ?_
  refine j_lt (fun M10 => ?_)
  refine j_aload_n hC 0 dX8_uses_13 rfl ?_
  refine j_iconst (v := 0) hC dX8_uses_14 (by decide) ?_
  refine j_put (fk := 9) (ty := .int) hC (dmMo hG rfl) rfl rfl in_X8 rfl rfl q1473 tyX8 tyX8_ok nmX8 rfl rfl (by decide +kernel) rfl rfl dX8_uses_15 ?_
  refine j_lt (fun M15 => ?_)
  refine j_aload_n hC 0 dX8_uses_18 rfl ?_
  refine j_iconst (v := 0) hC dX8_uses_19 (by decide) ?_
  refine j_put (fk := 10) (ty := .int) hC (dmMo hG rfl) rfl rfl in_X8 rfl rfl q1474 tyX8 tyX8_ok nmX8 rfl rfl (by decide +kernel) rfl rfl dX8_uses_20 ?_
  refine j_lt (fun M20 => ?_)
  exact j_vret hC dX8_uses_23
set_option linter.unusedVariables false in
set_option maxRecDepth 100000 in
theorem mX8_uses (l : Launch) (Γ : xG) (hG : dmI dmM Γ) (fu : Nat) (D : List LDen) (M : Mem) (r : Int32 × Mem) (hr : FX8_uses fu D M = some r) : CN l yX8_uses (ws_ yX8_uses cX8_uses 1 none) 1 12 Γ D [.ref (gadr Γ (5, 0, 0))] M (foV r.1) r.2 := by
  refine CN.of (own := RX8) (lv0 := lv_args 0 [.ref (gadr Γ (5, 0, 0))]) (by decide +kernel) rfl (Nat.le_of_ble_eq_true rfl) rfl (fun X e1 e2 e3 e4 hC => ?_) r hr
  subst e1
  subst e2
  exact wX8_uses hC hG e4 fu M
set_option linter.unusedVariables false in
set_option maxRecDepth 100000 in
theorem wX8_isAt_42 {X : JX} (hC : JC X cX8_isAt RX8 (some .boolean) 1 12 0 0) (hG : dmI dmM (XG X)) (hnl : nLof X = 3) (fu : Nat) (M : Mem) (t0 : Int32) : J X (ZN X foI) (FX8_isAt_42 fu (XD X) M t0) 42 [] [.int t0] M 0 0 := by
  unfold FX8_isAt_42
  exact j_zret hC rfl dX8_isAt_42
set_option linter.unusedVariables false in
set_option maxRecDepth 100000 in
theorem wX8_isAt_41 {X : JX} (hC : JC X cX8_isAt RX8 (some .boolean) 1 12 0 0) (hG : dmI dmM (XG X)) (hnl : nLof X = 3) (fu : Nat) (M : Mem) : J X (ZN X foI) (FX8_isAt_41 fu (XD X) M) 41 [] [] M 0 0 := by
  unfold FX8_isAt_41
  refine j_iconst (v := 0) hC dX8_isAt_41 (by decide) ?_
  exact j_sub [] rfl (wX8_isAt_42 hC hG hnl fu M 0)
set_option linter.unusedVariables false in
set_option maxRecDepth 100000 in
theorem wX8_isAt {X : JX} (hC : JC X cX8_isAt RX8 (some .boolean) 1 12 0 0) (hG : dmI dmM (XG X)) (hnl : nLof X = 3) (fu : Nat) (M : Mem) (x1 x2 : Int32) : J X (ZN X foI) (FX8_isAt fu (XD X) M x1 x2) 0 [(0, .ref (gadr (XG X) (5, 0, 0))), (1, .int x1), (2, .int x2)] [] M 0 0 := by
  unfold FX8_isAt
  refine j_aload_n hC 0 dX8_isAt_0 rfl ?_
  refine j_getI (fk := 10) hC (dmMo hG rfl) rfl rfl in_X8 rfl rfl q1474 rfl dX8_isAt_1 ?_
  refine j_aload_n hC 0 dX8_isAt_4 rfl ?_
  refine j_getI (fk := 11) hC (dmMo hG rfl) rfl rfl in_X8 rfl rfl q1475 rfl dX8_isAt_5 ?_
  refine j_icmp_ge (tgt := 41) hC dX8_isAt_8 (by decide) (fun h8 => ?_) (fun h8 => ?_)
  · exact j_sub [] rfl (wX8_isAt_41 hC hG hnl fu M)
  · refine j_aload_n hC 0 dX8_isAt_11 rfl ?_
    refine j_getR (fk := 8) hC (dmMo hG rfl) rfl rfl in_X8 rfl rfl q1472 rfl dX8_isAt_12 ?_
    refine j_aload_n hC 0 dX8_isAt_15 rfl ?_
    refine j_getI (fk := 10) hC (dmMo hG rfl) rfl rfl in_X8 rfl rfl q1474 rfl dX8_isAt_16 ?_
    refine j_bald hC (dmMo hG rfl) rfl dX8_isAt_19 (fun h19 => ?_)
    refine j_iload_n hC 1 dX8_isAt_20 rfl ?_
    refine j_icmp_lt (tgt := 41) hC dX8_isAt_21 (by decide) (fun h21 => ?_) (fun h21 => ?_)
    · exact j_sub [] rfl (wX8_isAt_41 hC hG hnl fu M)
    · refine j_aload_n hC 0 dX8_isAt_24 rfl ?_
      refine j_getR (fk := 8) hC (dmMo hG rfl) rfl rfl in_X8 rfl rfl q1472 rfl dX8_isAt_25 ?_
      refine j_aload_n hC 0 dX8_isAt_28 rfl ?_
      refine j_getI (fk := 10) hC (dmMo hG rfl) rfl rfl in_X8 rfl rfl q1474 rfl dX8_isAt_29 ?_
      refine j_bald hC (dmMo hG rfl) rfl dX8_isAt_32 (fun h32 => ?_)
      refine j_iload_n hC 2 dX8_isAt_33 rfl ?_
      refine j_icmp_gt (tgt := 41) hC dX8_isAt_34 (by decide) (fun h34 => ?_) (fun h34 => ?_)
      · exact j_sub [] rfl (wX8_isAt_41 hC hG hnl fu M)
      · refine j_iconst (v := 1) hC dX8_isAt_37 (by decide) ?_
        refine j_goto (tgt := 42) hC dX8_isAt_38 (by decide) ?_
        exact j_sub [] rfl (wX8_isAt_42 hC hG hnl fu M 1)
set_option linter.unusedVariables false in
set_option maxRecDepth 100000 in
theorem mX8_isAt (l : Launch) (Γ : xG) (hG : dmI dmM Γ) (fu : Nat) (D : List LDen) (M : Mem) (x1 x2 : Int32) (r : Int32 × Mem) (hr : FX8_isAt fu D M x1 x2 = some r) : CN l yX8_isAt (ws_ yX8_isAt cX8_isAt 3 (some .boolean)) 1 12 Γ D [.ref (gadr Γ (5, 0, 0)), .int x1, .int x2] M (foI r.1) r.2 := by
  refine CN.of (own := RX8) (lv0 := lv_args 0 [.ref (gadr Γ (5, 0, 0)), .int x1, .int x2]) (by decide +kernel) rfl (Nat.le_of_ble_eq_true rfl) rfl (fun X e1 e2 e3 e4 hC => ?_) r hr
  subst e1
  subst e2
  exact wX8_isAt hC hG e4 fu M x1 x2
set_option linter.unusedVariables false in
set_option maxRecDepth 100000 in
theorem wgX8_blanks_0 {X : JX} (hC : JC X cX8_blanks RX8 none 2 34 0 0) (hG : dmI dmM (XG X)) (hnl : nLof X = 1) (fu : Nat) (kn0 : Mem → Option (Int32 × Mem)) (hk0 : ∀ (M : Mem), J X (ZN X foV) (kn0 M) 0 [(0, .ref (gadr (XG X) (5, 0, 0)))] [] M 0 0) (M : Mem) : J X (ZN X foV) (GX8_blanks_0 fu (XD X) kn0 M) 0 [(0, .ref (gadr (XG X) (5, 0, 0)))] [] M 0 0 := by
  unfold GX8_blanks_0
  refine j_aload_n hC 0 dX8_blanks_0 rfl ?_
  refine j_bipush (v := 32) hC dX8_blanks_1 (by decide) ?_
  refine j_bipush (v := 32) hC dX8_blanks_3 (by decide) ?_
  refine j_callV (nA := 2) (rest := []) hC [.int 32, .int 32] rfl (fun r hr => mX8_isAt (XL X) (XG X) hG fu (XD X) M 32 32 r hr) q1595 q1597 qs48 q136 q1598 (dmMo hG rfl) rfl rfl (by decide +kernel) rfl rfl rfl rfl rfl rfl dX8_blanks_5 (fun v5 => [.int v5]) (fun _ => rfl) (fun v5 M5 => ?_)
  refine j_if_eq (tgt := 24) hC dX8_blanks_8 (by decide) (fun h8 => ?_) (fun h8 => ?_)
  · refine j_aload_n hC 0 dX8_blanks_24 rfl ?_
    refine j_aload_n hC 0 dX8_blanks_25 rfl ?_
    refine j_getI (fk := 10) hC (dmMo hG rfl) rfl rfl in_X8 rfl rfl q1474 rfl dX8_blanks_26 ?_
    refine j_put (fk := 12) (ty := .int) hC (dmMo hG rfl) rfl rfl in_X8 rfl rfl q1476 tyX8 tyX8_ok nmX8 rfl rfl (by decide +kernel) rfl rfl dX8_blanks_29 ?_
    refine j_lt (fun M29 => ?_)
    exact j_vret hC dX8_blanks_32
  · refine j_aload_n hC 0 dX8_blanks_11 rfl ?_
    refine j_dup hC dX8_blanks_12 rfl ?_
    refine j_getI (fk := 10) hC (dmMo hG rfl) rfl rfl in_X8 rfl rfl q1474 rfl dX8_blanks_13 ?_
    refine j_iconst (v := 1) hC dX8_blanks_16 (by decide) ?_
    refine j_iadd hC dX8_blanks_17 ?_
    refine j_put (fk := 10) (ty := .int) hC (dmMo hG rfl) rfl rfl in_X8 rfl rfl q1474 tyX8 tyX8_ok nmX8 rfl rfl (by decide +kernel) rfl rfl dX8_blanks_18 ?_
    refine j_lt (fun M18 => ?_)
    refine j_goto (tgt := 0) hC dX8_blanks_21 (by decide) ?_
    exact j_sub [0] rfl (hk0 M18)
set_option linter.unusedVariables false in
set_option maxRecDepth 100000 in
theorem wX8_blanks_0 {X : JX} (hC : JC X cX8_blanks RX8 none 2 34 0 0) (hG : dmI dmM (XG X)) (hnl : nLof X = 1) (fu : Nat) (M : Mem) : J X (ZN X foV) (FX8_blanks_0 fu (XD X) M) 0 [(0, .ref (gadr (XG X) (5, 0, 0)))] [] M 0 0 := by
  exact j_lp (lvf := fun z => [(0, .ref (gadr (XG X) (5, 0, 0)))]) (Mf := fun z => z) (fun kn hk z => wgX8_blanks_0 hC hG hnl fu kn (fun M => hk M) z) fu M
set_option linter.unusedVariables false in
set_option maxRecDepth 100000 in
theorem wX8_blanks {X : JX} (hC : JC X cX8_blanks RX8 none 2 34 0 0) (hG : dmI dmM (XG X)) (hnl : nLof X = 1) (fu : Nat) (M : Mem) : J X (ZN X foV) (FX8_blanks fu (XD X) M) 0 [(0, .ref (gadr (XG X) (5, 0, 0)))] [] M 0 0 := by
  unfold FX8_blanks
  exact j_sub [0] rfl (wX8_blanks_0 hC hG hnl fu M)
set_option linter.unusedVariables false in
set_option maxRecDepth 100000 in
theorem mX8_blanks (l : Launch) (Γ : xG) (hG : dmI dmM Γ) (fu : Nat) (D : List LDen) (M : Mem) (r : Int32 × Mem) (hr : FX8_blanks fu D M = some r) : CN l yX8_blanks (ws_ yX8_blanks cX8_blanks 1 none) 2 34 Γ D [.ref (gadr Γ (5, 0, 0))] M (foV r.1) r.2 := by
  refine CN.of (own := RX8) (lv0 := lv_args 0 [.ref (gadr Γ (5, 0, 0))]) (by decide +kernel) rfl (Nat.le_of_ble_eq_true rfl) rfl (fun X e1 e2 e3 e4 hC => ?_) r hr
  subst e1
  subst e2
  exact wX8_blanks hC hG e4 fu M
set_option linter.unusedVariables false in
set_option maxRecDepth 100000 in
theorem wgX8_letters_4 {X : JX} (hC : JC X cX8_letters RX8 none 3 54 0 0) (hG : dmI dmM (XG X)) (hnl : nLof X = 1) (fu : Nat) (kn4 : Mem → Option (Int32 × Mem)) (hk4 : ∀ (M : Mem), J X (ZN X foV) (kn4 M) 4 [(0, .ref (gadr (XG X) (5, 0, 0)))] [] M 0 0) (M : Mem) : J X (ZN X foV) (GX8_letters_4 fu (XD X) kn4 M) 4 [(0, .ref (gadr (XG X) (5, 0, 0)))] [] M 0 0 := by
  unfold GX8_letters_4
  refine j_aload_n hC 0 dX8_letters_4 rfl ?_
  refine j_bipush (v := 97) hC dX8_letters_5 (by decide) ?_
  refine j_bipush (v := 122) hC dX8_letters_7 (by decide) ?_
  refine j_callV (nA := 2) (rest := []) hC [.int 97, .int 122] rfl (fun r hr => mX8_isAt (XL X) (XG X) hG fu (XD X) M 97 122 r hr) q1595 q1597 qs48 q136 q1598 (dmMo hG rfl) rfl rfl (by decide +kernel) rfl rfl rfl rfl rfl rfl dX8_letters_9 (fun v9 => [.int v9]) (fun _ => rfl) (fun v9 M9 => ?_)
  refine j_if_eq (tgt := 28) hC dX8_letters_12 (by decide) (fun h12 => ?_) (fun h12 => ?_)
  · exact j_vret hC dX8_letters_28
  · refine j_aload_n hC 0 dX8_letters_15 rfl ?_
    refine j_dup hC dX8_letters_16 rfl ?_
    refine j_getI (fk := 10) hC (dmMo hG rfl) rfl rfl in_X8 rfl rfl q1474 rfl dX8_letters_17 ?_
    refine j_iconst (v := 1) hC dX8_letters_20 (by decide) ?_
    refine j_iadd hC dX8_letters_21 ?_
    refine j_put (fk := 10) (ty := .int) hC (dmMo hG rfl) rfl rfl in_X8 rfl rfl q1474 tyX8 tyX8_ok nmX8 rfl rfl (by decide +kernel) rfl rfl dX8_letters_22 ?_
    refine j_lt (fun M22 => ?_)
    refine j_goto (tgt := 4) hC dX8_letters_25 (by decide) ?_
    exact j_sub [0] rfl (hk4 M22)
set_option linter.unusedVariables false in
set_option maxRecDepth 100000 in
theorem wX8_letters_4 {X : JX} (hC : JC X cX8_letters RX8 none 3 54 0 0) (hG : dmI dmM (XG X)) (hnl : nLof X = 1) (fu : Nat) (M : Mem) : J X (ZN X foV) (FX8_letters_4 fu (XD X) M) 4 [(0, .ref (gadr (XG X) (5, 0, 0)))] [] M 0 0 := by
  exact j_lp (lvf := fun z => [(0, .ref (gadr (XG X) (5, 0, 0)))]) (Mf := fun z => z) (fun kn hk z => wgX8_letters_4 hC hG hnl fu kn (fun M => hk M) z) fu M
set_option linter.unusedVariables false in
set_option maxRecDepth 100000 in
theorem wX8_letters {X : JX} (hC : JC X cX8_letters RX8 none 3 54 0 0) (hG : dmI dmM (XG X)) (hnl : nLof X = 1) (fu : Nat) (M : Mem) : J X (ZN X foV) (FX8_letters fu (XD X) M) 0 [(0, .ref (gadr (XG X) (5, 0, 0)))] [] M 0 0 := by
  unfold FX8_letters
  refine j_aload_n hC 0 dX8_letters_0 rfl ?_
  refine j_callV (nA := 0) (rest := []) hC [] rfl (fun r hr => mX8_blanks (XL X) (XG X) hG fu (XD X) M r hr) q1591 q1593 qs47 q136 q1594 (dmMo hG rfl) rfl rfl (by decide +kernel) rfl rfl rfl rfl rfl rfl dX8_letters_1 (fun _ => []) (fun _ => rfl) (fun v1 M1 => ?_)
  exact j_sub [0] rfl (wX8_letters_4 hC hG hnl fu M1)
set_option linter.unusedVariables false in
set_option maxRecDepth 100000 in
theorem mX8_letters (l : Launch) (Γ : xG) (hG : dmI dmM Γ) (fu : Nat) (D : List LDen) (M : Mem) (r : Int32 × Mem) (hr : FX8_letters fu D M = some r) : CN l yX8_letters (ws_ yX8_letters cX8_letters 1 none) 3 54 Γ D [.ref (gadr Γ (5, 0, 0))] M (foV r.1) r.2 := by
  refine CN.of (own := RX8) (lv0 := lv_args 0 [.ref (gadr Γ (5, 0, 0))]) (by decide +kernel) rfl (Nat.le_of_ble_eq_true rfl) rfl (fun X e1 e2 e3 e4 hC => ?_) r hr
  subst e1
  subst e2
  exact wX8_letters hC hG e4 fu M
set_option linter.unusedVariables false in
set_option maxRecDepth 100000 in
theorem wX8_isWord_67 {X : JX} (hC : JC X cX8_isWord RX8 (some .boolean) 5 141 0 0) (hG : dmI dmM (XG X)) (hnl : nLof X = 4) (fu : Nat) (q : Nat) (hq : q < 27) (M : Mem) (x2 : Int32) : J X (ZN X foI) (FX8_isWord_67 fu (XD X) q M x2) 67 [(2, .int x2)] [] M 0 0 := by
  unfold FX8_isWord_67
  refine j_iload_n hC 0 dX8_isWord_67 rfl ?_
  exact j_zret hC rfl dX8_isWord_68
set_option linter.unusedVariables false in
set_option maxRecDepth 100000 in
theorem wX8_isWord_60 {X : JX} (hC : JC X cX8_isWord RX8 (some .boolean) 5 141 0 0) (hG : dmI dmM (XG X)) (hnl : nLof X = 4) (fu : Nat) (q : Nat) (hq : q < 27) (kn24 : Mem × Int32 × Int32 → Option (Int32 × Mem)) (hk24 : ∀ (M : Mem) (x2 x3 : Int32), J X (ZN X foI) (kn24 (M, x2, x3)) 24 [(0, .ref (gadr (XG X) (5, 0, 0))), (1, .ref (gadr (XG X) (6, 0, q))), (2, .int x2), (3, .int x3)] [] M 0 0) (M : Mem) (x3 t0 : Int32) : J X (ZN X foI) (FX8_isWord_60 fu (XD X) q kn24 M x3 t0) 60 [(0, .ref (gadr (XG X) (5, 0, 0))), (1, .ref (gadr (XG X) (6, 0, q))), (3, .int x3)] [.int t0] M 0 0 := by
  unfold FX8_isWord_60
  refine j_istore_n hC [(2, .int t0), (0, .ref (gadr (XG X) (5, 0, 0))), (1, .ref (gadr (XG X) (6, 0, q))), (3, .int x3)] hnl dX8_isWord_60 rfl rfl ?_
  refine j_iincL hC 3 (fun y61 => [(3, .int y61), (2, .int t0), (0, .ref (gadr (XG X) (5, 0, 0))), (1, .ref (gadr (XG X) (6, 0, q)))]) hnl dX8_isWord_61 rfl (by decide) rfl (fun _ => rfl) (fun y61 => ?_)
  refine j_goto (tgt := 24) hC dX8_isWord_64 (by decide) ?_
  exact j_sub [2, 3, 1, 0] rfl (hk24 M t0 y61)
set_option linter.unusedVariables false in
set_option maxRecDepth 100000 in
theorem wgX8_isWord_24 {X : JX} (hC : JC X cX8_isWord RX8 (some .boolean) 5 141 0 0) (hG : dmI dmM (XG X)) (hnl : nLof X = 4) (fu : Nat) (q : Nat) (hq : q < 27) (kn24 : Mem × Int32 × Int32 → Option (Int32 × Mem)) (hk24 : ∀ (M : Mem) (x2 x3 : Int32), J X (ZN X foI) (kn24 (M, x2, x3)) 24 [(0, .ref (gadr (XG X) (5, 0, 0))), (1, .ref (gadr (XG X) (6, 0, q))), (2, .int x2), (3, .int x3)] [] M 0 0) (M : Mem) (x2 x3 : Int32) : J X (ZN X foI) (GX8_isWord_24 fu (XD X) q kn24 M x2 x3) 24 [(0, .ref (gadr (XG X) (5, 0, 0))), (1, .ref (gadr (XG X) (6, 0, q))), (2, .int x2), (3, .int x3)] [] M 0 0 := by
  unfold GX8_isWord_24
  refine j_iload_n hC 2 dX8_isWord_24 rfl ?_
  refine j_if_eq (tgt := 67) hC dX8_isWord_25 (by decide) (fun h25 => ?_) (fun h25 => ?_)
  · exact j_sub [2] rfl (wX8_isWord_67 hC hG hnl fu q hq M x2)
  · refine j_iload_n hC 3 dX8_isWord_28 rfl ?_
    refine j_aload_n hC 1 dX8_isWord_29 rfl ?_
    refine j_callStr (nA := 0) hq (rest := [.int x3]) hC [] rfl (fun r hr => mJ3_length (XL X) (XG X) (XD X) q hq M r hr) q1616 q776 q777 q138 q778 (by decide +kernel) rfl rfl rfl rfl rfl rfl dX8_isWord_30 (fun v30 => [.int v30, .int x3]) (fun _ => rfl) (fun v30 M30 => ?_)
    refine j_icmp_ge (tgt := 67) hC dX8_isWord_33 (by decide) (fun h33 => ?_) (fun h33 => ?_)
    · exact j_sub [2] rfl (wX8_isWord_67 hC hG hnl fu q hq M30 x2)
    · refine j_aload_n hC 0 dX8_isWord_36 rfl ?_
      refine j_getR (fk := 8) hC (dmMo hG rfl) rfl rfl in_X8 rfl rfl q1472 rfl dX8_isWord_37 ?_
      refine j_aload_n hC 0 dX8_isWord_40 rfl ?_
      refine j_getI (fk := 12) hC (dmMo hG rfl) rfl rfl in_X8 rfl rfl q1476 rfl dX8_isWord_41 ?_
      refine j_iload_n hC 3 dX8_isWord_44 rfl ?_
      refine j_iadd hC dX8_isWord_45 ?_
      refine j_bald hC (dmMo hG rfl) rfl dX8_isWord_46 (fun h46 => ?_)
      refine j_aload_n hC 1 dX8_isWord_47 rfl ?_
      refine j_iload_n hC 3 dX8_isWord_48 rfl ?_
      refine j_callStr (nA := 1) hq (rest := [.int (M30 (5, 0, 6) (((M30 (5, 0, 0) 12) + x3).toNatClampNeg))]) hC [.int x3] rfl (fun r hr => mJ3_charAt (XL X) (XG X) (XD X) q hq M30 x3 r hr) q1617 q786 q787 q138 q788 (by decide +kernel) rfl rfl rfl rfl rfl rfl dX8_isWord_49 (fun v49 => [.int v49, .int (M30 (5, 0, 6) (((M30 (5, 0, 0) 12) + x3).toNatClampNeg))]) (fun _ => rfl) (fun v49 M49 => ?_)
      refine j_icmp_ne (tgt := 59) hC dX8_isWord_52 (by decide) (fun h52 => ?_) (fun h52 => ?_)
      · refine j_iconst (v := 1) hC dX8_isWord_55 (by decide) ?_
        refine j_goto (tgt := 60) hC dX8_isWord_56 (by decide) ?_
        exact j_sub [0, 1, 3] rfl (wX8_isWord_60 hC hG hnl fu q hq kn24 hk24 M49 x3 1)
      · refine j_iconst (v := 0) hC dX8_isWord_59 (by decide) ?_
        exact j_sub [0, 1, 3] rfl (wX8_isWord_60 hC hG hnl fu q hq kn24 hk24 M49 x3 0)
set_option linter.unusedVariables false in
set_option maxRecDepth 100000 in
theorem wX8_isWord_24 {X : JX} (hC : JC X cX8_isWord RX8 (some .boolean) 5 141 0 0) (hG : dmI dmM (XG X)) (hnl : nLof X = 4) (fu : Nat) (q : Nat) (hq : q < 27) (M : Mem) (x2 x3 : Int32) : J X (ZN X foI) (FX8_isWord_24 fu (XD X) q M x2 x3) 24 [(0, .ref (gadr (XG X) (5, 0, 0))), (1, .ref (gadr (XG X) (6, 0, q))), (2, .int x2), (3, .int x3)] [] M 0 0 := by
  exact j_lp (lvf := fun z => [(0, .ref (gadr (XG X) (5, 0, 0))), (1, .ref (gadr (XG X) (6, 0, q))), (2, .int (z.2.1)), (3, .int (z.2.2))]) (Mf := fun z => z.1) (fun kn hk z => wgX8_isWord_24 hC hG hnl fu q hq kn (fun M x2 x3 => hk (M, x2, x3)) z.1 z.2.1 z.2.2) fu (M, x2, x3)
set_option linter.unusedVariables false in
set_option maxRecDepth 100000 in
theorem wX8_isWord_21 {X : JX} (hC : JC X cX8_isWord RX8 (some .boolean) 5 141 0 0) (hG : dmI dmM (XG X)) (hnl : nLof X = 4) (fu : Nat) (q : Nat) (hq : q < 27) (M : Mem) (t0 : Int32) : J X (ZN X foI) (FX8_isWord_21 fu (XD X) q M t0) 21 [(0, .ref (gadr (XG X) (5, 0, 0))), (1, .ref (gadr (XG X) (6, 0, q)))] [.int t0] M 0 0 := by
  unfold FX8_isWord_21
  refine j_istore_n hC [(2, .int t0), (0, .ref (gadr (XG X) (5, 0, 0))), (1, .ref (gadr (XG X) (6, 0, q)))] hnl dX8_isWord_21 rfl rfl ?_
  refine j_iconst (v := 0) hC dX8_isWord_22 (by decide) ?_
  refine j_istore_n hC [(3, .int 0), (2, .int t0), (0, .ref (gadr (XG X) (5, 0, 0))), (1, .ref (gadr (XG X) (6, 0, q)))] hnl dX8_isWord_23 rfl rfl ?_
  exact j_sub [2, 3, 1, 0] rfl (wX8_isWord_24 hC hG hnl fu q hq M t0 0)
set_option linter.unusedVariables false in
set_option maxRecDepth 100000 in
theorem wX8_isWord {X : JX} (hC : JC X cX8_isWord RX8 (some .boolean) 5 141 0 0) (hG : dmI dmM (XG X)) (hnl : nLof X = 4) (fu : Nat) (q : Nat) (hq : q < 27) (M : Mem) : J X (ZN X foI) (FX8_isWord fu (XD X) q M) 0 [(0, .ref (gadr (XG X) (5, 0, 0))), (1, .ref (gadr (XG X) (6, 0, q)))] [] M 0 0 := by
  unfold FX8_isWord
  refine j_aload_n hC 0 dX8_isWord_0 rfl ?_
  refine j_getI (fk := 10) hC (dmMo hG rfl) rfl rfl in_X8 rfl rfl q1474 rfl dX8_isWord_1 ?_
  refine j_aload_n hC 0 dX8_isWord_4 rfl ?_
  refine j_getI (fk := 12) hC (dmMo hG rfl) rfl rfl in_X8 rfl rfl q1476 rfl dX8_isWord_5 ?_
  refine j_isub hC dX8_isWord_8 ?_
  refine j_aload_n hC 1 dX8_isWord_9 rfl ?_
  refine j_callStr (nA := 0) hq (rest := [.int ((M (5, 0, 0) 10) - (M (5, 0, 0) 12))]) hC [] rfl (fun r hr => mJ3_length (XL X) (XG X) (XD X) q hq M r hr) q1616 q776 q777 q138 q778 (by decide +kernel) rfl rfl rfl rfl rfl rfl dX8_isWord_10 (fun v10 => [.int v10, .int ((M (5, 0, 0) 10) - (M (5, 0, 0) 12))]) (fun _ => rfl) (fun v10 M10 => ?_)
  refine j_icmp_ne (tgt := 20) hC dX8_isWord_13 (by decide) (fun h13 => ?_) (fun h13 => ?_)
  · refine j_iconst (v := 1) hC dX8_isWord_16 (by decide) ?_
    refine j_goto (tgt := 21) hC dX8_isWord_17 (by decide) ?_
    exact j_sub [0, 1] rfl (wX8_isWord_21 hC hG hnl fu q hq M10 1)
  · refine j_iconst (v := 0) hC dX8_isWord_20 (by decide) ?_
    exact j_sub [0, 1] rfl (wX8_isWord_21 hC hG hnl fu q hq M10 0)
set_option linter.unusedVariables false in
set_option maxRecDepth 100000 in
theorem mX8_isWord (l : Launch) (Γ : xG) (hG : dmI dmM Γ) (fu : Nat) (D : List LDen) (q : Nat) (hq : q < 27) (M : Mem) (r : Int32 × Mem) (hr : FX8_isWord fu D q M = some r) : CN l yX8_isWord (ws_ yX8_isWord cX8_isWord 4 (some .boolean)) 5 141 Γ D [.ref (gadr Γ (5, 0, 0)), .ref (gadr Γ (6, 0, q))] M (foI r.1) r.2 := by
  refine CN.of (own := RX8) (lv0 := lv_args 0 [.ref (gadr Γ (5, 0, 0)), .ref (gadr Γ (6, 0, q))]) (by decide +kernel) rfl (Nat.le_of_ble_eq_true rfl) rfl (fun X e1 e2 e3 e4 hC => ?_) r hr
  subst e1
  subst e2
  exact wX8_isWord hC hG e4 fu q hq M
set_option linter.unusedVariables false in
set_option maxRecDepth 100000 in
theorem wX8_birds {X : JX} (hC : JC X cX8_birds RX8 (some .int) 1 12 0 0) (hG : dmI dmM (XG X)) (hnl : nLof X = 1) (fu : Nat) (M : Mem) : J X (ZN X foI) (FX8_birds fu (XD X) M) 0 [(0, .ref (gadr (XG X) (5, 0, 0)))] [] M 0 0 := by
  unfold FX8_birds
  refine j_aload_n hC 0 dX8_birds_0 rfl ?_
  refine j_getR (fk := 1) hC (dmMo hG rfl) rfl rfl in_X8 rfl rfl q1465 rfl dX8_birds_1 ?_
  refine j_iconst (v := 0) hC dX8_birds_4 (by decide) ?_
  refine j_iald hC (dmMo hG rfl) rfl dX8_birds_5 (fun h5 => ?_)
  exact j_iret hC dX8_birds_6
set_option linter.unusedVariables false in
set_option maxRecDepth 100000 in
theorem mX8_birds (l : Launch) (Γ : xG) (hG : dmI dmM Γ) (fu : Nat) (D : List LDen) (M : Mem) (r : Int32 × Mem) (hr : FX8_birds fu D M = some r) : CN l yX8_birds (ws_ yX8_birds cX8_birds 1 (some .int)) 1 12 Γ D [.ref (gadr Γ (5, 0, 0))] M (foI r.1) r.2 := by
  refine CN.of (own := RX8) (lv0 := lv_args 0 [.ref (gadr Γ (5, 0, 0))]) (by decide +kernel) rfl (Nat.le_of_ble_eq_true rfl) rfl (fun X e1 e2 e3 e4 hC => ?_) r hr
  subst e1
  subst e2
  exact wX8_birds hC hG e4 fu M
set_option linter.unusedVariables false in
set_option maxRecDepth 100000 in
theorem wX8_number_104 {X : JX} (hC : JC X cX8_number RX8 (some .int) 3 54 0 0) (hG : dmI dmM (XG X)) (hnl : nLof X = 4) (fu : Nat) (M : Mem) (t0 : Int32) : J X (ZN X foI) (FX8_number_104 fu (XD X) M t0) 104 [] [.int t0] M 0 0 := by
  unfold FX8_number_104
  exact j_iret hC dX8_number_104
set_option linter.unusedVariables false in
set_option maxRecDepth 100000 in
theorem wX8_number_99 {X : JX} (hC : JC X cX8_number RX8 (some .int) 3 54 0 0) (hG : dmI dmM (XG X)) (hnl : nLof X = 4) (fu : Nat) (M : Mem) : J X (ZN X foI) (FX8_number_99 fu (XD X) M) 99 [] [] M 0 0 := by
  unfold FX8_number_99
  refine j_iconst (v := (-1)) hC dX8_number_99 (by decide) ?_
  refine j_goto (tgt := 104) hC dX8_number_100 (by decide) ?_
  exact j_sub [] rfl (wX8_number_104 hC hG hnl fu M (-1))
set_option linter.unusedVariables false in
set_option maxRecDepth 100000 in
theorem wX8_number_51 {X : JX} (hC : JC X cX8_number RX8 (some .int) 3 54 0 0) (hG : dmI dmM (XG X)) (hnl : nLof X = 4) (fu : Nat) (kn6 : Mem × Int32 × Int32 × Int32 → Option (Int32 × Mem)) (hk6 : ∀ (M : Mem) (x1 x2 x3 : Int32), J X (ZN X foI) (kn6 (M, x1, x2, x3)) 6 [(0, .ref (gadr (XG X) (5, 0, 0))), (1, .int x1), (2, .int x2), (3, .int x3)] [] M 0 0) (M : Mem) (x1 x2 t0 : Int32) : J X (ZN X foI) (FX8_number_51 fu (XD X) kn6 M x1 x2 t0) 51 [(0, .ref (gadr (XG X) (5, 0, 0))), (1, .int x1), (2, .int x2)] [.int t0] M 0 0 := by
  unfold FX8_number_51
  refine j_istore_n hC [(3, .int t0), (0, .ref (gadr (XG X) (5, 0, 0))), (1, .int x1), (2, .int x2)] hnl dX8_number_51 rfl rfl ?_
  refine j_aload_n hC 1 dX8_number_52 rfl ?_
  refine j_dup hC dX8_number_53 rfl ?_
  refine j_getI (fk := 10) hC (dmMo hG rfl) rfl rfl in_X8 rfl rfl q1474 rfl dX8_number_54 ?_
  refine j_iconst (v := 1) hC dX8_number_57 (by decide) ?_
  refine j_iadd hC dX8_number_58 ?_
  refine j_put (fk := 10) (ty := .int) hC (dmMo hG rfl) rfl rfl in_X8 rfl rfl q1474 tyX8 tyX8_ok nmX8 rfl rfl (by decide +kernel) rfl rfl dX8_number_59 ?_
  refine j_lt (fun M59 => ?_)
  refine j_goto (tgt := 6) hC dX8_number_62 (by decide) ?_
  exact j_sub [1, 2, 3, 0] rfl (hk6 M59 x1 x2 t0)
set_option linter.unusedVariables false in
set_option maxRecDepth 100000 in
theorem wgX8_number_6 {X : JX} (hC : JC X cX8_number RX8 (some .int) 3 54 0 0) (hG : dmI dmM (XG X)) (hnl : nLof X = 4) (fu : Nat) (kn6 : Mem × Int32 × Int32 × Int32 → Option (Int32 × Mem)) (hk6 : ∀ (M : Mem) (x1 x2 x3 : Int32), J X (ZN X foI) (kn6 (M, x1, x2, x3)) 6 [(0, .ref (gadr (XG X) (5, 0, 0))), (1, .int x1), (2, .int x2), (3, .int x3)] [] M 0 0) (M : Mem) (x1 x2 x3 : Int32) : J X (ZN X foI) (GX8_number_6 fu (XD X) kn6 M x1 x2 x3) 6 [(0, .ref (gadr (XG X) (5, 0, 0))), (1, .int x1), (2, .int x2), (3, .int x3)] [] M 0 0 := by
  unfold GX8_number_6
  refine j_aload_n hC 0 dX8_number_6 rfl ?_
  refine j_bipush (v := 48) hC dX8_number_7 (by decide) ?_
  refine j_bipush (v := 57) hC dX8_number_9 (by decide) ?_
  refine j_callV (nA := 2) (rest := []) hC [.int 48, .int 57] rfl (fun r hr => mX8_isAt (XL X) (XG X) hG fu (XD X) M 48 57 r hr) q1595 q1597 qs48 q136 q1598 (dmMo hG rfl) rfl rfl (by decide +kernel) rfl rfl rfl rfl rfl rfl dX8_number_11 (fun v11 => [.int v11]) (fun _ => rfl) (fun v11 M11 => ?_)
  refine j_if_eq (tgt := 65) hC dX8_number_14 (by decide) (fun h14 => ?_) (fun h14 => ?_)
  · refine j_aload_n hC 0 dX8_number_65 rfl ?_
    refine j_getI (fk := 10) hC (dmMo hG rfl) rfl rfl in_X8 rfl rfl q1474 rfl dX8_number_66 ?_
    refine j_aload_n hC 0 dX8_number_69 rfl ?_
    refine j_getI (fk := 12) hC (dmMo hG rfl) rfl rfl in_X8 rfl rfl q1476 rfl dX8_number_70 ?_
    refine j_icmp_eq (tgt := 99) hC dX8_number_73 (by decide) (fun h73 => ?_) (fun h73 => ?_)
    · exact j_sub [] rfl (wX8_number_99 hC hG hnl fu M11)
    · refine j_aload_n hC 0 dX8_number_76 rfl ?_
      refine j_getI (fk := 10) hC (dmMo hG rfl) rfl rfl in_X8 rfl rfl q1474 rfl dX8_number_77 ?_
      refine j_aload_n hC 0 dX8_number_80 rfl ?_
      refine j_getI (fk := 12) hC (dmMo hG rfl) rfl rfl in_X8 rfl rfl q1476 rfl dX8_number_81 ?_
      refine j_isub hC dX8_number_84 ?_
      refine j_iconst (v := 3) hC dX8_number_85 (by decide) ?_
      refine j_icmp_gt (tgt := 99) hC dX8_number_86 (by decide) (fun h86 => ?_) (fun h86 => ?_)
      · exact j_sub [] rfl (wX8_number_99 hC hG hnl fu M11)
      · refine j_iload_n hC 3 dX8_number_89 rfl ?_
        refine j_iload_n hC 1 dX8_number_90 rfl ?_
        refine j_icmp_lt (tgt := 99) hC dX8_number_91 (by decide) (fun h91 => ?_) (fun h91 => ?_)
        · exact j_sub [] rfl (wX8_number_99 hC hG hnl fu M11)
        · refine j_iload_n hC 3 dX8_number_94 rfl ?_
          refine j_iload_n hC 2 dX8_number_95 rfl ?_
          refine j_icmp_le (tgt := 103) hC dX8_number_96 (by decide) (fun h96 => ?_) (fun h96 => ?_)
          · refine j_iload_n hC 3 dX8_number_103 rfl ?_
            exact j_sub [] rfl (wX8_number_104 hC hG hnl fu M11 x3)
          · exact j_sub [] rfl (wX8_number_99 hC hG hnl fu M11)
  · refine j_aload_n hC 0 dX8_number_17 rfl ?_
    refine j_getI (fk := 10) hC (dmMo hG rfl) rfl rfl in_X8 rfl rfl q1474 rfl dX8_number_18 ?_
    refine j_aload_n hC 0 dX8_number_21 rfl ?_
    refine j_getI (fk := 12) hC (dmMo hG rfl) rfl rfl in_X8 rfl rfl q1476 rfl dX8_number_22 ?_
    refine j_isub hC dX8_number_25 ?_
    refine j_iconst (v := 3) hC dX8_number_26 (by decide) ?_
    refine j_icmp_ge (tgt := 50) hC dX8_number_27 (by decide) (fun h27 => ?_) (fun h27 => ?_)
    · refine j_iload_n hC 3 dX8_number_50 rfl ?_
      exact j_sub [0, 1, 2] rfl (wX8_number_51 hC hG hnl fu kn6 hk6 M11 x1 x2 x3)
    · refine j_bipush (v := 10) hC dX8_number_30 (by decide) ?_
      refine j_iload_n hC 3 dX8_number_32 rfl ?_
      refine j_imul hC dX8_number_33 ?_
      refine j_aload_n hC 0 dX8_number_34 rfl ?_
      refine j_getR (fk := 8) hC (dmMo hG rfl) rfl rfl in_X8 rfl rfl q1472 rfl dX8_number_35 ?_
      refine j_aload_n hC 0 dX8_number_38 rfl ?_
      refine j_getI (fk := 10) hC (dmMo hG rfl) rfl rfl in_X8 rfl rfl q1474 rfl dX8_number_39 ?_
      refine j_bald hC (dmMo hG rfl) rfl dX8_number_42 (fun h42 => ?_)
      refine j_iadd hC dX8_number_43 ?_
      refine j_bipush (v := 48) hC dX8_number_44 (by decide) ?_
      refine j_isub hC dX8_number_46 ?_
      refine j_goto (tgt := 51) hC dX8_number_47 (by decide) ?_
      exact j_sub [0, 1, 2] rfl (wX8_number_51 hC hG hnl fu kn6 hk6 M11 x1 x2 (((10 * x3) + (M11 (5, 0, 6) ((M11 (5, 0, 0) 10).toNatClampNeg))) - 48))
set_option linter.unusedVariables false in
set_option maxRecDepth 100000 in
theorem wX8_number_6 {X : JX} (hC : JC X cX8_number RX8 (some .int) 3 54 0 0) (hG : dmI dmM (XG X)) (hnl : nLof X = 4) (fu : Nat) (M : Mem) (x1 x2 x3 : Int32) : J X (ZN X foI) (FX8_number_6 fu (XD X) M x1 x2 x3) 6 [(0, .ref (gadr (XG X) (5, 0, 0))), (1, .int x1), (2, .int x2), (3, .int x3)] [] M 0 0 := by
  exact j_lp (lvf := fun z => [(0, .ref (gadr (XG X) (5, 0, 0))), (1, .int (z.2.1)), (2, .int (z.2.2.1)), (3, .int (z.2.2.2))]) (Mf := fun z => z.1) (fun kn hk z => wgX8_number_6 hC hG hnl fu kn (fun M x1 x2 x3 => hk (M, x1, x2, x3)) z.1 z.2.1 z.2.2.1 z.2.2.2) fu (M, x1, x2, x3)
set_option linter.unusedVariables false in
set_option maxRecDepth 100000 in
theorem wX8_number {X : JX} (hC : JC X cX8_number RX8 (some .int) 3 54 0 0) (hG : dmI dmM (XG X)) (hnl : nLof X = 4) (fu : Nat) (M : Mem) (x1 x2 : Int32) : J X (ZN X foI) (FX8_number fu (XD X) M x1 x2) 0 [(0, .ref (gadr (XG X) (5, 0, 0))), (1, .int x1), (2, .int x2)] [] M 0 0 := by
  unfold FX8_number
  refine j_aload_n hC 0 dX8_number_0 rfl ?_
  refine j_callV (nA := 0) (rest := []) hC [] rfl (fun r hr => mX8_blanks (XL X) (XG X) hG fu (XD X) M r hr) q1591 q1593 qs47 q136 q1594 (dmMo hG rfl) rfl rfl (by decide +kernel) rfl rfl rfl rfl rfl rfl dX8_number_1 (fun _ => []) (fun _ => rfl) (fun v1 M1 => ?_)
  refine j_iconst (v := 0) hC dX8_number_4 (by decide) ?_
  refine j_istore_n hC [(3, .int 0), (0, .ref (gadr (XG X) (5, 0, 0))), (1, .int x1), (2, .int x2)] hnl dX8_number_5 rfl rfl ?_
  exact j_sub [1, 2, 3, 0] rfl (wX8_number_6 hC hG hnl fu M1 x1 x2 0)
set_option linter.unusedVariables false in
set_option maxRecDepth 100000 in
theorem mX8_number (l : Launch) (Γ : xG) (hG : dmI dmM Γ) (fu : Nat) (D : List LDen) (M : Mem) (x1 x2 : Int32) (r : Int32 × Mem) (hr : FX8_number fu D M x1 x2 = some r) : CN l yX8_number (ws_ yX8_number cX8_number 4 (some .int)) 3 54 Γ D [.ref (gadr Γ (5, 0, 0)), .int x1, .int x2] M (foI r.1) r.2 := by
  refine CN.of (own := RX8) (lv0 := lv_args 0 [.ref (gadr Γ (5, 0, 0)), .int x1, .int x2]) (by decide +kernel) rfl (Nat.le_of_ble_eq_true rfl) rfl (fun X e1 e2 e3 e4 hC => ?_) r hr
  subst e1
  subst e2
  exact wX8_number hC hG e4 fu M x1 x2
set_option linter.unusedVariables false in
set_option maxRecDepth 100000 in
theorem wX8_after_22 {X : JX} (hC : JC X cX8_after RX8 (some .int) 6 164 0 0) (hG : dmI dmM (XG X)) (hnl : nLof X = 4) (fu : Nat) (q : Nat) (hq : q < 27) (M : Mem) (t0 : Int32) : J X (ZN X foI) (FX8_after_22 fu (XD X) q M t0) 22 [] [.int t0] M 0 0 := by
  unfold FX8_after_22
  exact j_iret hC dX8_after_22
set_option linter.unusedVariables false in
set_option maxRecDepth 100000 in
theorem wX8_after {X : JX} (hC : JC X cX8_after RX8 (some .int) 6 164 0 0) (hG : dmI dmM (XG X)) (hnl : nLof X = 4) (fu : Nat) (q : Nat) (hq : q < 27) (M : Mem) (x2 x3 : Int32) : J X (ZN X foI) (FX8_after fu (XD X) q M x2 x3) 0 [(0, .ref (gadr (XG X) (5, 0, 0))), (1, .ref (gadr (XG X) (6, 0, q))), (2, .int x2), (3, .int x3)] [] M 0 0 := by
  unfold FX8_after
  refine j_aload_n hC 0 dX8_after_0 rfl ?_
  refine j_callV (nA := 0) (rest := []) hC [] rfl (fun r hr => mX8_letters (XL X) (XG X) hG fu (XD X) M r hr) q1603 q1605 qs50 q136 q1606 (dmMo hG rfl) rfl rfl (by decide +kernel) rfl rfl rfl rfl rfl rfl dX8_after_1 (fun _ => []) (fun _ => rfl) (fun v1 M1 => ?_)
  refine j_aload_n hC 0 dX8_after_4 rfl ?_
  refine j_aload_n hC 1 dX8_after_5 rfl ?_
  refine j_callV (nA := 1) (rest := []) hC [.ref (gadr (XG X) (6, 0, q))] rfl (fun r hr => mX8_isWord (XL X) (XG X) hG fu (XD X) q hq M1 r hr) q1612 q1614 qs52 q136 q1615 (dmMo hG rfl) rfl rfl (by decide +kernel) rfl rfl rfl rfl rfl rfl dX8_after_6 (fun v6 => [.int v6]) (fun _ => rfl) (fun v6 M6 => ?_)
  refine j_if_eq (tgt := 21) hC dX8_after_9 (by decide) (fun h9 => ?_) (fun h9 => ?_)
  · refine j_iconst (v := (-1)) hC dX8_after_21 (by decide) ?_
    exact j_sub [] rfl (wX8_after_22 hC hG hnl fu q hq M6 (-1))
  · refine j_aload_n hC 0 dX8_after_12 rfl ?_
    refine j_iload_n hC 2 dX8_after_13 rfl ?_
    refine j_iload_n hC 3 dX8_after_14 rfl ?_
    refine j_callV (nA := 2) (rest := []) hC [.int x2, .int x3] rfl (fun r hr => mX8_number (XL X) (XG X) hG fu (XD X) M6 x2 x3 r hr) q1627 q1629 qs55 q136 q1630 (dmMo hG rfl) rfl rfl (by decide +kernel) rfl rfl rfl rfl rfl rfl dX8_after_15 (fun v15 => [.int v15]) (fun _ => rfl) (fun v15 M15 => ?_)
    refine j_goto (tgt := 22) hC dX8_after_18 (by decide) ?_
    exact j_sub [] rfl (wX8_after_22 hC hG hnl fu q hq M15 v15)
set_option linter.unusedVariables false in
set_option maxRecDepth 100000 in
theorem mX8_after (l : Launch) (Γ : xG) (hG : dmI dmM Γ) (fu : Nat) (D : List LDen) (q : Nat) (hq : q < 27) (M : Mem) (x2 x3 : Int32) (r : Int32 × Mem) (hr : FX8_after fu D q M x2 x3 = some r) : CN l yX8_after (ws_ yX8_after cX8_after 4 (some .int)) 6 164 Γ D [.ref (gadr Γ (5, 0, 0)), .ref (gadr Γ (6, 0, q)), .int x2, .int x3] M (foI r.1) r.2 := by
  refine CN.of (own := RX8) (lv0 := lv_args 0 [.ref (gadr Γ (5, 0, 0)), .ref (gadr Γ (6, 0, q)), .int x2, .int x3]) (by decide +kernel) rfl (Nat.le_of_ble_eq_true rfl) rfl (fun X e1 e2 e3 e4 hC => ?_) r hr
  subst e1
  subst e2
  exact wX8_after hC hG e4 fu q hq M x2 x3
set_option linter.unusedVariables false in
set_option maxRecDepth 100000 in
theorem wX8_in_15 {X : JX} (hC : JC X cX8_in RX8 (some .boolean) 1 12 0 0) (hG : dmI dmM (XG X)) (hnl : nLof X = 3) (fu : Nat) (M : Mem) (t0 : Int32) : J X (ZN X foI) (FX8_in_15 fu (XD X) M t0) 15 [] [.int t0] M 0 0 := by
  unfold FX8_in_15
  exact j_zret hC rfl dX8_in_15
set_option linter.unusedVariables false in
set_option maxRecDepth 100000 in
theorem wX8_in_14 {X : JX} (hC : JC X cX8_in RX8 (some .boolean) 1 12 0 0) (hG : dmI dmM (XG X)) (hnl : nLof X = 3) (fu : Nat) (M : Mem) : J X (ZN X foI) (FX8_in_14 fu (XD X) M) 14 [] [] M 0 0 := by
  unfold FX8_in_14
  refine j_iconst (v := 0) hC dX8_in_14 (by decide) ?_
  exact j_sub [] rfl (wX8_in_15 hC hG hnl fu M 0)
set_option linter.unusedVariables false in
set_option maxRecDepth 100000 in
theorem wX8_in {X : JX} (hC : JC X cX8_in RX8 (some .boolean) 1 12 0 0) (hG : dmI dmM (XG X)) (hnl : nLof X = 3) (fu : Nat) (M : Mem) (x0 x1 x2 : Int32) : J X (ZN X foI) (FX8_in fu (XD X) M x0 x1 x2) 0 [(0, .int x0), (1, .int x1), (2, .int x2)] [] M 0 0 := by
  unfold FX8_in
  refine j_iload_n hC 0 dX8_in_0 rfl ?_
  refine j_iload_n hC 1 dX8_in_1 rfl ?_
  refine j_icmp_lt (tgt := 14) hC dX8_in_2 (by decide) (fun h2 => ?_) (fun h2 => ?_)
  · exact j_sub [] rfl (wX8_in_14 hC hG hnl fu M)
  · refine j_iload_n hC 0 dX8_in_5 rfl ?_
    refine j_iload_n hC 2 dX8_in_6 rfl ?_
    refine j_icmp_gt (tgt := 14) hC dX8_in_7 (by decide) (fun h7 => ?_) (fun h7 => ?_)
    · exact j_sub [] rfl (wX8_in_14 hC hG hnl fu M)
    · refine j_iconst (v := 1) hC dX8_in_10 (by decide) ?_
      refine j_goto (tgt := 15) hC dX8_in_11 (by decide) ?_
      exact j_sub [] rfl (wX8_in_15 hC hG hnl fu M 1)
set_option linter.unusedVariables false in
set_option maxRecDepth 100000 in
theorem mX8_in (l : Launch) (Γ : xG) (hG : dmI dmM Γ) (fu : Nat) (D : List LDen) (M : Mem) (x0 x1 x2 : Int32) (r : Int32 × Mem) (hr : FX8_in fu D M x0 x1 x2 = some r) : CN l yX8_in (ws_ yX8_in cX8_in 3 (some .boolean)) 1 12 Γ D [.int x0, .int x1, .int x2] M (foI r.1) r.2 := by
  refine CN.of (own := RX8) (lv0 := lv_args 0 [.int x0, .int x1, .int x2]) (by decide +kernel) rfl (Nat.le_of_ble_eq_true rfl) rfl (fun X e1 e2 e3 e4 hC => ?_) r hr
  subst e1
  subst e2
  exact wX8_in hC hG e4 fu M x0 x1 x2
set_option linter.unusedVariables false in
set_option maxRecDepth 100000 in
theorem wX8_has_14 {X : JX} (hC : JC X cX8_has RX8 (some .boolean) 1 12 0 0) (hG : dmI dmM (XG X)) (hnl : nLof X = 2) (fu : Nat) (M : Mem) (t0 : Int32) : J X (ZN X foI) (FX8_has_14 fu (XD X) M t0) 14 [] [.int t0] M 0 0 := by
  unfold FX8_has_14
  exact j_zret hC rfl dX8_has_14
set_option linter.unusedVariables false in
set_option maxRecDepth 100000 in
theorem wX8_has {X : JX} (hC : JC X cX8_has RX8 (some .boolean) 1 12 0 0) (hG : dmI dmM (XG X)) (hnl : nLof X = 2) (fu : Nat) (M : Mem) (x0 x1 : Int32) : J X (ZN X foI) (FX8_has fu (XD X) M x0 x1) 0 [(0, .int x0), (1, .int x1)] [] M 0 0 := by
  unfold FX8_has
  refine j_iload_n hC 0 dX8_has_0 rfl ?_
  refine j_iload_n hC 1 dX8_has_1 rfl ?_
  refine j_ishr hC dX8_has_2 ?_
  refine j_iconst (v := 1) hC dX8_has_3 (by decide) ?_
  refine j_iand hC dX8_has_4 ?_
  refine j_iconst (v := 1) hC dX8_has_5 (by decide) ?_
  refine j_icmp_ne (tgt := 13) hC dX8_has_6 (by decide) (fun h6 => ?_) (fun h6 => ?_)
  · refine j_iconst (v := 1) hC dX8_has_9 (by decide) ?_
    refine j_goto (tgt := 14) hC dX8_has_10 (by decide) ?_
    exact j_sub [] rfl (wX8_has_14 hC hG hnl fu M 1)
  · refine j_iconst (v := 0) hC dX8_has_13 (by decide) ?_
    exact j_sub [] rfl (wX8_has_14 hC hG hnl fu M 0)
set_option linter.unusedVariables false in
set_option maxRecDepth 100000 in
theorem mX8_has (l : Launch) (Γ : xG) (hG : dmI dmM Γ) (fu : Nat) (D : List LDen) (M : Mem) (x0 x1 : Int32) (r : Int32 × Mem) (hr : FX8_has fu D M x0 x1 = some r) : CN l yX8_has (ws_ yX8_has cX8_has 2 (some .boolean)) 1 12 Γ D [.int x0, .int x1] M (foI r.1) r.2 := by
  refine CN.of (own := RX8) (lv0 := lv_args 0 [.int x0, .int x1]) (by decide +kernel) rfl (Nat.le_of_ble_eq_true rfl) rfl (fun X e1 e2 e3 e4 hC => ?_) r hr
  subst e1
  subst e2
  exact wX8_has hC hG e4 fu M x0 x1
set_option linter.unusedVariables false in
set_option maxRecDepth 100000 in
theorem wX8_lettersTold_111 {X : JX} (hC : JC X cX8_lettersTold RX8 (some .int) 4 74 0 0) (hG : dmI dmM (XG X)) (hnl : nLof X = 6) (fu : Nat) (M : Mem) (t0 : Int32) : J X (ZN X foI) (FX8_lettersTold_111 fu (XD X) M t0) 111 [] [.int t0] M 0 0 := by
  unfold FX8_lettersTold_111
  exact j_iret hC dX8_lettersTold_111
set_option linter.unusedVariables false in
set_option maxRecDepth 100000 in
theorem wX8_lettersTold_102 {X : JX} (hC : JC X cX8_lettersTold RX8 (some .int) 4 74 0 0) (hG : dmI dmM (XG X)) (hnl : nLof X = 6) (fu : Nat) (M : Mem) (x2 x3 : Int32) : J X (ZN X foI) (FX8_lettersTold_102 fu (XD X) M x2 x3) 102 [(2, .int x2), (3, .int x3)] [] M 0 0 := by
  unfold FX8_lettersTold_102
  refine j_iload_n hC 1 dX8_lettersTold_102 rfl ?_
  refine j_if_eq (tgt := 110) hC dX8_lettersTold_103 (by decide) (fun h103 => ?_) (fun h103 => ?_)
  · refine j_iconst (v := (-1)) hC dX8_lettersTold_110 (by decide) ?_
    exact j_sub [] rfl (wX8_lettersTold_111 hC hG hnl fu M (-1))
  · refine j_iload_n hC 0 dX8_lettersTold_106 rfl ?_
    refine j_goto (tgt := 111) hC dX8_lettersTold_107 (by decide) ?_
    exact j_sub [] rfl (wX8_lettersTold_111 hC hG hnl fu M x2)
set_option linter.unusedVariables false in
set_option maxRecDepth 100000 in
theorem wX8_lettersTold_94 {X : JX} (hC : JC X cX8_lettersTold RX8 (some .int) 4 74 0 0) (hG : dmI dmM (XG X)) (hnl : nLof X = 6) (fu : Nat) (kn29 : Mem × Int32 × Int32 × Int32 × Int32 → Option (Int32 × Mem)) (hk29 : ∀ (M : Mem) (x1 x2 x3 x4 : Int32), J X (ZN X foI) (kn29 (M, x1, x2, x3, x4)) 29 [(0, .ref (gadr (XG X) (5, 0, 0))), (1, .int x1), (2, .int x2), (3, .int x3), (4, .int x4)] [] M 0 0) (M : Mem) (x1 x3 x4 t0 t1 : Int32) : J X (ZN X foI) (FX8_lettersTold_94 fu (XD X) kn29 M x1 x3 x4 t0 t1) 94 [(0, .ref (gadr (XG X) (5, 0, 0))), (1, .int x1), (3, .int x3), (4, .int x4)] [.int t0, .int t1] M 0 0 := by
  unfold FX8_lettersTold_94
  refine j_ior hC dX8_lettersTold_94 ?_
  refine j_ltT (fun y95 => ?_)
  refine j_istore_n hC [(2, .int y95), (0, .ref (gadr (XG X) (5, 0, 0))), (1, .int x1), (3, .int x3), (4, .int x4)] hnl dX8_lettersTold_95 rfl rfl ?_
  refine j_iincL hC 4 (fun y96 => [(4, .int y96), (2, .int y95), (0, .ref (gadr (XG X) (5, 0, 0))), (1, .int x1), (3, .int x3)]) hnl dX8_lettersTold_96 rfl (by decide) rfl (fun _ => rfl) (fun y96 => ?_)
  refine j_goto (tgt := 29) hC dX8_lettersTold_99 (by decide) ?_
  exact j_sub [2, 3, 1, 4, 0] rfl (hk29 M x1 y95 x3 y96)
set_option linter.unusedVariables false in
set_option maxRecDepth 100000 in
theorem wX8_lettersTold_80 {X : JX} (hC : JC X cX8_lettersTold RX8 (some .int) 4 74 0 0) (hG : dmI dmM (XG X)) (hnl : nLof X = 6) (fu : Nat) (kn29 : Mem × Int32 × Int32 × Int32 × Int32 → Option (Int32 × Mem)) (hk29 : ∀ (M : Mem) (x1 x2 x3 x4 : Int32), J X (ZN X foI) (kn29 (M, x1, x2, x3, x4)) 29 [(0, .ref (gadr (XG X) (5, 0, 0))), (1, .int x1), (2, .int x2), (3, .int x3), (4, .int x4)] [] M 0 0) (M : Mem) (x1 x2 x4 x5 t0 : Int32) : J X (ZN X foI) (FX8_lettersTold_80 fu (XD X) kn29 M x1 x2 x4 x5 t0) 80 [(0, .ref (gadr (XG X) (5, 0, 0))), (1, .int x1), (2, .int x2), (4, .int x4), (5, .int x5)] [.int t0] M 0 0 := by
  unfold FX8_lettersTold_80
  refine j_istore_n hC [(3, .int t0), (0, .ref (gadr (XG X) (5, 0, 0))), (1, .int x1), (2, .int x2), (4, .int x4), (5, .int x5)] hnl dX8_lettersTold_80 rfl rfl ?_
  refine j_iload_n hC 3 dX8_lettersTold_81 rfl ?_
  refine j_iload_n hC 0 dX8_lettersTold_82 rfl ?_
  refine j_if_eq (tgt := 93) hC dX8_lettersTold_83 (by decide) (fun h83 => ?_) (fun h83 => ?_)
  · refine j_iconst (v := 0) hC dX8_lettersTold_93 (by decide) ?_
    exact j_sub [1, 2, 0, 4] rfl (wX8_lettersTold_94 hC hG hnl fu kn29 hk29 M x1 t0 x4 0 x2)
  · refine j_iconst (v := 1) hC dX8_lettersTold_86 (by decide) ?_
    refine j_iload hC 5 dX8_lettersTold_87 rfl ?_
    refine j_ishl hC dX8_lettersTold_89 ?_
    refine j_goto (tgt := 94) hC dX8_lettersTold_90 (by decide) ?_
    exact j_sub [1, 2, 0, 4] rfl (wX8_lettersTold_94 hC hG hnl fu kn29 hk29 M x1 t0 x4 (1 <<< (x5 &&& 31)) x2)
set_option linter.unusedVariables false in
set_option maxRecDepth 100000 in
theorem wX8_lettersTold_79 {X : JX} (hC : JC X cX8_lettersTold RX8 (some .int) 4 74 0 0) (hG : dmI dmM (XG X)) (hnl : nLof X = 6) (fu : Nat) (kn29 : Mem × Int32 × Int32 × Int32 × Int32 → Option (Int32 × Mem)) (hk29 : ∀ (M : Mem) (x1 x2 x3 x4 : Int32), J X (ZN X foI) (kn29 (M, x1, x2, x3, x4)) 29 [(0, .ref (gadr (XG X) (5, 0, 0))), (1, .int x1), (2, .int x2), (3, .int x3), (4, .int x4)] [] M 0 0) (M : Mem) (x1 x2 x4 x5 : Int32) : J X (ZN X foI) (FX8_lettersTold_79 fu (XD X) kn29 M x1 x2 x4 x5) 79 [(0, .ref (gadr (XG X) (5, 0, 0))), (1, .int x1), (2, .int x2), (4, .int x4), (5, .int x5)] [] M 0 0 := by
  unfold FX8_lettersTold_79
  refine j_iconst (v := 0) hC dX8_lettersTold_79 (by decide) ?_
  exact j_sub [0, 1, 2, 3, 4] rfl (wX8_lettersTold_80 hC hG hnl fu kn29 hk29 M x1 x2 x4 x5 0)
set_option linter.unusedVariables false in
set_option maxRecDepth 100000 in
theorem wgX8_lettersTold_29 {X : JX} (hC : JC X cX8_lettersTold RX8 (some .int) 4 74 0 0) (hG : dmI dmM (XG X)) (hnl : nLof X = 6) (fu : Nat) (kn29 : Mem × Int32 × Int32 × Int32 × Int32 → Option (Int32 × Mem)) (hk29 : ∀ (M : Mem) (x1 x2 x3 x4 : Int32), J X (ZN X foI) (kn29 (M, x1, x2, x3, x4)) 29 [(0, .ref (gadr (XG X) (5, 0, 0))), (1, .int x1), (2, .int x2), (3, .int x3), (4, .int x4)] [] M 0 0) (M : Mem) (x1 x2 x3 x4 : Int32) : J X (ZN X foI) (GX8_lettersTold_29 fu (XD X) kn29 M x1 x2 x3 x4) 29 [(0, .ref (gadr (XG X) (5, 0, 0))), (1, .int x1), (2, .int x2), (3, .int x3), (4, .int x4)] [] M 0 0 := by
  unfold GX8_lettersTold_29
  refine j_iload hC 4 dX8_lettersTold_29 rfl ?_
  refine j_aload_n hC 0 dX8_lettersTold_31 rfl ?_
  refine j_getI (fk := 10) hC (dmMo hG rfl) rfl rfl in_X8 rfl rfl q1474 rfl dX8_lettersTold_32 ?_
  refine j_icmp_ge (tgt := 102) hC dX8_lettersTold_35 (by decide) (fun h35 => ?_) (fun h35 => ?_)
  · exact j_sub [2, 3] rfl (wX8_lettersTold_102 hC hG hnl fu M x2 x3)
  · refine j_iload_n hC 3 dX8_lettersTold_38 rfl ?_
    refine j_if_eq (tgt := 102) hC dX8_lettersTold_39 (by decide) (fun h39 => ?_) (fun h39 => ?_)
    · exact j_sub [2, 3] rfl (wX8_lettersTold_102 hC hG hnl fu M x2 x3)
    · refine j_aload_n hC 0 dX8_lettersTold_42 rfl ?_
      refine j_getR (fk := 8) hC (dmMo hG rfl) rfl rfl in_X8 rfl rfl q1472 rfl dX8_lettersTold_43 ?_
      refine j_iload hC 4 dX8_lettersTold_46 rfl ?_
      refine j_bald hC (dmMo hG rfl) rfl dX8_lettersTold_48 (fun h48 => ?_)
      refine j_bipush (v := 97) hC dX8_lettersTold_49 (by decide) ?_
      refine j_isub hC dX8_lettersTold_51 ?_
      refine j_ltT (fun y52 => ?_)
      refine j_istore hC [(5, .int y52), (0, .ref (gadr (XG X) (5, 0, 0))), (1, .int x1), (2, .int x2), (3, .int x3), (4, .int x4)] hnl dX8_lettersTold_52 rfl rfl ?_
      refine j_iload hC 0 dX8_lettersTold_54 rfl ?_
      refine j_iconst (v := 0) hC dX8_lettersTold_56 (by decide) ?_
      refine j_iload_n hC 2 dX8_lettersTold_57 rfl ?_
      refine j_iconst (v := 1) hC dX8_lettersTold_58 (by decide) ?_
      refine j_isub hC dX8_lettersTold_59 ?_
      refine j_callS (nA := 3) (rest := []) hC [.int y52, .int 0, .int (x1 - 1)] rfl (fun r hr => mX8_in (XL X) (XG X) hG fu (XD X) M y52 0 (x1 - 1) r hr) q1641 q1642 q136 q1643 (by decide +kernel) rfl rfl rfl rfl rfl rfl dX8_lettersTold_60 (fun v60 => [.int v60]) (fun _ => rfl) (fun v60 M60 => ?_)
      refine j_if_eq (tgt := 79) hC dX8_lettersTold_63 (by decide) (fun h63 => ?_) (fun h63 => ?_)
      · exact j_sub [1, 2, 3, 5, 0] rfl (wX8_lettersTold_79 hC hG hnl fu kn29 hk29 M60 x1 x2 x4 y52)
      · refine j_iload_n hC 3 dX8_lettersTold_66 rfl ?_
        refine j_iload hC 0 dX8_lettersTold_67 rfl ?_
        refine j_callS (nA := 2) (rest := []) hC [.int x2, .int y52] rfl (fun r hr => mX8_has (XL X) (XG X) hG fu (XD X) M60 x2 y52 r hr) q1644 q1645 q136 q1646 (by decide +kernel) rfl rfl rfl rfl rfl rfl dX8_lettersTold_69 (fun v69 => [.int v69]) (fun _ => rfl) (fun v69 M69 => ?_)
        refine j_if_ne (tgt := 79) hC dX8_lettersTold_72 (by decide) (fun h72 => ?_) (fun h72 => ?_)
        · refine j_iconst (v := 1) hC dX8_lettersTold_75 (by decide) ?_
          refine j_goto (tgt := 80) hC dX8_lettersTold_76 (by decide) ?_
          exact j_sub [1, 2, 3, 5, 0] rfl (wX8_lettersTold_80 hC hG hnl fu kn29 hk29 M69 x1 x2 x4 y52 1)
        · exact j_sub [1, 2, 3, 5, 0] rfl (wX8_lettersTold_79 hC hG hnl fu kn29 hk29 M69 x1 x2 x4 y52)
set_option linter.unusedVariables false in
set_option maxRecDepth 100000 in
theorem wX8_lettersTold_29 {X : JX} (hC : JC X cX8_lettersTold RX8 (some .int) 4 74 0 0) (hG : dmI dmM (XG X)) (hnl : nLof X = 6) (fu : Nat) (M : Mem) (x1 x2 x3 x4 : Int32) : J X (ZN X foI) (FX8_lettersTold_29 fu (XD X) M x1 x2 x3 x4) 29 [(0, .ref (gadr (XG X) (5, 0, 0))), (1, .int x1), (2, .int x2), (3, .int x3), (4, .int x4)] [] M 0 0 := by
  exact j_lp (lvf := fun z => [(0, .ref (gadr (XG X) (5, 0, 0))), (1, .int (z.2.1)), (2, .int (z.2.2.1)), (3, .int (z.2.2.2.1)), (4, .int (z.2.2.2.2))]) (Mf := fun z => z.1) (fun kn hk z => wgX8_lettersTold_29 hC hG hnl fu kn (fun M x1 x2 x3 x4 => hk (M, x1, x2, x3, x4)) z.1 z.2.1 z.2.2.1 z.2.2.2.1 z.2.2.2.2) fu (M, x1, x2, x3, x4)
set_option linter.unusedVariables false in
set_option maxRecDepth 100000 in
theorem wX8_lettersTold_22 {X : JX} (hC : JC X cX8_lettersTold RX8 (some .int) 4 74 0 0) (hG : dmI dmM (XG X)) (hnl : nLof X = 6) (fu : Nat) (M : Mem) (x1 x2 t0 : Int32) : J X (ZN X foI) (FX8_lettersTold_22 fu (XD X) M x1 x2 t0) 22 [(0, .ref (gadr (XG X) (5, 0, 0))), (1, .int x1), (2, .int x2)] [.int t0] M 0 0 := by
  unfold FX8_lettersTold_22
  refine j_istore_n hC [(3, .int t0), (0, .ref (gadr (XG X) (5, 0, 0))), (1, .int x1), (2, .int x2)] hnl dX8_lettersTold_22 rfl rfl ?_
  refine j_aload_n hC 1 dX8_lettersTold_23 rfl ?_
  refine j_getI (fk := 12) hC (dmMo hG rfl) rfl rfl in_X8 rfl rfl q1476 rfl dX8_lettersTold_24 ?_
  refine j_ltT (fun y27 => ?_)
  refine j_istore hC [(4, .int y27), (3, .int t0), (0, .ref (gadr (XG X) (5, 0, 0))), (1, .int x1), (2, .int x2)] hnl dX8_lettersTold_27 rfl rfl ?_
  exact j_sub [2, 3, 4, 1, 0] rfl (wX8_lettersTold_29 hC hG hnl fu M x1 x2 t0 y27)
set_option linter.unusedVariables false in
set_option maxRecDepth 100000 in
theorem wX8_lettersTold {X : JX} (hC : JC X cX8_lettersTold RX8 (some .int) 4 74 0 0) (hG : dmI dmM (XG X)) (hnl : nLof X = 6) (fu : Nat) (M : Mem) (x1 : Int32) : J X (ZN X foI) (FX8_lettersTold fu (XD X) M x1) 0 [(0, .ref (gadr (XG X) (5, 0, 0))), (1, .int x1)] [] M 0 0 := by
  unfold FX8_lettersTold
  refine j_aload_n hC 0 dX8_lettersTold_0 rfl ?_
  refine j_callV (nA := 0) (rest := []) hC [] rfl (fun r hr => mX8_letters (XL X) (XG X) hG fu (XD X) M r hr) q1603 q1605 qs50 q136 q1606 (dmMo hG rfl) rfl rfl (by decide +kernel) rfl rfl rfl rfl rfl rfl dX8_lettersTold_1 (fun _ => []) (fun _ => rfl) (fun v1 M1 => ?_)
  refine j_iconst (v := 0) hC dX8_lettersTold_4 (by decide) ?_
  refine j_istore_n hC [(2, .int 0), (0, .ref (gadr (XG X) (5, 0, 0))), (1, .int x1)] hnl dX8_lettersTold_5 rfl rfl ?_
  refine j_aload_n hC 1 dX8_lettersTold_6 rfl ?_
  refine j_getI (fk := 10) hC (dmMo hG rfl) rfl rfl in_X8 rfl rfl q1474 rfl dX8_lettersTold_7 ?_
  refine j_aload_n hC 1 dX8_lettersTold_10 rfl ?_
  refine j_getI (fk := 12) hC (dmMo hG rfl) rfl rfl in_X8 rfl rfl q1476 rfl dX8_lettersTold_11 ?_
  refine j_icmp_le (tgt := 21) hC dX8_lettersTold_14 (by decide) (fun h14 => ?_) (fun h14 => ?_)
  · refine j_iconst (v := 0) hC dX8_lettersTold_21 (by decide) ?_
    exact j_sub [1, 2, 0] rfl (wX8_lettersTold_22 hC hG hnl fu M1 x1 0 0)
  · refine j_iconst (v := 1) hC dX8_lettersTold_17 (by decide) ?_
    refine j_goto (tgt := 22) hC dX8_lettersTold_18 (by decide) ?_
    exact j_sub [1, 2, 0] rfl (wX8_lettersTold_22 hC hG hnl fu M1 x1 0 1)
set_option linter.unusedVariables false in
set_option maxRecDepth 100000 in
theorem mX8_lettersTold (l : Launch) (Γ : xG) (hG : dmI dmM Γ) (fu : Nat) (D : List LDen) (M : Mem) (x1 : Int32) (r : Int32 × Mem) (hr : FX8_lettersTold fu D M x1 = some r) : CN l yX8_lettersTold (ws_ yX8_lettersTold cX8_lettersTold 6 (some .int)) 4 74 Γ D [.ref (gadr Γ (5, 0, 0)), .int x1] M (foI r.1) r.2 := by
  refine CN.of (own := RX8) (lv0 := lv_args 0 [.ref (gadr Γ (5, 0, 0)), .int x1]) (by decide +kernel) rfl (Nat.le_of_ble_eq_true rfl) rfl (fun X e1 e2 e3 e4 hC => ?_) r hr
  subst e1
  subst e2
  exact wX8_lettersTold hC hG e4 fu M x1
set_option linter.unusedVariables false in
set_option maxRecDepth 100000 in
theorem wX8_stockAt {X : JX} (hC : JC X cX8_stockAt RX8 (some .int) 1 12 0 0) (hG : dmI dmM (XG X)) (hnl : nLof X = 2) (fu : Nat) (M : Mem) (x0 x1 : Int32) : J X (ZN X foI) (FX8_stockAt fu (XD X) M x0 x1) 0 [(0, .int x0), (1, .int x1)] [] M 0 0 := by
  unfold FX8_stockAt
  refine j_bipush (v := 50) hC dX8_stockAt_0 (by decide) ?_
  refine j_bipush (v := 6) hC dX8_stockAt_2 (by decide) ?_
  refine j_iload_n hC 0 dX8_stockAt_4 rfl ?_
  refine j_imul hC dX8_stockAt_5 ?_
  refine j_iadd hC dX8_stockAt_6 ?_
  refine j_iload_n hC 1 dX8_stockAt_7 rfl ?_
  refine j_iadd hC dX8_stockAt_8 ?_
  exact j_iret hC dX8_stockAt_9
set_option linter.unusedVariables false in
set_option maxRecDepth 100000 in
theorem mX8_stockAt (l : Launch) (Γ : xG) (hG : dmI dmM Γ) (fu : Nat) (D : List LDen) (M : Mem) (x0 x1 : Int32) (r : Int32 × Mem) (hr : FX8_stockAt fu D M x0 x1 = some r) : CN l yX8_stockAt (ws_ yX8_stockAt cX8_stockAt 2 (some .int)) 1 12 Γ D [.int x0, .int x1] M (foI r.1) r.2 := by
  refine CN.of (own := RX8) (lv0 := lv_args 0 [.int x0, .int x1]) (by decide +kernel) rfl (Nat.le_of_ble_eq_true rfl) rfl (fun X e1 e2 e3 e4 hC => ?_) r hr
  subst e1
  subst e2
  exact wX8_stockAt hC hG e4 fu M x0 x1
set_option linter.unusedVariables false in
set_option maxRecDepth 100000 in
theorem wgX8_readBird_164 {X : JX} (hC : JC X cX8_readBird RX8 (some .boolean) 7 187 0 0) (hG : dmI dmM (XG X)) (hnl : nLof X = 8) (fu : Nat) (kn164 : Mem × Int32 × Int32 → Option (Int32 × Mem)) (hk164 : ∀ (M : Mem) (x1 x7 : Int32), J X (ZN X foI) (kn164 (M, x1, x7)) 164 [(0, .ref (gadr (XG X) (5, 0, 0))), (1, .int x1), (7, .int x7)] [] M 0 0) (M : Mem) (x1 x7 : Int32) : J X (ZN X foI) (GX8_readBird_164 fu (XD X) kn164 M x1 x7) 164 [(0, .ref (gadr (XG X) (5, 0, 0))), (1, .int x1), (7, .int x7)] [] M 0 0 := by
  unfold GX8_readBird_164
  refine j_iload hC 2 dX8_readBird_164 rfl ?_
  refine j_iconst (v := 4) hC dX8_readBird_166 (by decide) ?_
  refine j_icmp_ge (tgt := 188) hC dX8_readBird_167 (by decide) (fun h167 => ?_) (fun h167 => ?_)
  · refine j_aload_n hC 0 dX8_readBird_188 rfl ?_
    refine j_getR (fk := 1) hC (dmMo hG rfl) rfl rfl in_X8 rfl rfl q1465 rfl dX8_readBird_189 ?_
    refine j_iconst (v := 0) hC dX8_readBird_192 (by decide) ?_
    refine j_dup2 hC dX8_readBird_193 rfl rfl ?_
    refine j_iald hC (dmMo hG rfl) rfl dX8_readBird_194 (fun h194 => ?_)
    refine j_iconst (v := 1) hC dX8_readBird_195 (by decide) ?_
    refine j_iadd hC dX8_readBird_196 ?_
    refine j_iast hC (dmMo hG rfl) rfl dX8_readBird_197 (fun h197 => ?_)
    refine j_lt (fun M197 => ?_)
    refine j_iconst (v := 1) hC dX8_readBird_198 (by decide) ?_
    exact j_zret hC (by decide) dX8_readBird_199
  · refine j_aload_n hC 0 dX8_readBird_170 rfl ?_
    refine j_getR (fk := 1) hC (dmMo hG rfl) rfl rfl in_X8 rfl rfl q1465 rfl dX8_readBird_171 ?_
    refine j_iload hC 2 dX8_readBird_174 rfl ?_
    refine j_iload_n hC 1 dX8_readBird_176 rfl ?_
    refine j_callS (nA := 2) (rest := [.ref (gadr (XG X) (5, 0, 1))]) hC [.int x7, .int x1] rfl (fun r hr => mX8_stockAt (XL X) (XG X) hG fu (XD X) M x7 x1 r hr) q1648 q1649 q136 q1650 (by decide +kernel) rfl rfl rfl rfl rfl rfl dX8_readBird_177 (fun v177 => [.int v177, .ref (gadr (XG X) (5, 0, 1))]) (fun _ => rfl) (fun v177 M177 => ?_)
    refine j_iconst (v := 0) hC dX8_readBird_180 (by decide) ?_
    refine j_iast hC (dmMo hG rfl) rfl dX8_readBird_181 (fun h181 => ?_)
    refine j_lt (fun M181 => ?_)
    refine j_iincL hC 2 (fun y182 => [(7, .int y182), (0, .ref (gadr (XG X) (5, 0, 0))), (1, .int x1)]) hnl dX8_readBird_182 rfl (by decide) rfl (fun _ => rfl) (fun y182 => ?_)
    refine j_goto (tgt := 164) hC dX8_readBird_185 (by decide) ?_
    exact j_sub [1, 2, 0] rfl (hk164 M181 x1 y182)
set_option linter.unusedVariables false in
set_option maxRecDepth 100000 in
theorem wX8_readBird_164 {X : JX} (hC : JC X cX8_readBird RX8 (some .boolean) 7 187 0 0) (hG : dmI dmM (XG X)) (hnl : nLof X = 8) (fu : Nat) (M : Mem) (x1 x7 : Int32) : J X (ZN X foI) (FX8_readBird_164 fu (XD X) M x1 x7) 164 [(0, .ref (gadr (XG X) (5, 0, 0))), (1, .int x1), (7, .int x7)] [] M 0 0 := by
  exact j_lp (lvf := fun z => [(0, .ref (gadr (XG X) (5, 0, 0))), (1, .int (z.2.1)), (7, .int (z.2.2))]) (Mf := fun z => z.1) (fun kn hk z => wgX8_readBird_164 hC hG hnl fu kn (fun M x1 x7 => hk (M, x1, x7)) z.1 z.2.1 z.2.2) fu (M, x1, x7)
set_option linter.unusedVariables false in
set_option maxRecDepth 100000 in
theorem wX8_readBird_102 {X : JX} (hC : JC X cX8_readBird RX8 (some .boolean) 7 187 0 0) (hG : dmI dmM (XG X)) (hnl : nLof X = 8) (fu : Nat) (M : Mem) (x1 x2 x3 x4 t0 : Int32) : J X (ZN X foI) (FX8_readBird_102 fu (XD X) M x1 x2 x3 x4 t0) 102 [(0, .ref (gadr (XG X) (5, 0, 0))), (1, .int x1), (2, .int x2), (3, .int x3), (4, .int x4)] [.int t0] M 0 0 := by
  unfold FX8_readBird_102
  refine j_istore hC [(5, .int t0), (0, .ref (gadr (XG X) (5, 0, 0))), (1, .int x1), (2, .int x2), (3, .int x3), (4, .int x4)] hnl dX8_readBird_102 rfl rfl ?_
  refine j_iload hC 0 dX8_readBird_104 rfl ?_
  refine j_if_ge (tgt := 111) hC dX8_readBird_106 (by decide) (fun h106 => ?_) (fun h106 => ?_)
  · refine j_bipush (v := 26) hC dX8_readBird_111 (by decide) ?_
    refine j_iconst (v := 4) hC dX8_readBird_113 (by decide) ?_
    refine j_iload_n hC 2 dX8_readBird_114 rfl ?_
    refine j_imul hC dX8_readBird_115 ?_
    refine j_iadd hC dX8_readBird_116 ?_
    refine j_ltT (fun y117 => ?_)
    refine j_istore hC [(6, .int y117), (5, .int t0), (0, .ref (gadr (XG X) (5, 0, 0))), (1, .int x1), (2, .int x2), (3, .int x3), (4, .int x4)] hnl dX8_readBird_117 rfl rfl ?_
    refine j_aload_n hC 2 dX8_readBird_119 rfl ?_
    refine j_getR (fk := 1) hC (dmMo hG rfl) rfl rfl in_X8 rfl rfl q1465 rfl dX8_readBird_120 ?_
    refine j_iload hC 0 dX8_readBird_123 rfl ?_
    refine j_iconst (v := 0) hC dX8_readBird_125 (by decide) ?_
    refine j_iadd hC dX8_readBird_126 ?_
    refine j_iload_n hC 4 dX8_readBird_127 rfl ?_
    refine j_iast hC (dmMo hG rfl) rfl dX8_readBird_128 (fun h128 => ?_)
    refine j_lt (fun M128 => ?_)
    refine j_aload_n hC 2 dX8_readBird_129 rfl ?_
    refine j_getR (fk := 1) hC (dmMo hG rfl) rfl rfl in_X8 rfl rfl q1465 rfl dX8_readBird_130 ?_
    refine j_iload hC 0 dX8_readBird_133 rfl ?_
    refine j_iconst (v := 1) hC dX8_readBird_135 (by decide) ?_
    refine j_iadd hC dX8_readBird_136 ?_
    refine j_iload_n hC 5 dX8_readBird_137 rfl ?_
    refine j_iast hC (dmMo hG rfl) rfl dX8_readBird_138 (fun h138 => ?_)
    refine j_lt (fun M138 => ?_)
    refine j_aload_n hC 2 dX8_readBird_139 rfl ?_
    refine j_getR (fk := 1) hC (dmMo hG rfl) rfl rfl in_X8 rfl rfl q1465 rfl dX8_readBird_140 ?_
    refine j_iload hC 0 dX8_readBird_143 rfl ?_
    refine j_iconst (v := 2) hC dX8_readBird_145 (by decide) ?_
    refine j_iadd hC dX8_readBird_146 ?_
    refine j_iload hC 6 dX8_readBird_147 rfl ?_
    refine j_iast hC (dmMo hG rfl) rfl dX8_readBird_149 (fun h149 => ?_)
    refine j_lt (fun M149 => ?_)
    refine j_aload_n hC 2 dX8_readBird_150 rfl ?_
    refine j_getR (fk := 1) hC (dmMo hG rfl) rfl rfl in_X8 rfl rfl q1465 rfl dX8_readBird_151 ?_
    refine j_iload hC 0 dX8_readBird_154 rfl ?_
    refine j_iconst (v := 3) hC dX8_readBird_156 (by decide) ?_
    refine j_iadd hC dX8_readBird_157 ?_
    refine j_iload hC 1 dX8_readBird_158 rfl ?_
    refine j_iast hC (dmMo hG rfl) rfl dX8_readBird_160 (fun h160 => ?_)
    refine j_lt (fun M160 => ?_)
    refine j_iconst (v := 0) hC dX8_readBird_161 (by decide) ?_
    refine j_istore hC [(7, .int 0), (6, .int y117), (5, .int t0), (0, .ref (gadr (XG X) (5, 0, 0))), (1, .int x1), (2, .int x2), (3, .int x3), (4, .int x4)] hnl dX8_readBird_162 rfl rfl ?_
    exact j_sub [3, 4, 0] rfl (wX8_readBird_164 hC hG hnl fu M160 x1 0)
  · refine j_iconst (v := 0) hC dX8_readBird_109 (by decide) ?_
    exact j_zret hC (by decide) dX8_readBird_110
set_option linter.unusedVariables false in
set_option maxRecDepth 100000 in
theorem wX8_readBird_83 {X : JX} (hC : JC X cX8_readBird RX8 (some .boolean) 7 187 0 0) (hG : dmI dmM (XG X)) (hnl : nLof X = 8) (fu : Nat) (M : Mem) (x1 x2 x3 t0 : Int32) : J X (ZN X foI) (FX8_readBird_83 fu (XD X) M x1 x2 x3 t0) 83 [(0, .ref (gadr (XG X) (5, 0, 0))), (1, .int x1), (2, .int x2), (3, .int x3)] [.int t0] M 0 0 := by
  unfold FX8_readBird_83
  refine j_istore hC [(4, .int t0), (0, .ref (gadr (XG X) (5, 0, 0))), (1, .int x1), (2, .int x2), (3, .int x3)] hnl dX8_readBird_83 rfl rfl ?_
  refine j_iload hC 0 dX8_readBird_85 rfl ?_
  refine j_if_ge (tgt := 94) hC dX8_readBird_87 (by decide) (fun h87 => ?_) (fun h87 => ?_)
  · refine j_aload_n hC 1 dX8_readBird_94 rfl ?_
    refine j_ldcS (tx := "moults") (i := 10) hC (by decide) dX8_readBird_95 ?_
    refine j_iconst (v := 0) hC dX8_readBird_97 (by decide) ?_
    refine j_iconst (v := 5) hC dX8_readBird_98 (by decide) ?_
    refine j_callV (nA := 3) (rest := []) hC [.ref (gadr (XG X) (6, 0, 10)), .int 0, .int 5] rfl (fun r hr => mX8_after (XL X) (XG X) hG fu (XD X) 10 (by decide) M 0 5 r hr) q1632 q1634 qs56 q136 q1635 (dmMo hG rfl) rfl rfl (by decide +kernel) rfl rfl rfl rfl rfl rfl dX8_readBird_99 (fun v99 => [.int v99]) (fun _ => rfl) (fun v99 M99 => ?_)
    exact j_sub [1, 2, 3, 4, 0] rfl (wX8_readBird_102 hC hG hnl fu M99 x1 x2 x3 t0 v99)
  · refine j_iconst (v := (-1)) hC dX8_readBird_90 (by decide) ?_
    refine j_goto (tgt := 102) hC dX8_readBird_91 (by decide) ?_
    exact j_sub [1, 2, 3, 4, 0] rfl (wX8_readBird_102 hC hG hnl fu M x1 x2 x3 t0 (-1))
set_option linter.unusedVariables false in
set_option maxRecDepth 100000 in
theorem wX8_readBird_53 {X : JX} (hC : JC X cX8_readBird RX8 (some .boolean) 7 187 0 0) (hG : dmI dmM (XG X)) (hnl : nLof X = 8) (fu : Nat) (M : Mem) (x1 x2 t0 : Int32) : J X (ZN X foI) (FX8_readBird_53 fu (XD X) M x1 x2 t0) 53 [(0, .ref (gadr (XG X) (5, 0, 0))), (1, .int x1), (2, .int x2)] [.int t0] M 0 0 := by
  unfold FX8_readBird_53
  refine j_istore_n hC [(3, .int t0), (0, .ref (gadr (XG X) (5, 0, 0))), (1, .int x1), (2, .int x2)] hnl dX8_readBird_53 rfl rfl ?_
  refine j_iload_n hC 0 dX8_readBird_54 rfl ?_
  refine j_if_ge (tgt := 60) hC dX8_readBird_55 (by decide) (fun h55 => ?_) (fun h55 => ?_)
  · refine j_aload_n hC 1 dX8_readBird_60 rfl ?_
    refine j_callV (nA := 0) (rest := []) hC [] rfl (fun r hr => mX8_letters (XL X) (XG X) hG fu (XD X) M r hr) q1603 q1605 qs50 q136 q1606 (dmMo hG rfl) rfl rfl (by decide +kernel) rfl rfl rfl rfl rfl rfl dX8_readBird_61 (fun _ => []) (fun _ => rfl) (fun v61 M61 => ?_)
    refine j_aload_n hC 1 dX8_readBird_64 rfl ?_
    refine j_ldcS (tx := "songs") (i := 9) hC (by decide) dX8_readBird_65 ?_
    refine j_callV (nA := 1) (rest := []) hC [.ref (gadr (XG X) (6, 0, 9))] rfl (fun r hr => mX8_isWord (XL X) (XG X) hG fu (XD X) 9 (by decide) M61 r hr) q1612 q1614 qs52 q136 q1615 (dmMo hG rfl) rfl rfl (by decide +kernel) rfl rfl rfl rfl rfl rfl dX8_readBird_67 (fun v67 => [.int v67]) (fun _ => rfl) (fun v67 M67 => ?_)
    refine j_if_eq (tgt := 82) hC dX8_readBird_70 (by decide) (fun h70 => ?_) (fun h70 => ?_)
    · refine j_iconst (v := (-1)) hC dX8_readBird_82 (by decide) ?_
      exact j_sub [1, 2, 3, 0] rfl (wX8_readBird_83 hC hG hnl fu M67 x1 x2 t0 (-1))
    · refine j_aload_n hC 1 dX8_readBird_73 rfl ?_
      refine j_bipush (v := 6) hC dX8_readBird_74 (by decide) ?_
      refine j_callV (nA := 1) (rest := []) hC [.int 6] rfl (fun r hr => mX8_lettersTold (XL X) (XG X) hG fu (XD X) M67 6 r hr) q1637 q1639 qs57 q136 q1640 (dmMo hG rfl) rfl rfl (by decide +kernel) rfl rfl rfl rfl rfl rfl dX8_readBird_76 (fun v76 => [.int v76]) (fun _ => rfl) (fun v76 M76 => ?_)
      refine j_goto (tgt := 83) hC dX8_readBird_79 (by decide) ?_
      exact j_sub [1, 2, 3, 0] rfl (wX8_readBird_83 hC hG hnl fu M76 x1 x2 t0 v76)
  · refine j_iconst (v := 0) hC dX8_readBird_58 (by decide) ?_
    exact j_zret hC (by decide) dX8_readBird_59
set_option linter.unusedVariables false in
set_option maxRecDepth 100000 in
theorem wX8_readBird_36 {X : JX} (hC : JC X cX8_readBird RX8 (some .boolean) 7 187 0 0) (hG : dmI dmM (XG X)) (hnl : nLof X = 8) (fu : Nat) (M : Mem) (x1 t0 : Int32) : J X (ZN X foI) (FX8_readBird_36 fu (XD X) M x1 t0) 36 [(0, .ref (gadr (XG X) (5, 0, 0))), (1, .int x1)] [.int t0] M 0 0 := by
  unfold FX8_readBird_36
  refine j_istore_n hC [(2, .int t0), (0, .ref (gadr (XG X) (5, 0, 0))), (1, .int x1)] hnl dX8_readBird_36 rfl rfl ?_
  refine j_iload_n hC 0 dX8_readBird_37 rfl ?_
  refine j_if_ge (tgt := 45) hC dX8_readBird_38 (by decide) (fun h38 => ?_) (fun h38 => ?_)
  · refine j_aload_n hC 1 dX8_readBird_45 rfl ?_
    refine j_ldcS (tx := "light") (i := 3) hC (by decide) dX8_readBird_46 ?_
    refine j_iconst (v := 0) hC dX8_readBird_48 (by decide) ?_
    refine j_iconst (v := 3) hC dX8_readBird_49 (by decide) ?_
    refine j_callV (nA := 3) (rest := []) hC [.ref (gadr (XG X) (6, 0, 3)), .int 0, .int 3] rfl (fun r hr => mX8_after (XL X) (XG X) hG fu (XD X) 3 (by decide) M 0 3 r hr) q1632 q1634 qs56 q136 q1635 (dmMo hG rfl) rfl rfl (by decide +kernel) rfl rfl rfl rfl rfl rfl dX8_readBird_50 (fun v50 => [.int v50]) (fun _ => rfl) (fun v50 M50 => ?_)
    exact j_sub [1, 2, 0] rfl (wX8_readBird_53 hC hG hnl fu M50 x1 t0 v50)
  · refine j_iconst (v := (-1)) hC dX8_readBird_41 (by decide) ?_
    refine j_goto (tgt := 53) hC dX8_readBird_42 (by decide) ?_
    exact j_sub [1, 2, 0] rfl (wX8_readBird_53 hC hG hnl fu M x1 t0 (-1))
set_option linter.unusedVariables false in
set_option maxRecDepth 100000 in
theorem wX8_readBird {X : JX} (hC : JC X cX8_readBird RX8 (some .boolean) 7 187 0 0) (hG : dmI dmM (XG X)) (hnl : nLof X = 8) (fu : Nat) (M : Mem) : J X (ZN X foI) (FX8_readBird fu (XD X) M) 0 [(0, .ref (gadr (XG X) (5, 0, 0)))] [] M 0 0 := by
  unfold FX8_readBird
  refine j_aload_n hC 0 dX8_readBird_0 rfl ?_
  refine j_callV (nA := 0) (rest := []) hC [] rfl (fun r hr => mX8_birds (XL X) (XG X) hG fu (XD X) M r hr) q1622 q1624 qs54 q136 q1625 (dmMo hG rfl) rfl rfl (by decide +kernel) rfl rfl rfl rfl rfl rfl dX8_readBird_1 (fun v1 => [.int v1]) (fun _ => rfl) (fun v1 M1 => ?_)
  refine j_istore_n hC [(1, .int v1), (0, .ref (gadr (XG X) (5, 0, 0)))] hnl dX8_readBird_4 rfl rfl ?_
  refine j_iload_n hC 0 dX8_readBird_5 rfl ?_
  refine j_bipush (v := 6) hC dX8_readBird_6 (by decide) ?_
  refine j_icmp_ne (tgt := 13) hC dX8_readBird_8 (by decide) (fun h8 => ?_) (fun h8 => ?_)
  · refine j_iconst (v := 0) hC dX8_readBird_11 (by decide) ?_
    exact j_zret hC (by decide) dX8_readBird_12
  · refine j_aload_n hC 1 dX8_readBird_13 rfl ?_
    refine j_callV (nA := 0) (rest := []) hC [] rfl (fun r hr => mX8_letters (XL X) (XG X) hG fu (XD X) M1 r hr) q1603 q1605 qs50 q136 q1606 (dmMo hG rfl) rfl rfl (by decide +kernel) rfl rfl rfl rfl rfl rfl dX8_readBird_14 (fun _ => []) (fun _ => rfl) (fun v14 M14 => ?_)
    refine j_aload_n hC 1 dX8_readBird_17 rfl ?_
    refine j_ldcS (tx := "falls") (i := 8) hC (by decide) dX8_readBird_18 ?_
    refine j_callV (nA := 1) (rest := []) hC [.ref (gadr (XG X) (6, 0, 8))] rfl (fun r hr => mX8_isWord (XL X) (XG X) hG fu (XD X) 8 (by decide) M14 r hr) q1612 q1614 qs52 q136 q1615 (dmMo hG rfl) rfl rfl (by decide +kernel) rfl rfl rfl rfl rfl rfl dX8_readBird_20 (fun v20 => [.int v20]) (fun _ => rfl) (fun v20 M20 => ?_)
    refine j_if_eq (tgt := 35) hC dX8_readBird_23 (by decide) (fun h23 => ?_) (fun h23 => ?_)
    · refine j_iconst (v := (-1)) hC dX8_readBird_35 (by decide) ?_
      exact j_sub [1, 0] rfl (wX8_readBird_36 hC hG hnl fu M20 v1 (-1))
    · refine j_aload_n hC 1 dX8_readBird_26 rfl ?_
      refine j_iconst (v := 0) hC dX8_readBird_27 (by decide) ?_
      refine j_iconst (v := 4) hC dX8_readBird_28 (by decide) ?_
      refine j_callV (nA := 2) (rest := []) hC [.int 0, .int 4] rfl (fun r hr => mX8_number (XL X) (XG X) hG fu (XD X) M20 0 4 r hr) q1627 q1629 qs55 q136 q1630 (dmMo hG rfl) rfl rfl (by decide +kernel) rfl rfl rfl rfl rfl rfl dX8_readBird_29 (fun v29 => [.int v29]) (fun _ => rfl) (fun v29 M29 => ?_)
      refine j_goto (tgt := 36) hC dX8_readBird_32 (by decide) ?_
      exact j_sub [1, 0] rfl (wX8_readBird_36 hC hG hnl fu M29 v1 v29)
set_option linter.unusedVariables false in
set_option maxRecDepth 100000 in
theorem mX8_readBird (l : Launch) (Γ : xG) (hG : dmI dmM Γ) (fu : Nat) (D : List LDen) (M : Mem) (r : Int32 × Mem) (hr : FX8_readBird fu D M = some r) : CN l yX8_readBird (ws_ yX8_readBird cX8_readBird 8 (some .boolean)) 7 187 Γ D [.ref (gadr Γ (5, 0, 0))] M (foI r.1) r.2 := by
  refine CN.of (own := RX8) (lv0 := lv_args 0 [.ref (gadr Γ (5, 0, 0))]) (by decide +kernel) rfl (Nat.le_of_ble_eq_true rfl) rfl (fun X e1 e2 e3 e4 hC => ?_) r hr
  subst e1
  subst e2
  exact wX8_readBird hC hG e4 fu M
set_option linter.unusedVariables false in
set_option maxRecDepth 100000 in
theorem wX8_counsel {X : JX} (hC : JC X cX8_counsel RX8 (some .int) 1 12 0 0) (hG : dmI dmM (XG X)) (hnl : nLof X = 1) (fu : Nat) (M : Mem) : J X (ZN X foI) (FX8_counsel fu (XD X) M) 0 [(0, .ref (gadr (XG X) (5, 0, 0)))] [] M 0 0 := by
  unfold FX8_counsel
  refine j_aload_n hC 0 dX8_counsel_0 rfl ?_
  refine j_getR (fk := 1) hC (dmMo hG rfl) rfl rfl in_X8 rfl rfl q1465 rfl dX8_counsel_1 ?_
  refine j_iconst (v := 1) hC dX8_counsel_4 (by decide) ?_
  refine j_iald hC (dmMo hG rfl) rfl dX8_counsel_5 (fun h5 => ?_)
  exact j_iret hC dX8_counsel_6
set_option linter.unusedVariables false in
set_option maxRecDepth 100000 in
theorem mX8_counsel (l : Launch) (Γ : xG) (hG : dmI dmM Γ) (fu : Nat) (D : List LDen) (M : Mem) (r : Int32 × Mem) (hr : FX8_counsel fu D M = some r) : CN l yX8_counsel (ws_ yX8_counsel cX8_counsel 1 (some .int)) 1 12 Γ D [.ref (gadr Γ (5, 0, 0))] M (foI r.1) r.2 := by
  refine CN.of (own := RX8) (lv0 := lv_args 0 [.ref (gadr Γ (5, 0, 0))]) (by decide +kernel) rfl (Nat.le_of_ble_eq_true rfl) rfl (fun X e1 e2 e3 e4 hC => ?_) r hr
  subst e1
  subst e2
  exact wX8_counsel hC hG e4 fu M
set_option linter.unusedVariables false in
set_option maxRecDepth 100000 in
theorem wX8_readCounsel_87 {X : JX} (hC : JC X cX8_readCounsel RX8 (some .boolean) 3 54 0 0) (hG : dmI dmM (XG X)) (hnl : nLof X = 3) (fu : Nat) (M : Mem) : J X (ZN X foI) (FX8_readCounsel_87 fu (XD X) M) 87 [] [] M 0 0 := by
  unfold FX8_readCounsel_87
  refine j_iconst (v := 0) hC dX8_readCounsel_87 (by decide) ?_
  exact j_zret hC (by decide) dX8_readCounsel_88
set_option linter.unusedVariables false in
set_option maxRecDepth 100000 in
theorem wX8_readCounsel_59 {X : JX} (hC : JC X cX8_readCounsel RX8 (some .boolean) 3 54 0 0) (hG : dmI dmM (XG X)) (hnl : nLof X = 3) (fu : Nat) (kn18 : Mem × Int32 × Int32 → Option (Int32 × Mem)) (hk18 : ∀ (M : Mem) (x1 x2 : Int32), J X (ZN X foI) (kn18 (M, x1, x2)) 18 [(0, .ref (gadr (XG X) (5, 0, 0))), (1, .int x1), (2, .int x2)] [] M 0 0) (M : Mem) (x1 x2 : Int32) : J X (ZN X foI) (FX8_readCounsel_59 fu (XD X) kn18 M x1 x2) 59 [(0, .ref (gadr (XG X) (5, 0, 0))), (1, .int x1), (2, .int x2)] [] M 0 0 := by
  unfold FX8_readCounsel_59
  refine j_iincL hC 2 (fun y59 => [(2, .int y59), (0, .ref (gadr (XG X) (5, 0, 0))), (1, .int x1)]) hnl dX8_readCounsel_59 rfl (by decide) rfl (fun _ => rfl) (fun y59 => ?_)
  refine j_aload_n hC 1 dX8_readCounsel_62 rfl ?_
  refine j_dup hC dX8_readCounsel_63 rfl ?_
  refine j_getI (fk := 10) hC (dmMo hG rfl) rfl rfl in_X8 rfl rfl q1474 rfl dX8_readCounsel_64 ?_
  refine j_iconst (v := 1) hC dX8_readCounsel_67 (by decide) ?_
  refine j_iadd hC dX8_readCounsel_68 ?_
  refine j_put (fk := 10) (ty := .int) hC (dmMo hG rfl) rfl rfl in_X8 rfl rfl q1474 tyX8 tyX8_ok nmX8 rfl rfl (by decide +kernel) rfl rfl dX8_readCounsel_69 ?_
  refine j_lt (fun M69 => ?_)
  refine j_goto (tgt := 18) hC dX8_readCounsel_72 (by decide) ?_
  exact j_sub [1, 2, 0] rfl (hk18 M69 x1 y59)
set_option linter.unusedVariables false in
set_option maxRecDepth 100000 in
theorem wgX8_readCounsel_18 {X : JX} (hC : JC X cX8_readCounsel RX8 (some .boolean) 3 54 0 0) (hG : dmI dmM (XG X)) (hnl : nLof X = 3) (fu : Nat) (kn18 : Mem × Int32 × Int32 → Option (Int32 × Mem)) (hk18 : ∀ (M : Mem) (x1 x2 : Int32), J X (ZN X foI) (kn18 (M, x1, x2)) 18 [(0, .ref (gadr (XG X) (5, 0, 0))), (1, .int x1), (2, .int x2)] [] M 0 0) (M : Mem) (x1 x2 : Int32) : J X (ZN X foI) (GX8_readCounsel_18 fu (XD X) kn18 M x1 x2) 18 [(0, .ref (gadr (XG X) (5, 0, 0))), (1, .int x1), (2, .int x2)] [] M 0 0 := by
  unfold GX8_readCounsel_18
  refine j_aload_n hC 0 dX8_readCounsel_18 rfl ?_
  refine j_bipush (v := 48) hC dX8_readCounsel_19 (by decide) ?_
  refine j_bipush (v := 57) hC dX8_readCounsel_21 (by decide) ?_
  refine j_callV (nA := 2) (rest := []) hC [.int 48, .int 57] rfl (fun r hr => mX8_isAt (XL X) (XG X) hG fu (XD X) M 48 57 r hr) q1595 q1597 qs48 q136 q1598 (dmMo hG rfl) rfl rfl (by decide +kernel) rfl rfl rfl rfl rfl rfl dX8_readCounsel_23 (fun v23 => [.int v23]) (fun _ => rfl) (fun v23 M23 => ?_)
  refine j_if_eq (tgt := 75) hC dX8_readCounsel_26 (by decide) (fun h26 => ?_) (fun h26 => ?_)
  · refine j_iload_n hC 2 dX8_readCounsel_75 rfl ?_
    refine j_if_eq (tgt := 87) hC dX8_readCounsel_76 (by decide) (fun h76 => ?_) (fun h76 => ?_)
    · exact j_sub [] rfl (wX8_readCounsel_87 hC hG hnl fu M23)
    · refine j_iload_n hC 2 dX8_readCounsel_79 rfl ?_
      refine j_aload_n hC 0 dX8_readCounsel_80 rfl ?_
      refine j_callV (nA := 0) (rest := [.int x2]) hC [] rfl (fun r hr => mX8_birds (XL X) (XG X) hG fu (XD X) M23 r hr) q1622 q1624 qs54 q136 q1625 (dmMo hG rfl) rfl rfl (by decide +kernel) rfl rfl rfl rfl rfl rfl dX8_readCounsel_81 (fun v81 => [.int v81, .int x2]) (fun _ => rfl) (fun v81 M81 => ?_)
      refine j_icmp_eq (tgt := 89) hC dX8_readCounsel_84 (by decide) (fun h84 => ?_) (fun h84 => ?_)
      · refine j_aload_n hC 0 dX8_readCounsel_89 rfl ?_
        refine j_getR (fk := 1) hC (dmMo hG rfl) rfl rfl in_X8 rfl rfl q1465 rfl dX8_readCounsel_90 ?_
        refine j_iconst (v := 1) hC dX8_readCounsel_93 (by decide) ?_
        refine j_dup2 hC dX8_readCounsel_94 rfl rfl ?_
        refine j_iald hC (dmMo hG rfl) rfl dX8_readCounsel_95 (fun h95 => ?_)
        refine j_iconst (v := 1) hC dX8_readCounsel_96 (by decide) ?_
        refine j_iadd hC dX8_readCounsel_97 ?_
        refine j_iast hC (dmMo hG rfl) rfl dX8_readCounsel_98 (fun h98 => ?_)
        refine j_lt (fun M98 => ?_)
        refine j_iconst (v := 1) hC dX8_readCounsel_99 (by decide) ?_
        exact j_zret hC (by decide) dX8_readCounsel_100
      · exact j_sub [] rfl (wX8_readCounsel_87 hC hG hnl fu M81)
  · refine j_iload_n hC 2 dX8_readCounsel_29 rfl ?_
    refine j_aload_n hC 0 dX8_readCounsel_30 rfl ?_
    refine j_callV (nA := 0) (rest := [.int x2]) hC [] rfl (fun r hr => mX8_birds (XL X) (XG X) hG fu (XD X) M23 r hr) q1622 q1624 qs54 q136 q1625 (dmMo hG rfl) rfl rfl (by decide +kernel) rfl rfl rfl rfl rfl rfl dX8_readCounsel_31 (fun v31 => [.int v31, .int x2]) (fun _ => rfl) (fun v31 M31 => ?_)
    refine j_icmp_ge (tgt := 59) hC dX8_readCounsel_34 (by decide) (fun h34 => ?_) (fun h34 => ?_)
    · exact j_sub [0, 1, 2] rfl (wX8_readCounsel_59 hC hG hnl fu kn18 hk18 M31 x1 x2)
    · refine j_aload_n hC 0 dX8_readCounsel_37 rfl ?_
      refine j_getR (fk := 1) hC (dmMo hG rfl) rfl rfl in_X8 rfl rfl q1465 rfl dX8_readCounsel_38 ?_
      refine j_iload_n hC 1 dX8_readCounsel_41 rfl ?_
      refine j_iload_n hC 2 dX8_readCounsel_42 rfl ?_
      refine j_callS (nA := 2) (rest := [.ref (gadr (XG X) (5, 0, 1))]) hC [.int x1, .int x2] rfl (fun r hr => mX8_stockAt (XL X) (XG X) hG fu (XD X) M31 x1 x2 r hr) q1648 q1649 q136 q1650 (by decide +kernel) rfl rfl rfl rfl rfl rfl dX8_readCounsel_43 (fun v43 => [.int v43, .ref (gadr (XG X) (5, 0, 1))]) (fun _ => rfl) (fun v43 M43 => ?_)
      refine j_aload_n hC 0 dX8_readCounsel_46 rfl ?_
      refine j_getR (fk := 8) hC (dmMo hG rfl) rfl rfl in_X8 rfl rfl q1472 rfl dX8_readCounsel_47 ?_
      refine j_aload_n hC 0 dX8_readCounsel_50 rfl ?_
      refine j_getI (fk := 10) hC (dmMo hG rfl) rfl rfl in_X8 rfl rfl q1474 rfl dX8_readCounsel_51 ?_
      refine j_bald hC (dmMo hG rfl) rfl dX8_readCounsel_54 (fun h54 => ?_)
      refine j_bipush (v := 48) hC dX8_readCounsel_55 (by decide) ?_
      refine j_isub hC dX8_readCounsel_57 ?_
      refine j_iast hC (dmMo hG rfl) rfl dX8_readCounsel_58 (fun h58 => ?_)
      refine j_lt (fun M58 => ?_)
      exact j_sub [0, 1, 2] rfl (wX8_readCounsel_59 hC hG hnl fu kn18 hk18 M58 x1 x2)
set_option linter.unusedVariables false in
set_option maxRecDepth 100000 in
theorem wX8_readCounsel_18 {X : JX} (hC : JC X cX8_readCounsel RX8 (some .boolean) 3 54 0 0) (hG : dmI dmM (XG X)) (hnl : nLof X = 3) (fu : Nat) (M : Mem) (x1 x2 : Int32) : J X (ZN X foI) (FX8_readCounsel_18 fu (XD X) M x1 x2) 18 [(0, .ref (gadr (XG X) (5, 0, 0))), (1, .int x1), (2, .int x2)] [] M 0 0 := by
  exact j_lp (lvf := fun z => [(0, .ref (gadr (XG X) (5, 0, 0))), (1, .int (z.2.1)), (2, .int (z.2.2))]) (Mf := fun z => z.1) (fun kn hk z => wgX8_readCounsel_18 hC hG hnl fu kn (fun M x1 x2 => hk (M, x1, x2)) z.1 z.2.1 z.2.2) fu (M, x1, x2)
set_option linter.unusedVariables false in
set_option maxRecDepth 100000 in
theorem wX8_readCounsel {X : JX} (hC : JC X cX8_readCounsel RX8 (some .boolean) 3 54 0 0) (hG : dmI dmM (XG X)) (hnl : nLof X = 3) (fu : Nat) (M : Mem) : J X (ZN X foI) (FX8_readCounsel fu (XD X) M) 0 [(0, .ref (gadr (XG X) (5, 0, 0)))] [] M 0 0 := by
  unfold FX8_readCounsel
  refine j_aload_n hC 0 dX8_readCounsel_0 rfl ?_
  refine j_callV (nA := 0) (rest := []) hC [] rfl (fun r hr => mX8_counsel (XL X) (XG X) hG fu (XD X) M r hr) q1656 q1658 qs59 q136 q1659 (dmMo hG rfl) rfl rfl (by decide +kernel) rfl rfl rfl rfl rfl rfl dX8_readCounsel_1 (fun v1 => [.int v1]) (fun _ => rfl) (fun v1 M1 => ?_)
  refine j_istore_n hC [(1, .int v1), (0, .ref (gadr (XG X) (5, 0, 0)))] hnl dX8_readCounsel_4 rfl rfl ?_
  refine j_iload_n hC 0 dX8_readCounsel_5 rfl ?_
  refine j_iconst (v := 4) hC dX8_readCounsel_6 (by decide) ?_
  refine j_icmp_ne (tgt := 12) hC dX8_readCounsel_7 (by decide) (fun h7 => ?_) (fun h7 => ?_)
  · refine j_iconst (v := 0) hC dX8_readCounsel_10 (by decide) ?_
    exact j_zret hC (by decide) dX8_readCounsel_11
  · refine j_aload_n hC 1 dX8_readCounsel_12 rfl ?_
    refine j_callV (nA := 0) (rest := []) hC [] rfl (fun r hr => mX8_blanks (XL X) (XG X) hG fu (XD X) M1 r hr) q1591 q1593 qs47 q136 q1594 (dmMo hG rfl) rfl rfl (by decide +kernel) rfl rfl rfl rfl rfl rfl dX8_readCounsel_13 (fun _ => []) (fun _ => rfl) (fun v13 M13 => ?_)
    refine j_iconst (v := 0) hC dX8_readCounsel_16 (by decide) ?_
    refine j_istore_n hC [(2, .int 0), (1, .int v1), (0, .ref (gadr (XG X) (5, 0, 0)))] hnl dX8_readCounsel_17 rfl rfl ?_
    exact j_sub [2, 1, 0] rfl (wX8_readCounsel_18 hC hG hnl fu M13 v1 0)
set_option linter.unusedVariables false in
set_option maxRecDepth 100000 in
theorem mX8_readCounsel (l : Launch) (Γ : xG) (hG : dmI dmM Γ) (fu : Nat) (D : List LDen) (M : Mem) (r : Int32 × Mem) (hr : FX8_readCounsel fu D M = some r) : CN l yX8_readCounsel (ws_ yX8_readCounsel cX8_readCounsel 3 (some .boolean)) 3 54 Γ D [.ref (gadr Γ (5, 0, 0))] M (foI r.1) r.2 := by
  refine CN.of (own := RX8) (lv0 := lv_args 0 [.ref (gadr Γ (5, 0, 0))]) (by decide +kernel) rfl (Nat.le_of_ble_eq_true rfl) rfl (fun X e1 e2 e3 e4 hC => ?_) r hr
  subst e1
  subst e2
  exact wX8_readCounsel hC hG e4 fu M
set_option linter.unusedVariables false in
set_option maxRecDepth 100000 in
theorem wX8_cases {X : JX} (hC : JC X cX8_cases RX8 (some .int) 1 12 0 0) (hG : dmI dmM (XG X)) (hnl : nLof X = 1) (fu : Nat) (M : Mem) : J X (ZN X foI) (FX8_cases fu (XD X) M) 0 [(0, .ref (gadr (XG X) (5, 0, 0)))] [] M 0 0 := by
  unfold FX8_cases
  refine j_aload_n hC 0 dX8_cases_0 rfl ?_
  refine j_getR (fk := 1) hC (dmMo hG rfl) rfl rfl in_X8 rfl rfl q1465 rfl dX8_cases_1 ?_
  refine j_iconst (v := 2) hC dX8_cases_4 (by decide) ?_
  refine j_iald hC (dmMo hG rfl) rfl dX8_cases_5 (fun h5 => ?_)
  exact j_iret hC dX8_cases_6
set_option linter.unusedVariables false in
set_option maxRecDepth 100000 in
theorem mX8_cases (l : Launch) (Γ : xG) (hG : dmI dmM Γ) (fu : Nat) (D : List LDen) (M : Mem) (r : Int32 × Mem) (hr : FX8_cases fu D M = some r) : CN l yX8_cases (ws_ yX8_cases cX8_cases 1 (some .int)) 1 12 Γ D [.ref (gadr Γ (5, 0, 0))] M (foI r.1) r.2 := by
  refine CN.of (own := RX8) (lv0 := lv_args 0 [.ref (gadr Γ (5, 0, 0))]) (by decide +kernel) rfl (Nat.le_of_ble_eq_true rfl) rfl (fun X e1 e2 e3 e4 hC => ?_) r hr
  subst e1
  subst e2
  exact wX8_cases hC hG e4 fu M
set_option linter.unusedVariables false in
set_option maxRecDepth 100000 in
theorem wX8_caseAt {X : JX} (hC : JC X cX8_caseAt RX8 (some .int) 1 12 0 0) (hG : dmI dmM (XG X)) (hnl : nLof X = 2) (fu : Nat) (M : Mem) (x0 x1 : Int32) : J X (ZN X foI) (FX8_caseAt fu (XD X) M x0 x1) 0 [(0, .int x0), (1, .int x1)] [] M 0 0 := by
  unfold FX8_caseAt
  refine j_bipush (v := 74) hC dX8_caseAt_0 (by decide) ?_
  refine j_iconst (v := 4) hC dX8_caseAt_2 (by decide) ?_
  refine j_iload_n hC 0 dX8_caseAt_3 rfl ?_
  refine j_imul hC dX8_caseAt_4 ?_
  refine j_iadd hC dX8_caseAt_5 ?_
  refine j_iload_n hC 1 dX8_caseAt_6 rfl ?_
  refine j_iadd hC dX8_caseAt_7 ?_
  exact j_iret hC dX8_caseAt_8
set_option linter.unusedVariables false in
set_option maxRecDepth 100000 in
theorem mX8_caseAt (l : Launch) (Γ : xG) (hG : dmI dmM Γ) (fu : Nat) (D : List LDen) (M : Mem) (x0 x1 : Int32) (r : Int32 × Mem) (hr : FX8_caseAt fu D M x0 x1 = some r) : CN l yX8_caseAt (ws_ yX8_caseAt cX8_caseAt 2 (some .int)) 1 12 Γ D [.int x0, .int x1] M (foI r.1) r.2 := by
  refine CN.of (own := RX8) (lv0 := lv_args 0 [.int x0, .int x1]) (by decide +kernel) rfl (Nat.le_of_ble_eq_true rfl) rfl (fun X e1 e2 e3 e4 hC => ?_) r hr
  subst e1
  subst e2
  exact wX8_caseAt hC hG e4 fu M x0 x1
set_option linter.unusedVariables false in
set_option maxRecDepth 100000 in
theorem wX8_readCase_54 {X : JX} (hC : JC X cX8_readCase RX8 (some .boolean) 6 164 0 0) (hG : dmI dmM (XG X)) (hnl : nLof X = 5) (fu : Nat) (M : Mem) : J X (ZN X foI) (FX8_readCase_54 fu (XD X) M) 54 [] [] M 0 0 := by
  unfold FX8_readCase_54
  refine j_iconst (v := 0) hC dX8_readCase_54 (by decide) ?_
  exact j_zret hC (by decide) dX8_readCase_55
set_option linter.unusedVariables false in
set_option maxRecDepth 100000 in
theorem wX8_readCase_81 {X : JX} (hC : JC X cX8_readCase RX8 (some .boolean) 6 164 0 0) (hG : dmI dmM (XG X)) (hnl : nLof X = 5) (fu : Nat) (M : Mem) (x1 x2 x3 t0 : Int32) : J X (ZN X foI) (FX8_readCase_81 fu (XD X) M x1 x2 x3 t0) 81 [(0, .ref (gadr (XG X) (5, 0, 0))), (1, .int x1), (2, .int x2), (3, .int x3)] [.int t0] M 0 0 := by
  unfold FX8_readCase_81
  refine j_istore hC [(4, .int t0), (0, .ref (gadr (XG X) (5, 0, 0))), (1, .int x1), (2, .int x2), (3, .int x3)] hnl dX8_readCase_81 rfl rfl ?_
  refine j_iload hC 0 dX8_readCase_83 rfl ?_
  refine j_if_ge (tgt := 90) hC dX8_readCase_85 (by decide) (fun h85 => ?_) (fun h85 => ?_)
  · refine j_aload_n hC 1 dX8_readCase_90 rfl ?_
    refine j_getR (fk := 1) hC (dmMo hG rfl) rfl rfl in_X8 rfl rfl q1465 rfl dX8_readCase_91 ?_
    refine j_iload_n hC 2 dX8_readCase_94 rfl ?_
    refine j_iconst (v := 0) hC dX8_readCase_95 (by decide) ?_
    refine j_callS (nA := 2) (rest := [.ref (gadr (XG X) (5, 0, 1))]) hC [.int x1, .int 0] rfl (fun r hr => mX8_caseAt (XL X) (XG X) hG fu (XD X) M x1 0 r hr) q1670 q1671 q136 q1672 (by decide +kernel) rfl rfl rfl rfl rfl rfl dX8_readCase_96 (fun v96 => [.int v96, .ref (gadr (XG X) (5, 0, 1))]) (fun _ => rfl) (fun v96 M96 => ?_)
    refine j_iload_n hC 3 dX8_readCase_99 rfl ?_
    refine j_iast hC (dmMo hG rfl) rfl dX8_readCase_100 (fun h100 => ?_)
    refine j_lt (fun M100 => ?_)
    refine j_aload_n hC 1 dX8_readCase_101 rfl ?_
    refine j_getR (fk := 1) hC (dmMo hG rfl) rfl rfl in_X8 rfl rfl q1465 rfl dX8_readCase_102 ?_
    refine j_iload_n hC 2 dX8_readCase_105 rfl ?_
    refine j_iconst (v := 1) hC dX8_readCase_106 (by decide) ?_
    refine j_callS (nA := 2) (rest := [.ref (gadr (XG X) (5, 0, 1))]) hC [.int x1, .int 1] rfl (fun r hr => mX8_caseAt (XL X) (XG X) hG fu (XD X) M100 x1 1 r hr) q1670 q1671 q136 q1672 (by decide +kernel) rfl rfl rfl rfl rfl rfl dX8_readCase_107 (fun v107 => [.int v107, .ref (gadr (XG X) (5, 0, 1))]) (fun _ => rfl) (fun v107 M107 => ?_)
    refine j_iload_n hC 4 dX8_readCase_110 rfl ?_
    refine j_iast hC (dmMo hG rfl) rfl dX8_readCase_111 (fun h111 => ?_)
    refine j_lt (fun M111 => ?_)
    refine j_aload_n hC 1 dX8_readCase_112 rfl ?_
    refine j_getR (fk := 1) hC (dmMo hG rfl) rfl rfl in_X8 rfl rfl q1465 rfl dX8_readCase_113 ?_
    refine j_iload_n hC 2 dX8_readCase_116 rfl ?_
    refine j_iconst (v := 2) hC dX8_readCase_117 (by decide) ?_
    refine j_callS (nA := 2) (rest := [.ref (gadr (XG X) (5, 0, 1))]) hC [.int x1, .int 2] rfl (fun r hr => mX8_caseAt (XL X) (XG X) hG fu (XD X) M111 x1 2 r hr) q1670 q1671 q136 q1672 (by decide +kernel) rfl rfl rfl rfl rfl rfl dX8_readCase_118 (fun v118 => [.int v118, .ref (gadr (XG X) (5, 0, 1))]) (fun _ => rfl) (fun v118 M118 => ?_)
    refine j_iload hC 0 dX8_readCase_121 rfl ?_
    refine j_iast hC (dmMo hG rfl) rfl dX8_readCase_123 (fun h123 => ?_)
    refine j_lt (fun M123 => ?_)
    refine j_aload_n hC 1 dX8_readCase_124 rfl ?_
    refine j_getR (fk := 1) hC (dmMo hG rfl) rfl rfl in_X8 rfl rfl q1465 rfl dX8_readCase_125 ?_
    refine j_iload_n hC 2 dX8_readCase_128 rfl ?_
    refine j_iconst (v := 3) hC dX8_readCase_129 (by decide) ?_
    refine j_callS (nA := 2) (rest := [.ref (gadr (XG X) (5, 0, 1))]) hC [.int x1, .int 3] rfl (fun r hr => mX8_caseAt (XL X) (XG X) hG fu (XD X) M123 x1 3 r hr) q1670 q1671 q136 q1672 (by decide +kernel) rfl rfl rfl rfl rfl rfl dX8_readCase_130 (fun v130 => [.int v130, .ref (gadr (XG X) (5, 0, 1))]) (fun _ => rfl) (fun v130 M130 => ?_)
    refine j_iconst (v := 0) hC dX8_readCase_133 (by decide) ?_
    refine j_iast hC (dmMo hG rfl) rfl dX8_readCase_134 (fun h134 => ?_)
    refine j_lt (fun M134 => ?_)
    refine j_aload_n hC 1 dX8_readCase_135 rfl ?_
    refine j_getR (fk := 1) hC (dmMo hG rfl) rfl rfl in_X8 rfl rfl q1465 rfl dX8_readCase_136 ?_
    refine j_iconst (v := 2) hC dX8_readCase_139 (by decide) ?_
    refine j_dup2 hC dX8_readCase_140 rfl rfl ?_
    refine j_iald hC (dmMo hG rfl) rfl dX8_readCase_141 (fun h141 => ?_)
    refine j_iconst (v := 1) hC dX8_readCase_142 (by decide) ?_
    refine j_iadd hC dX8_readCase_143 ?_
    refine j_iast hC (dmMo hG rfl) rfl dX8_readCase_144 (fun h144 => ?_)
    refine j_lt (fun M144 => ?_)
    refine j_iconst (v := 1) hC dX8_readCase_145 (by decide) ?_
    exact j_zret hC (by decide) dX8_readCase_146
  · refine j_iconst (v := 0) hC dX8_readCase_88 (by decide) ?_
    exact j_zret hC (by decide) dX8_readCase_89
set_option linter.unusedVariables false in
set_option maxRecDepth 100000 in
theorem wX8_readCase_44 {X : JX} (hC : JC X cX8_readCase RX8 (some .boolean) 6 164 0 0) (hG : dmI dmM (XG X)) (hnl : nLof X = 5) (fu : Nat) (M : Mem) (x1 x2 t0 : Int32) : J X (ZN X foI) (FX8_readCase_44 fu (XD X) M x1 x2 t0) 44 [(0, .ref (gadr (XG X) (5, 0, 0))), (1, .int x1), (2, .int x2)] [.int t0] M 0 0 := by
  unfold FX8_readCase_44
  refine j_istore_n hC [(3, .int t0), (0, .ref (gadr (XG X) (5, 0, 0))), (1, .int x1), (2, .int x2)] hnl dX8_readCase_44 rfl rfl ?_
  refine j_iload_n hC 0 dX8_readCase_45 rfl ?_
  refine j_if_lt (tgt := 54) hC dX8_readCase_46 (by decide) (fun h46 => ?_) (fun h46 => ?_)
  · exact j_sub [] rfl (wX8_readCase_54 hC hG hnl fu M)
  · refine j_iload_n hC 0 dX8_readCase_49 rfl ?_
    refine j_iload_n hC 3 dX8_readCase_50 rfl ?_
    refine j_icmp_ne (tgt := 56) hC dX8_readCase_51 (by decide) (fun h51 => ?_) (fun h51 => ?_)
    · exact j_sub [] rfl (wX8_readCase_54 hC hG hnl fu M)
    · refine j_aload_n hC 1 dX8_readCase_56 rfl ?_
      refine j_callV (nA := 0) (rest := []) hC [] rfl (fun r hr => mX8_letters (XL X) (XG X) hG fu (XD X) M r hr) q1603 q1605 qs50 q136 q1606 (dmMo hG rfl) rfl rfl (by decide +kernel) rfl rfl rfl rfl rfl rfl dX8_readCase_57 (fun _ => []) (fun _ => rfl) (fun v57 M57 => ?_)
      refine j_aload_n hC 1 dX8_readCase_60 rfl ?_
      refine j_ldcS (tx := "present") (i := 13) hC (by decide) dX8_readCase_61 ?_
      refine j_callV (nA := 1) (rest := []) hC [.ref (gadr (XG X) (6, 0, 13))] rfl (fun r hr => mX8_isWord (XL X) (XG X) hG fu (XD X) 13 (by decide) M57 r hr) q1612 q1614 qs52 q136 q1615 (dmMo hG rfl) rfl rfl (by decide +kernel) rfl rfl rfl rfl rfl rfl dX8_readCase_63 (fun v63 => [.int v63]) (fun _ => rfl) (fun v63 M63 => ?_)
      refine j_if_eq (tgt := 80) hC dX8_readCase_66 (by decide) (fun h66 => ?_) (fun h66 => ?_)
      · refine j_iconst (v := (-1)) hC dX8_readCase_80 (by decide) ?_
        exact j_sub [1, 2, 3, 0] rfl (wX8_readCase_81 hC hG hnl fu M63 x1 x2 t0 (-1))
      · refine j_aload_n hC 1 dX8_readCase_69 rfl ?_
        refine j_aload_n hC 1 dX8_readCase_70 rfl ?_
        refine j_callV (nA := 0) (rest := [.ref (gadr (XG X) (5, 0, 0))]) hC [] rfl (fun r hr => mX8_birds (XL X) (XG X) hG fu (XD X) M63 r hr) q1622 q1624 qs54 q136 q1625 (dmMo hG rfl) rfl rfl (by decide +kernel) rfl rfl rfl rfl rfl rfl dX8_readCase_71 (fun v71 => [.int v71, .ref (gadr (XG X) (5, 0, 0))]) (fun _ => rfl) (fun v71 M71 => ?_)
        refine j_callV (nA := 1) (rest := []) hC [.int v71] rfl (fun r hr => mX8_lettersTold (XL X) (XG X) hG fu (XD X) M71 v71 r hr) q1637 q1639 qs57 q136 q1640 (dmMo hG rfl) rfl rfl (by decide +kernel) rfl rfl rfl rfl rfl rfl dX8_readCase_74 (fun v74 => [.int v74]) (fun _ => rfl) (fun v74 M74 => ?_)
        refine j_goto (tgt := 81) hC dX8_readCase_77 (by decide) ?_
        exact j_sub [1, 2, 3, 0] rfl (wX8_readCase_81 hC hG hnl fu M74 x1 x2 t0 v74)
set_option linter.unusedVariables false in
set_option maxRecDepth 100000 in
theorem wX8_readCase {X : JX} (hC : JC X cX8_readCase RX8 (some .boolean) 6 164 0 0) (hG : dmI dmM (XG X)) (hnl : nLof X = 5) (fu : Nat) (M : Mem) : J X (ZN X foI) (FX8_readCase fu (XD X) M) 0 [(0, .ref (gadr (XG X) (5, 0, 0)))] [] M 0 0 := by
  unfold FX8_readCase
  refine j_aload_n hC 0 dX8_readCase_0 rfl ?_
  refine j_callV (nA := 0) (rest := []) hC [] rfl (fun r hr => mX8_cases (XL X) (XG X) hG fu (XD X) M r hr) q1665 q1667 qs61 q136 q1668 (dmMo hG rfl) rfl rfl (by decide +kernel) rfl rfl rfl rfl rfl rfl dX8_readCase_1 (fun v1 => [.int v1]) (fun _ => rfl) (fun v1 M1 => ?_)
  refine j_istore_n hC [(1, .int v1), (0, .ref (gadr (XG X) (5, 0, 0)))] hnl dX8_readCase_4 rfl rfl ?_
  refine j_iload_n hC 0 dX8_readCase_5 rfl ?_
  refine j_bipush (v := 12) hC dX8_readCase_6 (by decide) ?_
  refine j_icmp_ne (tgt := 13) hC dX8_readCase_8 (by decide) (fun h8 => ?_) (fun h8 => ?_)
  · refine j_iconst (v := 0) hC dX8_readCase_11 (by decide) ?_
    exact j_zret hC (by decide) dX8_readCase_12
  · refine j_aload_n hC 1 dX8_readCase_13 rfl ?_
    refine j_iconst (v := 0) hC dX8_readCase_14 (by decide) ?_
    refine j_aload_n hC 1 dX8_readCase_15 rfl ?_
    refine j_callV (nA := 0) (rest := [.int 0, .ref (gadr (XG X) (5, 0, 0))]) hC [] rfl (fun r hr => mX8_counsel (XL X) (XG X) hG fu (XD X) M1 r hr) q1656 q1658 qs59 q136 q1659 (dmMo hG rfl) rfl rfl (by decide +kernel) rfl rfl rfl rfl rfl rfl dX8_readCase_16 (fun v16 => [.int v16, .int 0, .ref (gadr (XG X) (5, 0, 0))]) (fun _ => rfl) (fun v16 M16 => ?_)
    refine j_iconst (v := 1) hC dX8_readCase_19 (by decide) ?_
    refine j_isub hC dX8_readCase_20 ?_
    refine j_callV (nA := 2) (rest := []) hC [.int 0, .int (v16 - 1)] rfl (fun r hr => mX8_number (XL X) (XG X) hG fu (XD X) M16 0 (v16 - 1) r hr) q1627 q1629 qs55 q136 q1630 (dmMo hG rfl) rfl rfl (by decide +kernel) rfl rfl rfl rfl rfl rfl dX8_readCase_21 (fun v21 => [.int v21]) (fun _ => rfl) (fun v21 M21 => ?_)
    refine j_istore_n hC [(2, .int v21), (1, .int v1), (0, .ref (gadr (XG X) (5, 0, 0)))] hnl dX8_readCase_24 rfl rfl ?_
    refine j_iload_n hC 0 dX8_readCase_25 rfl ?_
    refine j_if_ge (tgt := 33) hC dX8_readCase_26 (by decide) (fun h26 => ?_) (fun h26 => ?_)
    · refine j_aload_n hC 2 dX8_readCase_33 rfl ?_
      refine j_iconst (v := 0) hC dX8_readCase_34 (by decide) ?_
      refine j_aload_n hC 2 dX8_readCase_35 rfl ?_
      refine j_callV (nA := 0) (rest := [.int 0, .ref (gadr (XG X) (5, 0, 0))]) hC [] rfl (fun r hr => mX8_counsel (XL X) (XG X) hG fu (XD X) M21 r hr) q1656 q1658 qs59 q136 q1659 (dmMo hG rfl) rfl rfl (by decide +kernel) rfl rfl rfl rfl rfl rfl dX8_readCase_36 (fun v36 => [.int v36, .int 0, .ref (gadr (XG X) (5, 0, 0))]) (fun _ => rfl) (fun v36 M36 => ?_)
      refine j_iconst (v := 1) hC dX8_readCase_39 (by decide) ?_
      refine j_isub hC dX8_readCase_40 ?_
      refine j_callV (nA := 2) (rest := []) hC [.int 0, .int (v36 - 1)] rfl (fun r hr => mX8_number (XL X) (XG X) hG fu (XD X) M36 0 (v36 - 1) r hr) q1627 q1629 qs55 q136 q1630 (dmMo hG rfl) rfl rfl (by decide +kernel) rfl rfl rfl rfl rfl rfl dX8_readCase_41 (fun v41 => [.int v41]) (fun _ => rfl) (fun v41 M41 => ?_)
      exact j_sub [2, 1, 0] rfl (wX8_readCase_44 hC hG hnl fu M41 v1 v21 v41)
    · refine j_iconst (v := (-1)) hC dX8_readCase_29 (by decide) ?_
      refine j_goto (tgt := 44) hC dX8_readCase_30 (by decide) ?_
      exact j_sub [2, 1, 0] rfl (wX8_readCase_44 hC hG hnl fu M21 v1 v21 (-1))
set_option linter.unusedVariables false in
set_option maxRecDepth 100000 in
theorem mX8_readCase (l : Launch) (Γ : xG) (hG : dmI dmM Γ) (fu : Nat) (D : List LDen) (M : Mem) (r : Int32 × Mem) (hr : FX8_readCase fu D M = some r) : CN l yX8_readCase (ws_ yX8_readCase cX8_readCase 5 (some .boolean)) 6 164 Γ D [.ref (gadr Γ (5, 0, 0))] M (foI r.1) r.2 := by
  refine CN.of (own := RX8) (lv0 := lv_args 0 [.ref (gadr Γ (5, 0, 0))]) (by decide +kernel) rfl (Nat.le_of_ble_eq_true rfl) rfl (fun X e1 e2 e3 e4 hC => ?_) r hr
  subst e1
  subst e2
  exact wX8_readCase hC hG e4 fu M
set_option linter.unusedVariables false in
set_option maxRecDepth 100000 in
theorem wX8_readTower_25 {X : JX} (hC : JC X cX8_readTower RX8 (some .boolean) 7 187 0 0) (hG : dmI dmM (XG X)) (hnl : nLof X = 3) (fu : Nat) (M : Mem) (x1 t0 : Int32) : J X (ZN X foI) (FX8_readTower_25 fu (XD X) M x1 t0) 25 [(0, .ref (gadr (XG X) (5, 0, 0))), (1, .int x1)] [.int t0] M 0 0 := by
  unfold FX8_readTower_25
  refine j_istore_n hC [(2, .int t0), (0, .ref (gadr (XG X) (5, 0, 0))), (1, .int x1)] hnl dX8_readTower_25 rfl rfl ?_
  refine j_iload_n hC 0 dX8_readTower_26 rfl ?_
  refine j_if_ge (tgt := 32) hC dX8_readTower_27 (by decide) (fun h27 => ?_) (fun h27 => ?_)
  · refine j_aload_n hC 1 dX8_readTower_32 rfl ?_
    refine j_getR (fk := 1) hC (dmMo hG rfl) rfl rfl in_X8 rfl rfl q1465 rfl dX8_readTower_33 ?_
    refine j_bipush (v := 7) hC dX8_readTower_36 (by decide) ?_
    refine j_iload_n hC 2 dX8_readTower_38 rfl ?_
    refine j_iast hC (dmMo hG rfl) rfl dX8_readTower_39 (fun h39 => ?_)
    refine j_lt (fun M39 => ?_)
    refine j_aload_n hC 1 dX8_readTower_40 rfl ?_
    refine j_getR (fk := 1) hC (dmMo hG rfl) rfl rfl in_X8 rfl rfl q1465 rfl dX8_readTower_41 ?_
    refine j_bipush (v := 8) hC dX8_readTower_44 (by decide) ?_
    refine j_iload_n hC 0 dX8_readTower_46 rfl ?_
    refine j_iast hC (dmMo hG rfl) rfl dX8_readTower_47 (fun h47 => ?_)
    refine j_lt (fun M47 => ?_)
    refine j_iconst (v := 1) hC dX8_readTower_48 (by decide) ?_
    exact j_zret hC (by decide) dX8_readTower_49
  · refine j_iconst (v := 0) hC dX8_readTower_30 (by decide) ?_
    exact j_zret hC (by decide) dX8_readTower_31
set_option linter.unusedVariables false in
set_option maxRecDepth 100000 in
theorem wX8_readTower {X : JX} (hC : JC X cX8_readTower RX8 (some .boolean) 7 187 0 0) (hG : dmI dmM (XG X)) (hnl : nLof X = 3) (fu : Nat) (M : Mem) : J X (ZN X foI) (FX8_readTower fu (XD X) M) 0 [(0, .ref (gadr (XG X) (5, 0, 0)))] [] M 0 0 := by
  unfold FX8_readTower
  refine j_aload_n hC 0 dX8_readTower_0 rfl ?_
  refine j_iconst (v := 0) hC dX8_readTower_1 (by decide) ?_
  refine j_bipush (v := 15) hC dX8_readTower_2 (by decide) ?_
  refine j_callV (nA := 2) (rest := []) hC [.int 0, .int 15] rfl (fun r hr => mX8_number (XL X) (XG X) hG fu (XD X) M 0 15 r hr) q1627 q1629 qs55 q136 q1630 (dmMo hG rfl) rfl rfl (by decide +kernel) rfl rfl rfl rfl rfl rfl dX8_readTower_4 (fun v4 => [.int v4]) (fun _ => rfl) (fun v4 M4 => ?_)
  refine j_istore_n hC [(1, .int v4), (0, .ref (gadr (XG X) (5, 0, 0)))] hnl dX8_readTower_7 rfl rfl ?_
  refine j_iload_n hC 0 dX8_readTower_8 rfl ?_
  refine j_if_ge (tgt := 16) hC dX8_readTower_9 (by decide) (fun h9 => ?_) (fun h9 => ?_)
  · refine j_aload_n hC 1 dX8_readTower_16 rfl ?_
    refine j_ldcS (tx := "top") (i := 15) hC (by decide) dX8_readTower_17 ?_
    refine j_iconst (v := 1) hC dX8_readTower_19 (by decide) ?_
    refine j_bipush (v := 12) hC dX8_readTower_20 (by decide) ?_
    refine j_callV (nA := 3) (rest := []) hC [.ref (gadr (XG X) (6, 0, 15)), .int 1, .int 12] rfl (fun r hr => mX8_after (XL X) (XG X) hG fu (XD X) 15 (by decide) M4 1 12 r hr) q1632 q1634 qs56 q136 q1635 (dmMo hG rfl) rfl rfl (by decide +kernel) rfl rfl rfl rfl rfl rfl dX8_readTower_22 (fun v22 => [.int v22]) (fun _ => rfl) (fun v22 M22 => ?_)
    exact j_sub [1, 0] rfl (wX8_readTower_25 hC hG hnl fu M22 v4 v22)
  · refine j_iconst (v := (-1)) hC dX8_readTower_12 (by decide) ?_
    refine j_goto (tgt := 25) hC dX8_readTower_13 (by decide) ?_
    exact j_sub [1, 0] rfl (wX8_readTower_25 hC hG hnl fu M4 v4 (-1))
set_option linter.unusedVariables false in
set_option maxRecDepth 100000 in
theorem mX8_readTower (l : Launch) (Γ : xG) (hG : dmI dmM Γ) (fu : Nat) (D : List LDen) (M : Mem) (r : Int32 × Mem) (hr : FX8_readTower fu D M = some r) : CN l yX8_readTower (ws_ yX8_readTower cX8_readTower 3 (some .boolean)) 7 187 Γ D [.ref (gadr Γ (5, 0, 0))] M (foI r.1) r.2 := by
  refine CN.of (own := RX8) (lv0 := lv_args 0 [.ref (gadr Γ (5, 0, 0))]) (by decide +kernel) rfl (Nat.le_of_ble_eq_true rfl) rfl (fun X e1 e2 e3 e4 hC => ?_) r hr
  subst e1
  subst e2
  exact wX8_readTower hC hG e4 fu M
set_option linter.unusedVariables false in
set_option maxRecDepth 100000 in
theorem wX8_readYard_25 {X : JX} (hC : JC X cX8_readYard RX8 (some .boolean) 7 187 0 0) (hG : dmI dmM (XG X)) (hnl : nLof X = 3) (fu : Nat) (M : Mem) (x1 t0 : Int32) : J X (ZN X foI) (FX8_readYard_25 fu (XD X) M x1 t0) 25 [(0, .ref (gadr (XG X) (5, 0, 0))), (1, .int x1)] [.int t0] M 0 0 := by
  unfold FX8_readYard_25
  refine j_istore_n hC [(2, .int t0), (0, .ref (gadr (XG X) (5, 0, 0))), (1, .int x1)] hnl dX8_readYard_25 rfl rfl ?_
  refine j_iload_n hC 0 dX8_readYard_26 rfl ?_
  refine j_if_ge (tgt := 32) hC dX8_readYard_27 (by decide) (fun h27 => ?_) (fun h27 => ?_)
  · refine j_aload_n hC 1 dX8_readYard_32 rfl ?_
    refine j_getR (fk := 1) hC (dmMo hG rfl) rfl rfl in_X8 rfl rfl q1465 rfl dX8_readYard_33 ?_
    refine j_bipush (v := 9) hC dX8_readYard_36 (by decide) ?_
    refine j_iload_n hC 2 dX8_readYard_38 rfl ?_
    refine j_iast hC (dmMo hG rfl) rfl dX8_readYard_39 (fun h39 => ?_)
    refine j_lt (fun M39 => ?_)
    refine j_aload_n hC 1 dX8_readYard_40 rfl ?_
    refine j_getR (fk := 1) hC (dmMo hG rfl) rfl rfl in_X8 rfl rfl q1465 rfl dX8_readYard_41 ?_
    refine j_bipush (v := 10) hC dX8_readYard_44 (by decide) ?_
    refine j_iload_n hC 0 dX8_readYard_46 rfl ?_
    refine j_iast hC (dmMo hG rfl) rfl dX8_readYard_47 (fun h47 => ?_)
    refine j_lt (fun M47 => ?_)
    refine j_iconst (v := 1) hC dX8_readYard_48 (by decide) ?_
    exact j_zret hC (by decide) dX8_readYard_49
  · refine j_iconst (v := 0) hC dX8_readYard_30 (by decide) ?_
    exact j_zret hC (by decide) dX8_readYard_31
set_option linter.unusedVariables false in
set_option maxRecDepth 100000 in
theorem wX8_readYard {X : JX} (hC : JC X cX8_readYard RX8 (some .boolean) 7 187 0 0) (hG : dmI dmM (XG X)) (hnl : nLof X = 3) (fu : Nat) (M : Mem) : J X (ZN X foI) (FX8_readYard fu (XD X) M) 0 [(0, .ref (gadr (XG X) (5, 0, 0)))] [] M 0 0 := by
  unfold FX8_readYard
  refine j_aload_n hC 0 dX8_readYard_0 rfl ?_
  refine j_iconst (v := 0) hC dX8_readYard_1 (by decide) ?_
  refine j_bipush (v := 15) hC dX8_readYard_2 (by decide) ?_
  refine j_callV (nA := 2) (rest := []) hC [.int 0, .int 15] rfl (fun r hr => mX8_number (XL X) (XG X) hG fu (XD X) M 0 15 r hr) q1627 q1629 qs55 q136 q1630 (dmMo hG rfl) rfl rfl (by decide +kernel) rfl rfl rfl rfl rfl rfl dX8_readYard_4 (fun v4 => [.int v4]) (fun _ => rfl) (fun v4 M4 => ?_)
  refine j_istore_n hC [(1, .int v4), (0, .ref (gadr (XG X) (5, 0, 0)))] hnl dX8_readYard_7 rfl rfl ?_
  refine j_iload_n hC 0 dX8_readYard_8 rfl ?_
  refine j_if_ge (tgt := 16) hC dX8_readYard_9 (by decide) (fun h9 => ?_) (fun h9 => ?_)
  · refine j_aload_n hC 1 dX8_readYard_16 rfl ?_
    refine j_ldcS (tx := "to") (i := 17) hC (by decide) dX8_readYard_17 ?_
    refine j_iload_n hC 0 dX8_readYard_19 rfl ?_
    refine j_bipush (v := 15) hC dX8_readYard_20 (by decide) ?_
    refine j_callV (nA := 3) (rest := []) hC [.ref (gadr (XG X) (6, 0, 17)), .int v4, .int 15] rfl (fun r hr => mX8_after (XL X) (XG X) hG fu (XD X) 17 (by decide) M4 v4 15 r hr) q1632 q1634 qs56 q136 q1635 (dmMo hG rfl) rfl rfl (by decide +kernel) rfl rfl rfl rfl rfl rfl dX8_readYard_22 (fun v22 => [.int v22]) (fun _ => rfl) (fun v22 M22 => ?_)
    exact j_sub [1, 0] rfl (wX8_readYard_25 hC hG hnl fu M22 v4 v22)
  · refine j_iconst (v := (-1)) hC dX8_readYard_12 (by decide) ?_
    refine j_goto (tgt := 25) hC dX8_readYard_13 (by decide) ?_
    exact j_sub [1, 0] rfl (wX8_readYard_25 hC hG hnl fu M4 v4 (-1))
set_option linter.unusedVariables false in
set_option maxRecDepth 100000 in
theorem mX8_readYard (l : Launch) (Γ : xG) (hG : dmI dmM Γ) (fu : Nat) (D : List LDen) (M : Mem) (r : Int32 × Mem) (hr : FX8_readYard fu D M = some r) : CN l yX8_readYard (ws_ yX8_readYard cX8_readYard 3 (some .boolean)) 7 187 Γ D [.ref (gadr Γ (5, 0, 0))] M (foI r.1) r.2 := by
  refine CN.of (own := RX8) (lv0 := lv_args 0 [.ref (gadr Γ (5, 0, 0))]) (by decide +kernel) rfl (Nat.le_of_ble_eq_true rfl) rfl (fun X e1 e2 e3 e4 hC => ?_) r hr
  subst e1
  subst e2
  exact wX8_readYard hC hG e4 fu M
set_option linter.unusedVariables false in
set_option maxRecDepth 100000 in
theorem wX8_readWind_73 {X : JX} (hC : JC X cX8_readWind RX8 (some .boolean) 6 164 0 0) (hG : dmI dmM (XG X)) (hnl : nLof X = 4) (fu : Nat) (M : Mem) (t0 t1 : Int32) : J X (ZN X foI) (FX8_readWind_73 fu (XD X) M t0 t1) 73 [] [.int t0, .int t1, .ref (gadr (XG X) (5, 0, 1))] M 0 0 := by
  unfold FX8_readWind_73
  refine j_iast hC (dmMo hG rfl) rfl dX8_readWind_73 (fun h73 => ?_)
  refine j_lt (fun M73 => ?_)
  refine j_iconst (v := 1) hC dX8_readWind_74 (by decide) ?_
  exact j_zret hC (by decide) dX8_readWind_75
set_option linter.unusedVariables false in
set_option maxRecDepth 100000 in
theorem wX8_readWind_48 {X : JX} (hC : JC X cX8_readWind RX8 (some .boolean) 6 164 0 0) (hG : dmI dmM (XG X)) (hnl : nLof X = 4) (fu : Nat) (M : Mem) (x1 x2 t0 : Int32) : J X (ZN X foI) (FX8_readWind_48 fu (XD X) M x1 x2 t0) 48 [(0, .ref (gadr (XG X) (5, 0, 0))), (1, .int x1), (2, .int x2)] [.int t0] M 0 0 := by
  unfold FX8_readWind_48
  refine j_istore_n hC [(3, .int t0), (0, .ref (gadr (XG X) (5, 0, 0))), (1, .int x1), (2, .int x2)] hnl dX8_readWind_48 rfl rfl ?_
  refine j_iload_n hC 0 dX8_readWind_49 rfl ?_
  refine j_if_ge (tgt := 55) hC dX8_readWind_50 (by decide) (fun h50 => ?_) (fun h50 => ?_)
  · refine j_aload_n hC 1 dX8_readWind_55 rfl ?_
    refine j_getR (fk := 1) hC (dmMo hG rfl) rfl rfl in_X8 rfl rfl q1465 rfl dX8_readWind_56 ?_
    refine j_bipush (v := 13) hC dX8_readWind_59 (by decide) ?_
    refine j_iload_n hC 2 dX8_readWind_61 rfl ?_
    refine j_iadd hC dX8_readWind_62 ?_
    refine j_iload_n hC 3 dX8_readWind_63 rfl ?_
    refine j_if_eq (tgt := 72) hC dX8_readWind_64 (by decide) (fun h64 => ?_) (fun h64 => ?_)
    · refine j_iload_n hC 0 dX8_readWind_72 rfl ?_
      exact j_sub [] rfl (wX8_readWind_73 hC hG hnl fu M t0 (13 + x1))
    · refine j_iload_n hC 0 dX8_readWind_67 rfl ?_
      refine j_ineg hC dX8_readWind_68 ?_
      refine j_goto (tgt := 73) hC dX8_readWind_69 (by decide) ?_
      exact j_sub [] rfl (wX8_readWind_73 hC hG hnl fu M (-t0) (13 + x1))
  · refine j_iconst (v := 0) hC dX8_readWind_53 (by decide) ?_
    exact j_zret hC (by decide) dX8_readWind_54
set_option linter.unusedVariables false in
set_option maxRecDepth 100000 in
theorem wX8_readWind_38 {X : JX} (hC : JC X cX8_readWind RX8 (some .boolean) 6 164 0 0) (hG : dmI dmM (XG X)) (hnl : nLof X = 4) (fu : Nat) (M : Mem) (x1 x2 : Int32) : J X (ZN X foI) (FX8_readWind_38 fu (XD X) M x1 x2) 38 [(0, .ref (gadr (XG X) (5, 0, 0))), (1, .int x1), (2, .int x2)] [] M 0 0 := by
  unfold FX8_readWind_38
  refine j_aload_n hC 0 dX8_readWind_38 rfl ?_
  refine j_iconst (v := 0) hC dX8_readWind_39 (by decide) ?_
  refine j_iconst (v := 3) hC dX8_readWind_40 (by decide) ?_
  refine j_callV (nA := 2) (rest := []) hC [.int 0, .int 3] rfl (fun r hr => mX8_number (XL X) (XG X) hG fu (XD X) M 0 3 r hr) q1627 q1629 qs55 q136 q1630 (dmMo hG rfl) rfl rfl (by decide +kernel) rfl rfl rfl rfl rfl rfl dX8_readWind_41 (fun v41 => [.int v41]) (fun _ => rfl) (fun v41 M41 => ?_)
  refine j_goto (tgt := 48) hC dX8_readWind_44 (by decide) ?_
  exact j_sub [0, 1, 2] rfl (wX8_readWind_48 hC hG hnl fu M41 x1 x2 v41)
set_option linter.unusedVariables false in
set_option maxRecDepth 100000 in
theorem wX8_readWind {X : JX} (hC : JC X cX8_readWind RX8 (some .boolean) 6 164 0 0) (hG : dmI dmM (XG X)) (hnl : nLof X = 4) (fu : Nat) (M : Mem) : J X (ZN X foI) (FX8_readWind fu (XD X) M) 0 [(0, .ref (gadr (XG X) (5, 0, 0)))] [] M 0 0 := by
  unfold FX8_readWind
  refine j_aload_n hC 0 dX8_readWind_0 rfl ?_
  refine j_iconst (v := 0) hC dX8_readWind_1 (by decide) ?_
  refine j_bipush (v := 12) hC dX8_readWind_2 (by decide) ?_
  refine j_callV (nA := 2) (rest := []) hC [.int 0, .int 12] rfl (fun r hr => mX8_number (XL X) (XG X) hG fu (XD X) M 0 12 r hr) q1627 q1629 qs55 q136 q1630 (dmMo hG rfl) rfl rfl (by decide +kernel) rfl rfl rfl rfl rfl rfl dX8_readWind_4 (fun v4 => [.int v4]) (fun _ => rfl) (fun v4 M4 => ?_)
  refine j_istore_n hC [(1, .int v4), (0, .ref (gadr (XG X) (5, 0, 0)))] hnl dX8_readWind_7 rfl rfl ?_
  refine j_iload_n hC 0 dX8_readWind_8 rfl ?_
  refine j_if_ge (tgt := 14) hC dX8_readWind_9 (by decide) (fun h9 => ?_) (fun h9 => ?_)
  · refine j_aload_n hC 1 dX8_readWind_14 rfl ?_
    refine j_callV (nA := 0) (rest := []) hC [] rfl (fun r hr => mX8_letters (XL X) (XG X) hG fu (XD X) M4 r hr) q1603 q1605 qs50 q136 q1606 (dmMo hG rfl) rfl rfl (by decide +kernel) rfl rfl rfl rfl rfl rfl dX8_readWind_15 (fun _ => []) (fun _ => rfl) (fun v15 M15 => ?_)
    refine j_aload_n hC 1 dX8_readWind_18 rfl ?_
    refine j_ldcS (tx := "west") (i := 19) hC (by decide) dX8_readWind_19 ?_
    refine j_callV (nA := 1) (rest := []) hC [.ref (gadr (XG X) (6, 0, 19))] rfl (fun r hr => mX8_isWord (XL X) (XG X) hG fu (XD X) 19 (by decide) M15 r hr) q1612 q1614 qs52 q136 q1615 (dmMo hG rfl) rfl rfl (by decide +kernel) rfl rfl rfl rfl rfl rfl dX8_readWind_21 (fun v21 => [.int v21]) (fun _ => rfl) (fun v21 M21 => ?_)
    refine j_istore_n hC [(2, .int v21), (1, .int v4), (0, .ref (gadr (XG X) (5, 0, 0)))] hnl dX8_readWind_24 rfl rfl ?_
    refine j_iload_n hC 0 dX8_readWind_25 rfl ?_
    refine j_if_ne (tgt := 38) hC dX8_readWind_26 (by decide) (fun h26 => ?_) (fun h26 => ?_)
    · refine j_aload_n hC 2 dX8_readWind_29 rfl ?_
      refine j_ldcS (tx := "east") (i := 20) hC (by decide) dX8_readWind_30 ?_
      refine j_callV (nA := 1) (rest := []) hC [.ref (gadr (XG X) (6, 0, 20))] rfl (fun r hr => mX8_isWord (XL X) (XG X) hG fu (XD X) 20 (by decide) M21 r hr) q1612 q1614 qs52 q136 q1615 (dmMo hG rfl) rfl rfl (by decide +kernel) rfl rfl rfl rfl rfl rfl dX8_readWind_32 (fun v32 => [.int v32]) (fun _ => rfl) (fun v32 M32 => ?_)
      refine j_if_eq (tgt := 47) hC dX8_readWind_35 (by decide) (fun h35 => ?_) (fun h35 => ?_)
      · refine j_iconst (v := (-1)) hC dX8_readWind_47 (by decide) ?_
        exact j_sub [2, 1, 0] rfl (wX8_readWind_48 hC hG hnl fu M32 v4 v21 (-1))
      · exact j_sub [2, 1, 0] rfl (wX8_readWind_38 hC hG hnl fu M32 v4 v21)
    · exact j_sub [2, 1, 0] rfl (wX8_readWind_38 hC hG hnl fu M21 v4 v21)
  · refine j_iconst (v := 0) hC dX8_readWind_12 (by decide) ?_
    exact j_zret hC (by decide) dX8_readWind_13
set_option linter.unusedVariables false in
set_option maxRecDepth 100000 in
theorem mX8_readWind (l : Launch) (Γ : xG) (hG : dmI dmM Γ) (fu : Nat) (D : List LDen) (M : Mem) (r : Int32 × Mem) (hr : FX8_readWind fu D M = some r) : CN l yX8_readWind (ws_ yX8_readWind cX8_readWind 4 (some .boolean)) 6 164 Γ D [.ref (gadr Γ (5, 0, 0))] M (foI r.1) r.2 := by
  refine CN.of (own := RX8) (lv0 := lv_args 0 [.ref (gadr Γ (5, 0, 0))]) (by decide +kernel) rfl (Nat.le_of_ble_eq_true rfl) rfl (fun X e1 e2 e3 e4 hC => ?_) r hr
  subst e1
  subst e2
  exact wX8_readWind hC hG e4 fu M
set_option linter.unusedVariables false in
set_option maxRecDepth 100000 in
theorem wX8_readHour_29 {X : JX} (hC : JC X cX8_readHour RX8 (some .boolean) 4 77 0 0) (hG : dmI dmM (XG X)) (hnl : nLof X = 2) (fu : Nat) (M : Mem) (t0 : Int32) : J X (ZN X foI) (FX8_readHour_29 fu (XD X) M t0) 29 [] [.int t0] M 0 0 := by
  unfold FX8_readHour_29
  exact j_zret hC rfl dX8_readHour_29
set_option linter.unusedVariables false in
set_option maxRecDepth 100000 in
theorem wX8_readHour_20 {X : JX} (hC : JC X cX8_readHour RX8 (some .boolean) 4 77 0 0) (hG : dmI dmM (XG X)) (hnl : nLof X = 2) (fu : Nat) (M : Mem) (x1 : Int32) : J X (ZN X foI) (FX8_readHour_20 fu (XD X) M x1) 20 [(1, .int x1)] [] M 0 0 := by
  unfold FX8_readHour_20
  refine j_iload_n hC 0 dX8_readHour_20 rfl ?_
  refine j_if_lt (tgt := 28) hC dX8_readHour_21 (by decide) (fun h21 => ?_) (fun h21 => ?_)
  · refine j_iconst (v := 0) hC dX8_readHour_28 (by decide) ?_
    exact j_sub [] rfl (wX8_readHour_29 hC hG hnl fu M 0)
  · refine j_iconst (v := 1) hC dX8_readHour_24 (by decide) ?_
    refine j_goto (tgt := 29) hC dX8_readHour_25 (by decide) ?_
    exact j_sub [] rfl (wX8_readHour_29 hC hG hnl fu M 1)
set_option linter.unusedVariables false in
set_option maxRecDepth 100000 in
theorem wX8_readHour {X : JX} (hC : JC X cX8_readHour RX8 (some .boolean) 4 77 0 0) (hG : dmI dmM (XG X)) (hnl : nLof X = 2) (fu : Nat) (M : Mem) : J X (ZN X foI) (FX8_readHour fu (XD X) M) 0 [(0, .ref (gadr (XG X) (5, 0, 0)))] [] M 0 0 := by
  unfold FX8_readHour
  refine j_aload_n hC 0 dX8_readHour_0 rfl ?_
  refine j_iconst (v := 0) hC dX8_readHour_1 (by decide) ?_
  refine j_bipush (v := 23) hC dX8_readHour_2 (by decide) ?_
  refine j_callV (nA := 2) (rest := []) hC [.int 0, .int 23] rfl (fun r hr => mX8_number (XL X) (XG X) hG fu (XD X) M 0 23 r hr) q1627 q1629 qs55 q136 q1630 (dmMo hG rfl) rfl rfl (by decide +kernel) rfl rfl rfl rfl rfl rfl dX8_readHour_4 (fun v4 => [.int v4]) (fun _ => rfl) (fun v4 M4 => ?_)
  refine j_istore_n hC [(1, .int v4), (0, .ref (gadr (XG X) (5, 0, 0)))] hnl dX8_readHour_7 rfl rfl ?_
  refine j_iload_n hC 0 dX8_readHour_8 rfl ?_
  refine j_if_lt (tgt := 20) hC dX8_readHour_9 (by decide) (fun h9 => ?_) (fun h9 => ?_)
  · exact j_sub [0] rfl (wX8_readHour_20 hC hG hnl fu M4 v4)
  · refine j_aload_n hC 1 dX8_readHour_12 rfl ?_
    refine j_getR (fk := 1) hC (dmMo hG rfl) rfl rfl in_X8 rfl rfl q1465 rfl dX8_readHour_13 ?_
    refine j_bipush (v := 6) hC dX8_readHour_16 (by decide) ?_
    refine j_iload_n hC 0 dX8_readHour_18 rfl ?_
    refine j_iast hC (dmMo hG rfl) rfl dX8_readHour_19 (fun h19 => ?_)
    refine j_lt (fun M19 => ?_)
    exact j_sub [0] rfl (wX8_readHour_20 hC hG hnl fu M19 v4)
set_option linter.unusedVariables false in
set_option maxRecDepth 100000 in
theorem mX8_readHour (l : Launch) (Γ : xG) (hG : dmI dmM Γ) (fu : Nat) (D : List LDen) (M : Mem) (r : Int32 × Mem) (hr : FX8_readHour fu D M = some r) : CN l yX8_readHour (ws_ yX8_readHour cX8_readHour 2 (some .boolean)) 4 77 Γ D [.ref (gadr Γ (5, 0, 0))] M (foI r.1) r.2 := by
  refine CN.of (own := RX8) (lv0 := lv_args 0 [.ref (gadr Γ (5, 0, 0))]) (by decide +kernel) rfl (Nat.le_of_ble_eq_true rfl) rfl (fun X e1 e2 e3 e4 hC => ?_) r hr
  subst e1
  subst e2
  exact wX8_readHour hC hG e4 fu M
set_option linter.unusedVariables false in
set_option maxRecDepth 100000 in
theorem wX8_readCourtLine_105 {X : JX} (hC : JC X cX8_readCourtLine RX8 (some .boolean) 8 214 0 0) (hG : dmI dmM (XG X)) (hnl : nLof X = 1) (fu : Nat) (M : Mem) (t0 : Int32) : J X (ZN X foI) (FX8_readCourtLine_105 fu (XD X) M t0) 105 [] [.int t0] M 0 0 := by
  unfold FX8_readCourtLine_105
  exact j_zret hC rfl dX8_readCourtLine_105
set_option linter.unusedVariables false in
set_option maxRecDepth 100000 in
theorem wX8_readCourtLine_104 {X : JX} (hC : JC X cX8_readCourtLine RX8 (some .boolean) 8 214 0 0) (hG : dmI dmM (XG X)) (hnl : nLof X = 1) (fu : Nat) (M : Mem) : J X (ZN X foI) (FX8_readCourtLine_104 fu (XD X) M) 104 [] [] M 0 0 := by
  unfold FX8_readCourtLine_104
  refine j_iconst (v := 0) hC dX8_readCourtLine_104 (by decide) ?_
  exact j_sub [] rfl (wX8_readCourtLine_105 hC hG hnl fu M 0)
set_option linter.unusedVariables false in
set_option maxRecDepth 100000 in
theorem wX8_readCourtLine {X : JX} (hC : JC X cX8_readCourtLine RX8 (some .boolean) 8 214 0 0) (hG : dmI dmM (XG X)) (hnl : nLof X = 1) (fu : Nat) (M : Mem) : J X (ZN X foI) (FX8_readCourtLine fu (XD X) M) 0 [(0, .ref (gadr (XG X) (5, 0, 0)))] [] M 0 0 := by
  unfold FX8_readCourtLine
  refine j_aload_n hC 0 dX8_readCourtLine_0 rfl ?_
  refine j_ldcS (tx := "bird") (i := 0) hC (by decide) dX8_readCourtLine_1 ?_
  refine j_callV (nA := 1) (rest := []) hC [.ref (gadr (XG X) (6, 0, 0))] rfl (fun r hr => mX8_isWord (XL X) (XG X) hG fu (XD X) 0 (by decide) M r hr) q1612 q1614 qs52 q136 q1615 (dmMo hG rfl) rfl rfl (by decide +kernel) rfl rfl rfl rfl rfl rfl dX8_readCourtLine_3 (fun v3 => [.int v3]) (fun _ => rfl) (fun v3 M3 => ?_)
  refine j_if_eq (tgt := 14) hC dX8_readCourtLine_6 (by decide) (fun h6 => ?_) (fun h6 => ?_)
  · refine j_aload_n hC 0 dX8_readCourtLine_14 rfl ?_
    refine j_ldcS (tx := "counsel") (i := 11) hC (by decide) dX8_readCourtLine_15 ?_
    refine j_callV (nA := 1) (rest := []) hC [.ref (gadr (XG X) (6, 0, 11))] rfl (fun r hr => mX8_isWord (XL X) (XG X) hG fu (XD X) 11 (by decide) M3 r hr) q1612 q1614 qs52 q136 q1615 (dmMo hG rfl) rfl rfl (by decide +kernel) rfl rfl rfl rfl rfl rfl dX8_readCourtLine_17 (fun v17 => [.int v17]) (fun _ => rfl) (fun v17 M17 => ?_)
    refine j_if_eq (tgt := 28) hC dX8_readCourtLine_20 (by decide) (fun h20 => ?_) (fun h20 => ?_)
    · refine j_aload_n hC 0 dX8_readCourtLine_28 rfl ?_
      refine j_ldcS (tx := "case") (i := 12) hC (by decide) dX8_readCourtLine_29 ?_
      refine j_callV (nA := 1) (rest := []) hC [.ref (gadr (XG X) (6, 0, 12))] rfl (fun r hr => mX8_isWord (XL X) (XG X) hG fu (XD X) 12 (by decide) M17 r hr) q1612 q1614 qs52 q136 q1615 (dmMo hG rfl) rfl rfl (by decide +kernel) rfl rfl rfl rfl rfl rfl dX8_readCourtLine_31 (fun v31 => [.int v31]) (fun _ => rfl) (fun v31 M31 => ?_)
      refine j_if_eq (tgt := 42) hC dX8_readCourtLine_34 (by decide) (fun h34 => ?_) (fun h34 => ?_)
      · refine j_aload_n hC 0 dX8_readCourtLine_42 rfl ?_
        refine j_ldcS (tx := "tower") (i := 14) hC (by decide) dX8_readCourtLine_43 ?_
        refine j_callV (nA := 1) (rest := []) hC [.ref (gadr (XG X) (6, 0, 14))] rfl (fun r hr => mX8_isWord (XL X) (XG X) hG fu (XD X) 14 (by decide) M31 r hr) q1612 q1614 qs52 q136 q1615 (dmMo hG rfl) rfl rfl (by decide +kernel) rfl rfl rfl rfl rfl rfl dX8_readCourtLine_45 (fun v45 => [.int v45]) (fun _ => rfl) (fun v45 M45 => ?_)
        refine j_if_eq (tgt := 56) hC dX8_readCourtLine_48 (by decide) (fun h48 => ?_) (fun h48 => ?_)
        · refine j_aload_n hC 0 dX8_readCourtLine_56 rfl ?_
          refine j_ldcS (tx := "yard") (i := 16) hC (by decide) dX8_readCourtLine_57 ?_
          refine j_callV (nA := 1) (rest := []) hC [.ref (gadr (XG X) (6, 0, 16))] rfl (fun r hr => mX8_isWord (XL X) (XG X) hG fu (XD X) 16 (by decide) M45 r hr) q1612 q1614 qs52 q136 q1615 (dmMo hG rfl) rfl rfl (by decide +kernel) rfl rfl rfl rfl rfl rfl dX8_readCourtLine_59 (fun v59 => [.int v59]) (fun _ => rfl) (fun v59 M59 => ?_)
          refine j_if_eq (tgt := 70) hC dX8_readCourtLine_62 (by decide) (fun h62 => ?_) (fun h62 => ?_)
          · refine j_aload_n hC 0 dX8_readCourtLine_70 rfl ?_
            refine j_ldcS (tx := "wind") (i := 18) hC (by decide) dX8_readCourtLine_71 ?_
            refine j_callV (nA := 1) (rest := []) hC [.ref (gadr (XG X) (6, 0, 18))] rfl (fun r hr => mX8_isWord (XL X) (XG X) hG fu (XD X) 18 (by decide) M59 r hr) q1612 q1614 qs52 q136 q1615 (dmMo hG rfl) rfl rfl (by decide +kernel) rfl rfl rfl rfl rfl rfl dX8_readCourtLine_73 (fun v73 => [.int v73]) (fun _ => rfl) (fun v73 M73 => ?_)
            refine j_if_eq (tgt := 84) hC dX8_readCourtLine_76 (by decide) (fun h76 => ?_) (fun h76 => ?_)
            · refine j_aload_n hC 0 dX8_readCourtLine_84 rfl ?_
              refine j_ldcS (tx := "hour") (i := 4) hC (by decide) dX8_readCourtLine_85 ?_
              refine j_callV (nA := 1) (rest := []) hC [.ref (gadr (XG X) (6, 0, 4))] rfl (fun r hr => mX8_isWord (XL X) (XG X) hG fu (XD X) 4 (by decide) M73 r hr) q1612 q1614 qs52 q136 q1615 (dmMo hG rfl) rfl rfl (by decide +kernel) rfl rfl rfl rfl rfl rfl dX8_readCourtLine_87 (fun v87 => [.int v87]) (fun _ => rfl) (fun v87 M87 => ?_)
              refine j_if_eq (tgt := 104) hC dX8_readCourtLine_90 (by decide) (fun h90 => ?_) (fun h90 => ?_)
              · exact j_sub [] rfl (wX8_readCourtLine_104 hC hG hnl fu M87)
              · refine j_aload_n hC 0 dX8_readCourtLine_93 rfl ?_
                refine j_callV (nA := 0) (rest := []) hC [] rfl (fun r hr => mX8_readHour (XL X) (XG X) hG fu (XD X) M87 r hr) q1693 q1695 qs65 q136 q1696 (dmMo hG rfl) rfl rfl (by decide +kernel) rfl rfl rfl rfl rfl rfl dX8_readCourtLine_94 (fun v94 => [.int v94]) (fun _ => rfl) (fun v94 M94 => ?_)
                refine j_if_eq (tgt := 104) hC dX8_readCourtLine_97 (by decide) (fun h97 => ?_) (fun h97 => ?_)
                · exact j_sub [] rfl (wX8_readCourtLine_104 hC hG hnl fu M94)
                · refine j_iconst (v := 1) hC dX8_readCourtLine_100 (by decide) ?_
                  refine j_goto (tgt := 105) hC dX8_readCourtLine_101 (by decide) ?_
                  exact j_sub [] rfl (wX8_readCourtLine_105 hC hG hnl fu M94 1)
            · refine j_aload_n hC 0 dX8_readCourtLine_79 rfl ?_
              refine j_callV (nA := 0) (rest := []) hC [] rfl (fun r hr => mX8_readWind (XL X) (XG X) hG fu (XD X) M73 r hr) q1686 q1688 qs64 q136 q1689 (dmMo hG rfl) rfl rfl (by decide +kernel) rfl rfl rfl rfl rfl rfl dX8_readCourtLine_80 (fun v80 => [.int v80]) (fun _ => rfl) (fun v80 M80 => ?_)
              exact j_zret hC rfl dX8_readCourtLine_83
          · refine j_aload_n hC 0 dX8_readCourtLine_65 rfl ?_
            refine j_callV (nA := 0) (rest := []) hC [] rfl (fun r hr => mX8_readYard (XL X) (XG X) hG fu (XD X) M59 r hr) q1680 q1682 qs63 q136 q1683 (dmMo hG rfl) rfl rfl (by decide +kernel) rfl rfl rfl rfl rfl rfl dX8_readCourtLine_66 (fun v66 => [.int v66]) (fun _ => rfl) (fun v66 M66 => ?_)
            exact j_zret hC rfl dX8_readCourtLine_69
        · refine j_aload_n hC 0 dX8_readCourtLine_51 rfl ?_
          refine j_callV (nA := 0) (rest := []) hC [] rfl (fun r hr => mX8_readTower (XL X) (XG X) hG fu (XD X) M45 r hr) q1674 q1676 qs62 q136 q1677 (dmMo hG rfl) rfl rfl (by decide +kernel) rfl rfl rfl rfl rfl rfl dX8_readCourtLine_52 (fun v52 => [.int v52]) (fun _ => rfl) (fun v52 M52 => ?_)
          exact j_zret hC rfl dX8_readCourtLine_55
      · refine j_aload_n hC 0 dX8_readCourtLine_37 rfl ?_
        refine j_callV (nA := 0) (rest := []) hC [] rfl (fun r hr => mX8_readCase (XL X) (XG X) hG fu (XD X) M31 r hr) q1661 q1663 qs60 q136 q1664 (dmMo hG rfl) rfl rfl (by decide +kernel) rfl rfl rfl rfl rfl rfl dX8_readCourtLine_38 (fun v38 => [.int v38]) (fun _ => rfl) (fun v38 M38 => ?_)
        exact j_zret hC rfl dX8_readCourtLine_41
    · refine j_aload_n hC 0 dX8_readCourtLine_23 rfl ?_
      refine j_callV (nA := 0) (rest := []) hC [] rfl (fun r hr => mX8_readCounsel (XL X) (XG X) hG fu (XD X) M17 r hr) q1652 q1654 qs58 q136 q1655 (dmMo hG rfl) rfl rfl (by decide +kernel) rfl rfl rfl rfl rfl rfl dX8_readCourtLine_24 (fun v24 => [.int v24]) (fun _ => rfl) (fun v24 M24 => ?_)
      exact j_zret hC rfl dX8_readCourtLine_27
  · refine j_aload_n hC 0 dX8_readCourtLine_9 rfl ?_
    refine j_callV (nA := 0) (rest := []) hC [] rfl (fun r hr => mX8_readBird (XL X) (XG X) hG fu (XD X) M3 r hr) q1618 q1620 qs53 q136 q1621 (dmMo hG rfl) rfl rfl (by decide +kernel) rfl rfl rfl rfl rfl rfl dX8_readCourtLine_10 (fun v10 => [.int v10]) (fun _ => rfl) (fun v10 M10 => ?_)
    exact j_zret hC rfl dX8_readCourtLine_13
set_option linter.unusedVariables false in
set_option maxRecDepth 100000 in
theorem mX8_readCourtLine (l : Launch) (Γ : xG) (hG : dmI dmM Γ) (fu : Nat) (D : List LDen) (M : Mem) (r : Int32 × Mem) (hr : FX8_readCourtLine fu D M = some r) : CN l yX8_readCourtLine (ws_ yX8_readCourtLine cX8_readCourtLine 1 (some .boolean)) 8 214 Γ D [.ref (gadr Γ (5, 0, 0))] M (foI r.1) r.2 := by
  refine CN.of (own := RX8) (lv0 := lv_args 0 [.ref (gadr Γ (5, 0, 0))]) (by decide +kernel) rfl (Nat.le_of_ble_eq_true rfl) rfl (fun X e1 e2 e3 e4 hC => ?_) r hr
  subst e1
  subst e2
  exact wX8_readCourtLine hC hG e4 fu M
set_option linter.unusedVariables false in
set_option maxRecDepth 100000 in
theorem wX8_passes {X : JX} (hC : JC X cX8_passes RX8 (some .boolean) 6 164 0 0) (hG : dmI dmM (XG X)) (hnl : nLof X = 2) (fu : Nat) (q : Nat) (hq : q < 27) (M : Mem) : J X (ZN X foI) (FX8_passes fu (XD X) q M) 0 [(0, .ref (gadr (XG X) (5, 0, 0))), (1, .ref (gadr (XG X) (6, 0, q)))] [] M 0 0 := by
  unfold FX8_passes
  refine j_aload_n hC 0 dX8_passes_0 rfl ?_
  refine j_callV (nA := 0) (rest := []) hC [] rfl (fun r hr => mX8_letters (XL X) (XG X) hG fu (XD X) M r hr) q1603 q1605 qs50 q136 q1606 (dmMo hG rfl) rfl rfl (by decide +kernel) rfl rfl rfl rfl rfl rfl dX8_passes_1 (fun _ => []) (fun _ => rfl) (fun v1 M1 => ?_)
  refine j_aload_n hC 0 dX8_passes_4 rfl ?_
  refine j_aload_n hC 1 dX8_passes_5 rfl ?_
  refine j_callV (nA := 1) (rest := []) hC [.ref (gadr (XG X) (6, 0, q))] rfl (fun r hr => mX8_isWord (XL X) (XG X) hG fu (XD X) q hq M1 r hr) q1612 q1614 qs52 q136 q1615 (dmMo hG rfl) rfl rfl (by decide +kernel) rfl rfl rfl rfl rfl rfl dX8_passes_6 (fun v6 => [.int v6]) (fun _ => rfl) (fun v6 M6 => ?_)
  refine j_if_eq (tgt := 14) hC dX8_passes_9 (by decide) (fun h9 => ?_) (fun h9 => ?_)
  · refine j_aload_n hC 0 dX8_passes_14 rfl ?_
    refine j_aload_n hC 0 dX8_passes_15 rfl ?_
    refine j_getI (fk := 12) hC (dmMo hG rfl) rfl rfl in_X8 rfl rfl q1476 rfl dX8_passes_16 ?_
    refine j_put (fk := 10) (ty := .int) hC (dmMo hG rfl) rfl rfl in_X8 rfl rfl q1474 tyX8 tyX8_ok nmX8 rfl rfl (by decide +kernel) rfl rfl dX8_passes_19 ?_
    refine j_lt (fun M19 => ?_)
    refine j_iconst (v := 0) hC dX8_passes_22 (by decide) ?_
    exact j_zret hC (by decide) dX8_passes_23
  · refine j_iconst (v := 1) hC dX8_passes_12 (by decide) ?_
    exact j_zret hC (by decide) dX8_passes_13
set_option linter.unusedVariables false in
set_option maxRecDepth 100000 in
theorem mX8_passes (l : Launch) (Γ : xG) (hG : dmI dmM Γ) (fu : Nat) (D : List LDen) (q : Nat) (hq : q < 27) (M : Mem) (r : Int32 × Mem) (hr : FX8_passes fu D q M = some r) : CN l yX8_passes (ws_ yX8_passes cX8_passes 2 (some .boolean)) 6 164 Γ D [.ref (gadr Γ (5, 0, 0)), .ref (gadr Γ (6, 0, q))] M (foI r.1) r.2 := by
  refine CN.of (own := RX8) (lv0 := lv_args 0 [.ref (gadr Γ (5, 0, 0)), .ref (gadr Γ (6, 0, q))]) (by decide +kernel) rfl (Nat.le_of_ble_eq_true rfl) rfl (fun X e1 e2 e3 e4 hC => ?_) r hr
  subst e1
  subst e2
  exact wX8_passes hC hG e4 fu q hq M
set_option linter.unusedVariables false in
set_option maxRecDepth 100000 in
theorem wX8_emits {X : JX} (hC : JC X cX8_emits RX8 none 1 12 0 0) (hG : dmI dmM (XG X)) (hnl : nLof X = 3) (fu : Nat) (M : Mem) (x1 x2 : Int32) : J X (ZN X foV) (FX8_emits fu (XD X) M x1 x2) 0 [(0, .ref (gadr (XG X) (5, 0, 0))), (1, .int x1), (2, .int x2)] [] M 0 0 := by
  unfold FX8_emits
  refine j_aload_n hC 0 dX8_emits_0 rfl ?_
  refine j_getR (fk := 1) hC (dmMo hG rfl) rfl rfl in_X8 rfl rfl q1465 rfl dX8_emits_1 ?_
  refine j_sipush (v := 1380) hC dX8_emits_4 (by decide) ?_
  refine j_iconst (v := 2) hC dX8_emits_7 (by decide) ?_
  refine j_aload_n hC 0 dX8_emits_8 rfl ?_
  refine j_getI (fk := 16) hC (dmMo hG rfl) rfl rfl in_X8 rfl rfl q1480 rfl dX8_emits_9 ?_
  refine j_imul hC dX8_emits_12 ?_
  refine j_iadd hC dX8_emits_13 ?_
  refine j_iload_n hC 1 dX8_emits_14 rfl ?_
  refine j_iast hC (dmMo hG rfl) rfl dX8_emits_15 (fun h15 => ?_)
  refine j_lt (fun M15 => ?_)
  refine j_aload_n hC 0 dX8_emits_16 rfl ?_
  refine j_getR (fk := 1) hC (dmMo hG rfl) rfl rfl in_X8 rfl rfl q1465 rfl dX8_emits_17 ?_
  refine j_sipush (v := 1380) hC dX8_emits_20 (by decide) ?_
  refine j_iconst (v := 2) hC dX8_emits_23 (by decide) ?_
  refine j_aload_n hC 0 dX8_emits_24 rfl ?_
  refine j_getI (fk := 16) hC (dmMo hG rfl) rfl rfl in_X8 rfl rfl q1480 rfl dX8_emits_25 ?_
  refine j_imul hC dX8_emits_28 ?_
  refine j_iadd hC dX8_emits_29 ?_
  refine j_iconst (v := 1) hC dX8_emits_30 (by decide) ?_
  refine j_iadd hC dX8_emits_31 ?_
  refine j_iload_n hC 2 dX8_emits_32 rfl ?_
  refine j_iast hC (dmMo hG rfl) rfl dX8_emits_33 (fun h33 => ?_)
  refine j_lt (fun M33 => ?_)
  refine j_aload_n hC 0 dX8_emits_34 rfl ?_
  refine j_dup hC dX8_emits_35 rfl ?_
  refine j_getI (fk := 16) hC (dmMo hG rfl) rfl rfl in_X8 rfl rfl q1480 rfl dX8_emits_36 ?_
  refine j_iconst (v := 1) hC dX8_emits_39 (by decide) ?_
  refine j_iadd hC dX8_emits_40 ?_
  refine j_put (fk := 16) (ty := .int) hC (dmMo hG rfl) rfl rfl in_X8 rfl rfl q1480 tyX8 tyX8_ok nmX8 rfl rfl (by decide +kernel) rfl rfl dX8_emits_41 ?_
  refine j_lt (fun M41 => ?_)
  exact j_vret hC dX8_emits_44
set_option linter.unusedVariables false in
set_option maxRecDepth 100000 in
theorem mX8_emits (l : Launch) (Γ : xG) (hG : dmI dmM Γ) (fu : Nat) (D : List LDen) (M : Mem) (x1 x2 : Int32) (r : Int32 × Mem) (hr : FX8_emits fu D M x1 x2 = some r) : CN l yX8_emits (ws_ yX8_emits cX8_emits 3 none) 1 12 Γ D [.ref (gadr Γ (5, 0, 0)), .int x1, .int x2] M (foV r.1) r.2 := by
  refine CN.of (own := RX8) (lv0 := lv_args 0 [.ref (gadr Γ (5, 0, 0)), .int x1, .int x2]) (by decide +kernel) rfl (Nat.le_of_ble_eq_true rfl) rfl (fun X e1 e2 e3 e4 hC => ?_) r hr
  subst e1
  subst e2
  exact wX8_emits hC hG e4 fu M x1 x2
set_option linter.unusedVariables false in
set_option maxRecDepth 100000 in
theorem wgX8_readCondR_9 {X : JX} {d : Nat} (hC : JC X cX8_readCond RX8 (some .boolean) (2 * (d + 1) + 20) (60 * (d + 1) + 400) 0 0) (hG : dmI dmM (XG X)) (hnl : nLof X = 1) (fu : Nat) (rec : Nat → Mem → Option (Int32 × Mem)) (hrec0 : ∀ (M : Mem) (r : Int32 × Mem), rec 0 M = some r → CN (XL X) yX8_readAtom (ws_ yX8_readAtom cX8_readAtom 2 (some .boolean)) (2 * d + 20) (60 * d + 400) (XG X) (XD X) [.ref (gadr (XG X) (5, 0, 0))] M (foI r.1) r.2) (hrec1 : ∀ (M : Mem) (r : Int32 × Mem), rec 1 M = some r → CN (XL X) yX8_readAllOf (ws_ yX8_readAllOf cX8_readAllOf 1 (some .boolean)) (2 * d + 20) (60 * d + 400) (XG X) (XD X) [.ref (gadr (XG X) (5, 0, 0))] M (foI r.1) r.2) (hrec2 : ∀ (M : Mem) (r : Int32 × Mem), rec 2 M = some r → CN (XL X) yX8_readCond (ws_ yX8_readCond cX8_readCond 1 (some .boolean)) (2 * d + 20) (60 * d + 400) (XG X) (XD X) [.ref (gadr (XG X) (5, 0, 0))] M (foI r.1) r.2) (kn9 : Mem → Option (Int32 × Mem)) (hk9 : ∀ (M : Mem), J X (ZN X foI) (kn9 M) 9 [(0, .ref (gadr (XG X) (5, 0, 0)))] [] M 0 0) (M : Mem) : J X (ZN X foI) (GX8_readCondR_9 fu (XD X) rec kn9 M) 9 [(0, .ref (gadr (XG X) (5, 0, 0)))] [] M 0 0 := by
  unfold GX8_readCondR_9
  refine j_aload_n hC 0 dX8_readCond_9 rfl ?_
  refine j_ldcS (tx := "or") (i := 26) hC (by decide) dX8_readCond_10 ?_
  refine j_callV (nA := 1) (rest := []) hC [.ref (gadr (XG X) (6, 0, 26))] rfl (fun r hr => mX8_passes (XL X) (XG X) hG fu (XD X) 26 (by decide) M r hr) q1704 q1706 qs67 q136 q1707 (dmMo hG rfl) rfl rfl (by decide +kernel) (Nat.ble_eq_true_of_le (by omega)) (Nat.ble_eq_true_of_le (by omega)) rfl rfl rfl rfl dX8_readCond_12 (fun v12 => [.int v12]) (fun _ => rfl) (fun v12 M12 => ?_)
  refine j_if_eq (tgt := 37) hC dX8_readCond_15 (by decide) (fun h15 => ?_) (fun h15 => ?_)
  · refine j_iconst (v := 1) hC dX8_readCond_37 (by decide) ?_
    exact j_zret hC (by decide) dX8_readCond_38
  · refine j_aload_n hC 0 dX8_readCond_18 rfl ?_
    refine j_callV (nA := 0) (rest := []) hC [] rfl (fun r hr => hrec1 M12 r hr) q1712 q1714 qs69 q136 q1715 (dmMo hG rfl) rfl rfl (by decide +kernel) (Nat.ble_eq_true_of_le (by omega)) (Nat.ble_eq_true_of_le (by omega)) rfl rfl rfl rfl dX8_readCond_19 (fun v19 => [.int v19]) (fun _ => rfl) (fun v19 M19 => ?_)
    refine j_if_ne (tgt := 27) hC dX8_readCond_22 (by decide) (fun h22 => ?_) (fun h22 => ?_)
    · refine j_iconst (v := 0) hC dX8_readCond_25 (by decide) ?_
      exact j_zret hC (by decide) dX8_readCond_26
    · refine j_aload_n hC 0 dX8_readCond_27 rfl ?_
      refine j_bipush (v := 14) hC dX8_readCond_28 (by decide) ?_
      refine j_iconst (v := 0) hC dX8_readCond_30 (by decide) ?_
      refine j_callV (nA := 2) (rest := []) hC [.int 14, .int 0] rfl (fun r hr => mX8_emits (XL X) (XG X) hG fu (XD X) M19 14 0 r hr) q1725 q1727 qs72 q136 q1728 (dmMo hG rfl) rfl rfl (by decide +kernel) (Nat.ble_eq_true_of_le (by omega)) (Nat.ble_eq_true_of_le (by omega)) rfl rfl rfl rfl dX8_readCond_31 (fun _ => []) (fun _ => rfl) (fun v31 M31 => ?_)
      refine j_goto (tgt := 9) hC dX8_readCond_34 (by decide) ?_
      exact j_sub [0] rfl (hk9 M31)
set_option linter.unusedVariables false in
set_option maxRecDepth 100000 in
theorem wX8_readCondR_9 {X : JX} {d : Nat} (hC : JC X cX8_readCond RX8 (some .boolean) (2 * (d + 1) + 20) (60 * (d + 1) + 400) 0 0) (hG : dmI dmM (XG X)) (hnl : nLof X = 1) (fu : Nat) (rec : Nat → Mem → Option (Int32 × Mem)) (hrec0 : ∀ (M : Mem) (r : Int32 × Mem), rec 0 M = some r → CN (XL X) yX8_readAtom (ws_ yX8_readAtom cX8_readAtom 2 (some .boolean)) (2 * d + 20) (60 * d + 400) (XG X) (XD X) [.ref (gadr (XG X) (5, 0, 0))] M (foI r.1) r.2) (hrec1 : ∀ (M : Mem) (r : Int32 × Mem), rec 1 M = some r → CN (XL X) yX8_readAllOf (ws_ yX8_readAllOf cX8_readAllOf 1 (some .boolean)) (2 * d + 20) (60 * d + 400) (XG X) (XD X) [.ref (gadr (XG X) (5, 0, 0))] M (foI r.1) r.2) (hrec2 : ∀ (M : Mem) (r : Int32 × Mem), rec 2 M = some r → CN (XL X) yX8_readCond (ws_ yX8_readCond cX8_readCond 1 (some .boolean)) (2 * d + 20) (60 * d + 400) (XG X) (XD X) [.ref (gadr (XG X) (5, 0, 0))] M (foI r.1) r.2) (M : Mem) : J X (ZN X foI) (FX8_readCondR_9 fu (XD X) rec M) 9 [(0, .ref (gadr (XG X) (5, 0, 0)))] [] M 0 0 := by
  exact j_lp (lvf := fun z => [(0, .ref (gadr (XG X) (5, 0, 0)))]) (Mf := fun z => z) (fun kn hk z => wgX8_readCondR_9 hC hG hnl fu rec hrec0 hrec1 hrec2 kn (fun M => hk M) z) fu M
set_option linter.unusedVariables false in
set_option maxRecDepth 100000 in
theorem wX8_readCondR {X : JX} {d : Nat} (hC : JC X cX8_readCond RX8 (some .boolean) (2 * (d + 1) + 20) (60 * (d + 1) + 400) 0 0) (hG : dmI dmM (XG X)) (hnl : nLof X = 1) (fu : Nat) (rec : Nat → Mem → Option (Int32 × Mem)) (hrec0 : ∀ (M : Mem) (r : Int32 × Mem), rec 0 M = some r → CN (XL X) yX8_readAtom (ws_ yX8_readAtom cX8_readAtom 2 (some .boolean)) (2 * d + 20) (60 * d + 400) (XG X) (XD X) [.ref (gadr (XG X) (5, 0, 0))] M (foI r.1) r.2) (hrec1 : ∀ (M : Mem) (r : Int32 × Mem), rec 1 M = some r → CN (XL X) yX8_readAllOf (ws_ yX8_readAllOf cX8_readAllOf 1 (some .boolean)) (2 * d + 20) (60 * d + 400) (XG X) (XD X) [.ref (gadr (XG X) (5, 0, 0))] M (foI r.1) r.2) (hrec2 : ∀ (M : Mem) (r : Int32 × Mem), rec 2 M = some r → CN (XL X) yX8_readCond (ws_ yX8_readCond cX8_readCond 1 (some .boolean)) (2 * d + 20) (60 * d + 400) (XG X) (XD X) [.ref (gadr (XG X) (5, 0, 0))] M (foI r.1) r.2) (M : Mem) : J X (ZN X foI) (FX8_readCondR fu (XD X) rec M) 0 [(0, .ref (gadr (XG X) (5, 0, 0)))] [] M 0 0 := by
  unfold FX8_readCondR
  refine j_aload_n hC 0 dX8_readCond_0 rfl ?_
  refine j_callV (nA := 0) (rest := []) hC [] rfl (fun r hr => hrec1 M r hr) q1712 q1714 qs69 q136 q1715 (dmMo hG rfl) rfl rfl (by decide +kernel) (Nat.ble_eq_true_of_le (by omega)) (Nat.ble_eq_true_of_le (by omega)) rfl rfl rfl rfl dX8_readCond_1 (fun v1 => [.int v1]) (fun _ => rfl) (fun v1 M1 => ?_)
  refine j_if_ne (tgt := 9) hC dX8_readCond_4 (by decide) (fun h4 => ?_) (fun h4 => ?_)
  · refine j_iconst (v := 0) hC dX8_readCond_7 (by decide) ?_
    exact j_zret hC (by decide) dX8_readCond_8
  · exact j_sub [0] rfl (wX8_readCondR_9 hC hG hnl fu rec hrec0 hrec1 hrec2 M1)
set_option linter.unusedVariables false in
set_option maxRecDepth 100000 in
theorem wX8_throwsIf_9 {X : JX} (hC : JC X cX8_throwsIf RX8 (some .boolean) 1 12 0 0) (hG : dmI dmM (XG X)) (hnl : nLof X = 3) (fu : Nat) (M : Mem) (x1 : Int32) : J X (ZN X foI) (FX8_throwsIf_9 fu (XD X) M x1) 9 [(1, .int x1)] [] M 0 0 := by
  unfold FX8_throwsIf_9
  refine j_iload_n hC 0 dX8_throwsIf_9 rfl ?_
  exact j_zret hC rfl dX8_throwsIf_10
set_option linter.unusedVariables false in
set_option maxRecDepth 100000 in
theorem wX8_throwsIf {X : JX} (hC : JC X cX8_throwsIf RX8 (some .boolean) 1 12 0 0) (hG : dmI dmM (XG X)) (hnl : nLof X = 3) (fu : Nat) (M : Mem) (x1 x2 : Int32) : J X (ZN X foI) (FX8_throwsIf fu (XD X) M x1 x2) 0 [(0, .ref (gadr (XG X) (5, 0, 0))), (1, .int x1), (2, .int x2)] [] M 0 0 := by
  unfold FX8_throwsIf
  refine j_iload_n hC 1 dX8_throwsIf_0 rfl ?_
  refine j_if_eq (tgt := 9) hC dX8_throwsIf_1 (by decide) (fun h1 => ?_) (fun h1 => ?_)
  · exact j_sub [1] rfl (wX8_throwsIf_9 hC hG hnl fu M x1)
  · refine j_aload_n hC 0 dX8_throwsIf_4 rfl ?_
    refine j_iload_n hC 2 dX8_throwsIf_5 rfl ?_
    refine j_put (fk := 0) (ty := .int) hC (dmMo hG rfl) rfl rfl in_X8 rfl rfl q1464 tyX8 tyX8_ok nmX8 rfl rfl (by decide +kernel) rfl rfl dX8_throwsIf_6 ?_
    refine j_lt (fun M6 => ?_)
    exact j_sub [1] rfl (wX8_throwsIf_9 hC hG hnl fu M6 x1)
set_option linter.unusedVariables false in
set_option maxRecDepth 100000 in
theorem mX8_throwsIf (l : Launch) (Γ : xG) (hG : dmI dmM Γ) (fu : Nat) (D : List LDen) (M : Mem) (x1 x2 : Int32) (r : Int32 × Mem) (hr : FX8_throwsIf fu D M x1 x2 = some r) : CN l yX8_throwsIf (ws_ yX8_throwsIf cX8_throwsIf 3 (some .boolean)) 1 12 Γ D [.ref (gadr Γ (5, 0, 0)), .int x1, .int x2] M (foI r.1) r.2 := by
  refine CN.of (own := RX8) (lv0 := lv_args 0 [.ref (gadr Γ (5, 0, 0)), .int x1, .int x2]) (by decide +kernel) rfl (Nat.le_of_ble_eq_true rfl) rfl (fun X e1 e2 e3 e4 hC => ?_) r hr
  subst e1
  subst e2
  exact wX8_throwsIf hC hG e4 fu M x1 x2
set_option linter.unusedVariables false in
set_option maxRecDepth 100000 in
theorem wgX8_readAllOfR_9 {X : JX} {d : Nat} (hC : JC X cX8_readAllOf RX8 (some .boolean) (2 * (d + 1) + 20) (60 * (d + 1) + 400) 0 0) (hG : dmI dmM (XG X)) (hnl : nLof X = 1) (fu : Nat) (rec : Nat → Mem → Option (Int32 × Mem)) (hrec0 : ∀ (M : Mem) (r : Int32 × Mem), rec 0 M = some r → CN (XL X) yX8_readAtom (ws_ yX8_readAtom cX8_readAtom 2 (some .boolean)) (2 * d + 20) (60 * d + 400) (XG X) (XD X) [.ref (gadr (XG X) (5, 0, 0))] M (foI r.1) r.2) (hrec1 : ∀ (M : Mem) (r : Int32 × Mem), rec 1 M = some r → CN (XL X) yX8_readAllOf (ws_ yX8_readAllOf cX8_readAllOf 1 (some .boolean)) (2 * d + 20) (60 * d + 400) (XG X) (XD X) [.ref (gadr (XG X) (5, 0, 0))] M (foI r.1) r.2) (hrec2 : ∀ (M : Mem) (r : Int32 × Mem), rec 2 M = some r → CN (XL X) yX8_readCond (ws_ yX8_readCond cX8_readCond 1 (some .boolean)) (2 * d + 20) (60 * d + 400) (XG X) (XD X) [.ref (gadr (XG X) (5, 0, 0))] M (foI r.1) r.2) (kn9 : Mem → Option (Int32 × Mem)) (hk9 : ∀ (M : Mem), J X (ZN X foI) (kn9 M) 9 [(0, .ref (gadr (XG X) (5, 0, 0)))] [] M 0 0) (M : Mem) : J X (ZN X foI) (GX8_readAllOfR_9 fu (XD X) rec kn9 M) 9 [(0, .ref (gadr (XG X) (5, 0, 0)))] [] M 0 0 := by
  unfold GX8_readAllOfR_9
  refine j_aload_n hC 0 dX8_readAllOf_9 rfl ?_
  refine j_ldcS (tx := "and") (i := 25) hC (by decide) dX8_readAllOf_10 ?_
  refine j_callV (nA := 1) (rest := []) hC [.ref (gadr (XG X) (6, 0, 25))] rfl (fun r hr => mX8_passes (XL X) (XG X) hG fu (XD X) 25 (by decide) M r hr) q1704 q1706 qs67 q136 q1707 (dmMo hG rfl) rfl rfl (by decide +kernel) (Nat.ble_eq_true_of_le (by omega)) (Nat.ble_eq_true_of_le (by omega)) rfl rfl rfl rfl dX8_readAllOf_12 (fun v12 => [.int v12]) (fun _ => rfl) (fun v12 M12 => ?_)
  refine j_if_eq (tgt := 37) hC dX8_readAllOf_15 (by decide) (fun h15 => ?_) (fun h15 => ?_)
  · refine j_iconst (v := 1) hC dX8_readAllOf_37 (by decide) ?_
    exact j_zret hC (by decide) dX8_readAllOf_38
  · refine j_aload_n hC 0 dX8_readAllOf_18 rfl ?_
    refine j_callV (nA := 0) (rest := []) hC [] rfl (fun r hr => hrec0 M12 r hr) q1716 q1718 qs70 q136 q1719 (dmMo hG rfl) rfl rfl (by decide +kernel) (Nat.ble_eq_true_of_le (by omega)) (Nat.ble_eq_true_of_le (by omega)) rfl rfl rfl rfl dX8_readAllOf_19 (fun v19 => [.int v19]) (fun _ => rfl) (fun v19 M19 => ?_)
    refine j_if_ne (tgt := 27) hC dX8_readAllOf_22 (by decide) (fun h22 => ?_) (fun h22 => ?_)
    · refine j_iconst (v := 0) hC dX8_readAllOf_25 (by decide) ?_
      exact j_zret hC (by decide) dX8_readAllOf_26
    · refine j_aload_n hC 0 dX8_readAllOf_27 rfl ?_
      refine j_bipush (v := 13) hC dX8_readAllOf_28 (by decide) ?_
      refine j_iconst (v := 0) hC dX8_readAllOf_30 (by decide) ?_
      refine j_callV (nA := 2) (rest := []) hC [.int 13, .int 0] rfl (fun r hr => mX8_emits (XL X) (XG X) hG fu (XD X) M19 13 0 r hr) q1725 q1727 qs72 q136 q1728 (dmMo hG rfl) rfl rfl (by decide +kernel) (Nat.ble_eq_true_of_le (by omega)) (Nat.ble_eq_true_of_le (by omega)) rfl rfl rfl rfl dX8_readAllOf_31 (fun _ => []) (fun _ => rfl) (fun v31 M31 => ?_)
      refine j_goto (tgt := 9) hC dX8_readAllOf_34 (by decide) ?_
      exact j_sub [0] rfl (hk9 M31)
set_option linter.unusedVariables false in
set_option maxRecDepth 100000 in
theorem wX8_readAllOfR_9 {X : JX} {d : Nat} (hC : JC X cX8_readAllOf RX8 (some .boolean) (2 * (d + 1) + 20) (60 * (d + 1) + 400) 0 0) (hG : dmI dmM (XG X)) (hnl : nLof X = 1) (fu : Nat) (rec : Nat → Mem → Option (Int32 × Mem)) (hrec0 : ∀ (M : Mem) (r : Int32 × Mem), rec 0 M = some r → CN (XL X) yX8_readAtom (ws_ yX8_readAtom cX8_readAtom 2 (some .boolean)) (2 * d + 20) (60 * d + 400) (XG X) (XD X) [.ref (gadr (XG X) (5, 0, 0))] M (foI r.1) r.2) (hrec1 : ∀ (M : Mem) (r : Int32 × Mem), rec 1 M = some r → CN (XL X) yX8_readAllOf (ws_ yX8_readAllOf cX8_readAllOf 1 (some .boolean)) (2 * d + 20) (60 * d + 400) (XG X) (XD X) [.ref (gadr (XG X) (5, 0, 0))] M (foI r.1) r.2) (hrec2 : ∀ (M : Mem) (r : Int32 × Mem), rec 2 M = some r → CN (XL X) yX8_readCond (ws_ yX8_readCond cX8_readCond 1 (some .boolean)) (2 * d + 20) (60 * d + 400) (XG X) (XD X) [.ref (gadr (XG X) (5, 0, 0))] M (foI r.1) r.2) (M : Mem) : J X (ZN X foI) (FX8_readAllOfR_9 fu (XD X) rec M) 9 [(0, .ref (gadr (XG X) (5, 0, 0)))] [] M 0 0 := by
  exact j_lp (lvf := fun z => [(0, .ref (gadr (XG X) (5, 0, 0)))]) (Mf := fun z => z) (fun kn hk z => wgX8_readAllOfR_9 hC hG hnl fu rec hrec0 hrec1 hrec2 kn (fun M => hk M) z) fu M
set_option linter.unusedVariables false in
set_option maxRecDepth 100000 in
theorem wX8_readAllOfR {X : JX} {d : Nat} (hC : JC X cX8_readAllOf RX8 (some .boolean) (2 * (d + 1) + 20) (60 * (d + 1) + 400) 0 0) (hG : dmI dmM (XG X)) (hnl : nLof X = 1) (fu : Nat) (rec : Nat → Mem → Option (Int32 × Mem)) (hrec0 : ∀ (M : Mem) (r : Int32 × Mem), rec 0 M = some r → CN (XL X) yX8_readAtom (ws_ yX8_readAtom cX8_readAtom 2 (some .boolean)) (2 * d + 20) (60 * d + 400) (XG X) (XD X) [.ref (gadr (XG X) (5, 0, 0))] M (foI r.1) r.2) (hrec1 : ∀ (M : Mem) (r : Int32 × Mem), rec 1 M = some r → CN (XL X) yX8_readAllOf (ws_ yX8_readAllOf cX8_readAllOf 1 (some .boolean)) (2 * d + 20) (60 * d + 400) (XG X) (XD X) [.ref (gadr (XG X) (5, 0, 0))] M (foI r.1) r.2) (hrec2 : ∀ (M : Mem) (r : Int32 × Mem), rec 2 M = some r → CN (XL X) yX8_readCond (ws_ yX8_readCond cX8_readCond 1 (some .boolean)) (2 * d + 20) (60 * d + 400) (XG X) (XD X) [.ref (gadr (XG X) (5, 0, 0))] M (foI r.1) r.2) (M : Mem) : J X (ZN X foI) (FX8_readAllOfR fu (XD X) rec M) 0 [(0, .ref (gadr (XG X) (5, 0, 0)))] [] M 0 0 := by
  unfold FX8_readAllOfR
  refine j_aload_n hC 0 dX8_readAllOf_0 rfl ?_
  refine j_callV (nA := 0) (rest := []) hC [] rfl (fun r hr => hrec0 M r hr) q1716 q1718 qs70 q136 q1719 (dmMo hG rfl) rfl rfl (by decide +kernel) (Nat.ble_eq_true_of_le (by omega)) (Nat.ble_eq_true_of_le (by omega)) rfl rfl rfl rfl dX8_readAllOf_1 (fun v1 => [.int v1]) (fun _ => rfl) (fun v1 M1 => ?_)
  refine j_if_ne (tgt := 9) hC dX8_readAllOf_4 (by decide) (fun h4 => ?_) (fun h4 => ?_)
  · refine j_iconst (v := 0) hC dX8_readAllOf_7 (by decide) ?_
    exact j_zret hC (by decide) dX8_readAllOf_8
  · exact j_sub [0] rfl (wX8_readAllOfR_9 hC hG hnl fu rec hrec0 hrec1 hrec2 M1)
set_option linter.unusedVariables false in
set_option maxRecDepth 100000 in
theorem wX8_sign {X : JX} (hC : JC X cX8_sign RX8 (some .boolean) 3 54 0 0) (hG : dmI dmM (XG X)) (hnl : nLof X = 2) (fu : Nat) (M : Mem) (x1 : Int32) : J X (ZN X foI) (FX8_sign fu (XD X) M x1) 0 [(0, .ref (gadr (XG X) (5, 0, 0))), (1, .int x1)] [] M 0 0 := by
  unfold FX8_sign
  refine j_aload_n hC 0 dX8_sign_0 rfl ?_
  refine j_callV (nA := 0) (rest := []) hC [] rfl (fun r hr => mX8_blanks (XL X) (XG X) hG fu (XD X) M r hr) q1591 q1593 qs47 q136 q1594 (dmMo hG rfl) rfl rfl (by decide +kernel) rfl rfl rfl rfl rfl rfl dX8_sign_1 (fun _ => []) (fun _ => rfl) (fun v1 M1 => ?_)
  refine j_aload_n hC 0 dX8_sign_4 rfl ?_
  refine j_iload_n hC 1 dX8_sign_5 rfl ?_
  refine j_iload_n hC 1 dX8_sign_6 rfl ?_
  refine j_callV (nA := 2) (rest := []) hC [.int x1, .int x1] rfl (fun r hr => mX8_isAt (XL X) (XG X) hG fu (XD X) M1 x1 x1 r hr) q1595 q1597 qs48 q136 q1598 (dmMo hG rfl) rfl rfl (by decide +kernel) rfl rfl rfl rfl rfl rfl dX8_sign_7 (fun v7 => [.int v7]) (fun _ => rfl) (fun v7 M7 => ?_)
  refine j_if_ne (tgt := 15) hC dX8_sign_10 (by decide) (fun h10 => ?_) (fun h10 => ?_)
  · refine j_iconst (v := 0) hC dX8_sign_13 (by decide) ?_
    exact j_zret hC (by decide) dX8_sign_14
  · refine j_aload_n hC 0 dX8_sign_15 rfl ?_
    refine j_dup hC dX8_sign_16 rfl ?_
    refine j_getI (fk := 10) hC (dmMo hG rfl) rfl rfl in_X8 rfl rfl q1474 rfl dX8_sign_17 ?_
    refine j_iconst (v := 1) hC dX8_sign_20 (by decide) ?_
    refine j_iadd hC dX8_sign_21 ?_
    refine j_put (fk := 10) (ty := .int) hC (dmMo hG rfl) rfl rfl in_X8 rfl rfl q1474 tyX8 tyX8_ok nmX8 rfl rfl (by decide +kernel) rfl rfl dX8_sign_22 ?_
    refine j_lt (fun M22 => ?_)
    refine j_iconst (v := 1) hC dX8_sign_25 (by decide) ?_
    exact j_zret hC (by decide) dX8_sign_26
set_option linter.unusedVariables false in
set_option maxRecDepth 100000 in
theorem mX8_sign (l : Launch) (Γ : xG) (hG : dmI dmM Γ) (fu : Nat) (D : List LDen) (M : Mem) (x1 : Int32) (r : Int32 × Mem) (hr : FX8_sign fu D M x1 = some r) : CN l yX8_sign (ws_ yX8_sign cX8_sign 2 (some .boolean)) 3 54 Γ D [.ref (gadr Γ (5, 0, 0)), .int x1] M (foI r.1) r.2 := by
  refine CN.of (own := RX8) (lv0 := lv_args 0 [.ref (gadr Γ (5, 0, 0)), .int x1]) (by decide +kernel) rfl (Nat.le_of_ble_eq_true rfl) rfl (fun X e1 e2 e3 e4 hC => ?_) r hr
  subst e1
  subst e2
  exact wX8_sign hC hG e4 fu M x1
set_option linter.unusedVariables false in
set_option maxRecDepth 100000 in
theorem wX8_readTag_64 {X : JX} (hC : JC X cX8_readTag RX8 (some .boolean) 6 164 0 0) (hG : dmI dmM (XG X)) (hnl : nLof X = 2) (fu : Nat) (M : Mem) (t0 : Int32) : J X (ZN X foI) (FX8_readTag_64 fu (XD X) M t0) 64 [] [.int t0] M 0 0 := by
  unfold FX8_readTag_64
  exact j_zret hC rfl dX8_readTag_64
set_option linter.unusedVariables false in
set_option maxRecDepth 100000 in
theorem wX8_readTag_55 {X : JX} (hC : JC X cX8_readTag RX8 (some .boolean) 6 164 0 0) (hG : dmI dmM (XG X)) (hnl : nLof X = 2) (fu : Nat) (M : Mem) (x1 : Int32) : J X (ZN X foI) (FX8_readTag_55 fu (XD X) M x1) 55 [(1, .int x1)] [] M 0 0 := by
  unfold FX8_readTag_55
  refine j_iload_n hC 0 dX8_readTag_55 rfl ?_
  refine j_if_lt (tgt := 63) hC dX8_readTag_56 (by decide) (fun h56 => ?_) (fun h56 => ?_)
  · refine j_iconst (v := 0) hC dX8_readTag_63 (by decide) ?_
    exact j_sub [] rfl (wX8_readTag_64 hC hG hnl fu M 0)
  · refine j_iconst (v := 1) hC dX8_readTag_59 (by decide) ?_
    refine j_goto (tgt := 64) hC dX8_readTag_60 (by decide) ?_
    exact j_sub [] rfl (wX8_readTag_64 hC hG hnl fu M 1)
set_option linter.unusedVariables false in
set_option maxRecDepth 100000 in
theorem wX8_readTag_33 {X : JX} (hC : JC X cX8_readTag RX8 (some .boolean) 6 164 0 0) (hG : dmI dmM (XG X)) (hnl : nLof X = 2) (fu : Nat) (M : Mem) (t0 : Int32) : J X (ZN X foI) (FX8_readTag_33 fu (XD X) M t0) 33 [(0, .ref (gadr (XG X) (5, 0, 0)))] [.int t0] M 0 0 := by
  unfold FX8_readTag_33
  refine j_istore_n hC [(1, .int t0), (0, .ref (gadr (XG X) (5, 0, 0)))] hnl dX8_readTag_33 rfl rfl ?_
  refine j_iload_n hC 0 dX8_readTag_34 rfl ?_
  refine j_if_lt (tgt := 47) hC dX8_readTag_35 (by decide) (fun h35 => ?_) (fun h35 => ?_)
  · refine j_aload_n hC 1 dX8_readTag_47 rfl ?_
    refine j_aload_n hC 1 dX8_readTag_48 rfl ?_
    refine j_getI (fk := 12) hC (dmMo hG rfl) rfl rfl in_X8 rfl rfl q1476 rfl dX8_readTag_49 ?_
    refine j_put (fk := 10) (ty := .int) hC (dmMo hG rfl) rfl rfl in_X8 rfl rfl q1474 tyX8 tyX8_ok nmX8 rfl rfl (by decide +kernel) rfl rfl dX8_readTag_52 ?_
    refine j_lt (fun M52 => ?_)
    exact j_sub [0] rfl (wX8_readTag_55 hC hG hnl fu M52 t0)
  · refine j_aload_n hC 1 dX8_readTag_38 rfl ?_
    refine j_iload_n hC 0 dX8_readTag_39 rfl ?_
    refine j_iconst (v := 0) hC dX8_readTag_40 (by decide) ?_
    refine j_callV (nA := 2) (rest := []) hC [.int t0, .int 0] rfl (fun r hr => mX8_emits (XL X) (XG X) hG fu (XD X) M t0 0 r hr) q1725 q1727 qs72 q136 q1728 (dmMo hG rfl) rfl rfl (by decide +kernel) rfl rfl rfl rfl rfl rfl dX8_readTag_41 (fun _ => []) (fun _ => rfl) (fun v41 M41 => ?_)
    refine j_goto (tgt := 55) hC dX8_readTag_44 (by decide) ?_
    exact j_sub [0] rfl (wX8_readTag_55 hC hG hnl fu M41 t0)
set_option linter.unusedVariables false in
set_option maxRecDepth 100000 in
theorem wX8_readTag {X : JX} (hC : JC X cX8_readTag RX8 (some .boolean) 6 164 0 0) (hG : dmI dmM (XG X)) (hnl : nLof X = 2) (fu : Nat) (M : Mem) : J X (ZN X foI) (FX8_readTag fu (XD X) M) 0 [(0, .ref (gadr (XG X) (5, 0, 0)))] [] M 0 0 := by
  unfold FX8_readTag
  refine j_aload_n hC 0 dX8_readTag_0 rfl ?_
  refine j_callV (nA := 0) (rest := []) hC [] rfl (fun r hr => mX8_letters (XL X) (XG X) hG fu (XD X) M r hr) q1603 q1605 qs50 q136 q1606 (dmMo hG rfl) rfl rfl (by decide +kernel) rfl rfl rfl rfl rfl rfl dX8_readTag_1 (fun _ => []) (fun _ => rfl) (fun v1 M1 => ?_)
  refine j_aload_n hC 0 dX8_readTag_4 rfl ?_
  refine j_ldcS (tx := "high") (i := 6) hC (by decide) dX8_readTag_5 ?_
  refine j_callV (nA := 1) (rest := []) hC [.ref (gadr (XG X) (6, 0, 6))] rfl (fun r hr => mX8_isWord (XL X) (XG X) hG fu (XD X) 6 (by decide) M1 r hr) q1612 q1614 qs52 q136 q1615 (dmMo hG rfl) rfl rfl (by decide +kernel) rfl rfl rfl rfl rfl rfl dX8_readTag_7 (fun v7 => [.int v7]) (fun _ => rfl) (fun v7 M7 => ?_)
  refine j_if_eq (tgt := 18) hC dX8_readTag_10 (by decide) (fun h10 => ?_) (fun h10 => ?_)
  · refine j_aload_n hC 0 dX8_readTag_18 rfl ?_
    refine j_ldcS (tx := "over") (i := 7) hC (by decide) dX8_readTag_19 ?_
    refine j_callV (nA := 1) (rest := []) hC [.ref (gadr (XG X) (6, 0, 7))] rfl (fun r hr => mX8_isWord (XL X) (XG X) hG fu (XD X) 7 (by decide) M7 r hr) q1612 q1614 qs52 q136 q1615 (dmMo hG rfl) rfl rfl (by decide +kernel) rfl rfl rfl rfl rfl rfl dX8_readTag_21 (fun v21 => [.int v21]) (fun _ => rfl) (fun v21 M21 => ?_)
    refine j_if_eq (tgt := 32) hC dX8_readTag_24 (by decide) (fun h24 => ?_) (fun h24 => ?_)
    · refine j_iconst (v := (-1)) hC dX8_readTag_32 (by decide) ?_
      exact j_sub [0] rfl (wX8_readTag_33 hC hG hnl fu M21 (-1))
    · refine j_bipush (v := 7) hC dX8_readTag_27 (by decide) ?_
      refine j_goto (tgt := 33) hC dX8_readTag_29 (by decide) ?_
      exact j_sub [0] rfl (wX8_readTag_33 hC hG hnl fu M21 7)
  · refine j_bipush (v := 6) hC dX8_readTag_13 (by decide) ?_
    refine j_goto (tgt := 33) hC dX8_readTag_15 (by decide) ?_
    exact j_sub [0] rfl (wX8_readTag_33 hC hG hnl fu M7 6)
set_option linter.unusedVariables false in
set_option maxRecDepth 100000 in
theorem mX8_readTag (l : Launch) (Γ : xG) (hG : dmI dmM Γ) (fu : Nat) (D : List LDen) (M : Mem) (r : Int32 × Mem) (hr : FX8_readTag fu D M = some r) : CN l yX8_readTag (ws_ yX8_readTag cX8_readTag 2 (some .boolean)) 6 164 Γ D [.ref (gadr Γ (5, 0, 0))] M (foI r.1) r.2 := by
  refine CN.of (own := RX8) (lv0 := lv_args 0 [.ref (gadr Γ (5, 0, 0))]) (by decide +kernel) rfl (Nat.le_of_ble_eq_true rfl) rfl (fun X e1 e2 e3 e4 hC => ?_) r hr
  subst e1
  subst e2
  exact wX8_readTag hC hG e4 fu M
set_option linter.unusedVariables false in
set_option maxRecDepth 100000 in
theorem wX8_readPart_129 {X : JX} (hC : JC X cX8_readPart RX8 (some .boolean) 6 164 0 0) (hG : dmI dmM (XG X)) (hnl : nLof X = 2) (fu : Nat) (M : Mem) (t0 : Int32) : J X (ZN X foI) (FX8_readPart_129 fu (XD X) M t0) 129 [] [.int t0] M 0 0 := by
  unfold FX8_readPart_129
  exact j_zret hC rfl dX8_readPart_129
set_option linter.unusedVariables false in
set_option maxRecDepth 100000 in
theorem wX8_readPart_120 {X : JX} (hC : JC X cX8_readPart RX8 (some .boolean) 6 164 0 0) (hG : dmI dmM (XG X)) (hnl : nLof X = 2) (fu : Nat) (M : Mem) (x1 : Int32) : J X (ZN X foI) (FX8_readPart_120 fu (XD X) M x1) 120 [(1, .int x1)] [] M 0 0 := by
  unfold FX8_readPart_120
  refine j_iload_n hC 0 dX8_readPart_120 rfl ?_
  refine j_if_lt (tgt := 128) hC dX8_readPart_121 (by decide) (fun h121 => ?_) (fun h121 => ?_)
  · refine j_iconst (v := 0) hC dX8_readPart_128 (by decide) ?_
    exact j_sub [] rfl (wX8_readPart_129 hC hG hnl fu M 0)
  · refine j_iconst (v := 1) hC dX8_readPart_124 (by decide) ?_
    refine j_goto (tgt := 129) hC dX8_readPart_125 (by decide) ?_
    exact j_sub [] rfl (wX8_readPart_129 hC hG hnl fu M 1)
set_option linter.unusedVariables false in
set_option maxRecDepth 100000 in
theorem wX8_readPart_113 {X : JX} (hC : JC X cX8_readPart RX8 (some .boolean) 6 164 0 0) (hG : dmI dmM (XG X)) (hnl : nLof X = 2) (fu : Nat) (M : Mem) (t0 : Int32) : J X (ZN X foI) (FX8_readPart_113 fu (XD X) M t0) 113 [(0, .ref (gadr (XG X) (5, 0, 0)))] [.int t0] M 0 0 := by
  unfold FX8_readPart_113
  refine j_istore_n hC [(1, .int t0), (0, .ref (gadr (XG X) (5, 0, 0)))] hnl dX8_readPart_113 rfl rfl ?_
  refine j_aload_n hC 1 dX8_readPart_114 rfl ?_
  refine j_iload_n hC 0 dX8_readPart_115 rfl ?_
  refine j_iconst (v := 0) hC dX8_readPart_116 (by decide) ?_
  refine j_callV (nA := 2) (rest := []) hC [.int t0, .int 0] rfl (fun r hr => mX8_emits (XL X) (XG X) hG fu (XD X) M t0 0 r hr) q1725 q1727 qs72 q136 q1728 (dmMo hG rfl) rfl rfl (by decide +kernel) rfl rfl rfl rfl rfl rfl dX8_readPart_117 (fun _ => []) (fun _ => rfl) (fun v117 M117 => ?_)
  exact j_sub [0] rfl (wX8_readPart_120 hC hG hnl fu M117 t0)
set_option linter.unusedVariables false in
set_option maxRecDepth 100000 in
theorem wX8_readPart {X : JX} (hC : JC X cX8_readPart RX8 (some .boolean) 6 164 0 0) (hG : dmI dmM (XG X)) (hnl : nLof X = 2) (fu : Nat) (M : Mem) : J X (ZN X foI) (FX8_readPart fu (XD X) M) 0 [(0, .ref (gadr (XG X) (5, 0, 0)))] [] M 0 0 := by
  unfold FX8_readPart
  refine j_aload_n hC 0 dX8_readPart_0 rfl ?_
  refine j_callV (nA := 0) (rest := []) hC [] rfl (fun r hr => mX8_letters (XL X) (XG X) hG fu (XD X) M r hr) q1603 q1605 qs50 q136 q1606 (dmMo hG rfl) rfl rfl (by decide +kernel) rfl rfl rfl rfl rfl rfl dX8_readPart_1 (fun _ => []) (fun _ => rfl) (fun v1 M1 => ?_)
  refine j_aload_n hC 0 dX8_readPart_4 rfl ?_
  refine j_getI (fk := 10) hC (dmMo hG rfl) rfl rfl in_X8 rfl rfl q1474 rfl dX8_readPart_5 ?_
  refine j_aload_n hC 0 dX8_readPart_8 rfl ?_
  refine j_getI (fk := 12) hC (dmMo hG rfl) rfl rfl in_X8 rfl rfl q1476 rfl dX8_readPart_9 ?_
  refine j_icmp_ne (tgt := 34) hC dX8_readPart_12 (by decide) (fun h12 => ?_) (fun h12 => ?_)
  · refine j_aload_n hC 0 dX8_readPart_15 rfl ?_
    refine j_iconst (v := 0) hC dX8_readPart_16 (by decide) ?_
    refine j_sipush (v := 999) hC dX8_readPart_17 (by decide) ?_
    refine j_callV (nA := 2) (rest := []) hC [.int 0, .int 999] rfl (fun r hr => mX8_number (XL X) (XG X) hG fu (XD X) M1 0 999 r hr) q1627 q1629 qs55 q136 q1630 (dmMo hG rfl) rfl rfl (by decide +kernel) rfl rfl rfl rfl rfl rfl dX8_readPart_20 (fun v20 => [.int v20]) (fun _ => rfl) (fun v20 M20 => ?_)
    refine j_istore_n hC [(1, .int v20), (0, .ref (gadr (XG X) (5, 0, 0)))] hnl dX8_readPart_23 rfl rfl ?_
    refine j_aload_n hC 1 dX8_readPart_24 rfl ?_
    refine j_bipush (v := 8) hC dX8_readPart_25 (by decide) ?_
    refine j_iload_n hC 0 dX8_readPart_27 rfl ?_
    refine j_callV (nA := 2) (rest := []) hC [.int 8, .int v20] rfl (fun r hr => mX8_emits (XL X) (XG X) hG fu (XD X) M20 8 v20 r hr) q1725 q1727 qs72 q136 q1728 (dmMo hG rfl) rfl rfl (by decide +kernel) rfl rfl rfl rfl rfl rfl dX8_readPart_28 (fun _ => []) (fun _ => rfl) (fun v28 M28 => ?_)
    refine j_goto (tgt := 120) hC dX8_readPart_31 (by decide) ?_
    exact j_sub [0] rfl (wX8_readPart_120 hC hG hnl fu M28 v20)
  · refine j_aload_n hC 0 dX8_readPart_34 rfl ?_
    refine j_ldcS (tx := "bird") (i := 0) hC (by decide) dX8_readPart_35 ?_
    refine j_callV (nA := 1) (rest := []) hC [.ref (gadr (XG X) (6, 0, 0))] rfl (fun r hr => mX8_isWord (XL X) (XG X) hG fu (XD X) 0 (by decide) M1 r hr) q1612 q1614 qs52 q136 q1615 (dmMo hG rfl) rfl rfl (by decide +kernel) rfl rfl rfl rfl rfl rfl dX8_readPart_37 (fun v37 => [.int v37]) (fun _ => rfl) (fun v37 M37 => ?_)
    refine j_if_eq (tgt := 47) hC dX8_readPart_40 (by decide) (fun h40 => ?_) (fun h40 => ?_)
    · refine j_aload_n hC 0 dX8_readPart_47 rfl ?_
      refine j_ldcS (tx := "level") (i := 1) hC (by decide) dX8_readPart_48 ?_
      refine j_callV (nA := 1) (rest := []) hC [.ref (gadr (XG X) (6, 0, 1))] rfl (fun r hr => mX8_isWord (XL X) (XG X) hG fu (XD X) 1 (by decide) M37 r hr) q1612 q1614 qs52 q136 q1615 (dmMo hG rfl) rfl rfl (by decide +kernel) rfl rfl rfl rfl rfl rfl dX8_readPart_50 (fun v50 => [.int v50]) (fun _ => rfl) (fun v50 M50 => ?_)
      refine j_if_eq (tgt := 60) hC dX8_readPart_53 (by decide) (fun h53 => ?_) (fun h53 => ?_)
      · refine j_aload_n hC 0 dX8_readPart_60 rfl ?_
        refine j_ldcS (tx := "column") (i := 2) hC (by decide) dX8_readPart_61 ?_
        refine j_callV (nA := 1) (rest := []) hC [.ref (gadr (XG X) (6, 0, 2))] rfl (fun r hr => mX8_isWord (XL X) (XG X) hG fu (XD X) 2 (by decide) M50 r hr) q1612 q1614 qs52 q136 q1615 (dmMo hG rfl) rfl rfl (by decide +kernel) rfl rfl rfl rfl rfl rfl dX8_readPart_63 (fun v63 => [.int v63]) (fun _ => rfl) (fun v63 M63 => ?_)
        refine j_if_eq (tgt := 73) hC dX8_readPart_66 (by decide) (fun h66 => ?_) (fun h66 => ?_)
        · refine j_aload_n hC 0 dX8_readPart_73 rfl ?_
          refine j_ldcS (tx := "light") (i := 3) hC (by decide) dX8_readPart_74 ?_
          refine j_callV (nA := 1) (rest := []) hC [.ref (gadr (XG X) (6, 0, 3))] rfl (fun r hr => mX8_isWord (XL X) (XG X) hG fu (XD X) 3 (by decide) M63 r hr) q1612 q1614 qs52 q136 q1615 (dmMo hG rfl) rfl rfl (by decide +kernel) rfl rfl rfl rfl rfl rfl dX8_readPart_76 (fun v76 => [.int v76]) (fun _ => rfl) (fun v76 M76 => ?_)
          refine j_if_eq (tgt := 86) hC dX8_readPart_79 (by decide) (fun h79 => ?_) (fun h79 => ?_)
          · refine j_aload_n hC 0 dX8_readPart_86 rfl ?_
            refine j_ldcS (tx := "hour") (i := 4) hC (by decide) dX8_readPart_87 ?_
            refine j_callV (nA := 1) (rest := []) hC [.ref (gadr (XG X) (6, 0, 4))] rfl (fun r hr => mX8_isWord (XL X) (XG X) hG fu (XD X) 4 (by decide) M76 r hr) q1612 q1614 qs52 q136 q1615 (dmMo hG rfl) rfl rfl (by decide +kernel) rfl rfl rfl rfl rfl rfl dX8_readPart_89 (fun v89 => [.int v89]) (fun _ => rfl) (fun v89 M89 => ?_)
            refine j_if_eq (tgt := 99) hC dX8_readPart_92 (by decide) (fun h92 => ?_) (fun h92 => ?_)
            · refine j_aload_n hC 0 dX8_readPart_99 rfl ?_
              refine j_ldcS (tx := "breath") (i := 5) hC (by decide) dX8_readPart_100 ?_
              refine j_callV (nA := 1) (rest := []) hC [.ref (gadr (XG X) (6, 0, 5))] rfl (fun r hr => mX8_isWord (XL X) (XG X) hG fu (XD X) 5 (by decide) M89 r hr) q1612 q1614 qs52 q136 q1615 (dmMo hG rfl) rfl rfl (by decide +kernel) rfl rfl rfl rfl rfl rfl dX8_readPart_102 (fun v102 => [.int v102]) (fun _ => rfl) (fun v102 M102 => ?_)
              refine j_if_eq (tgt := 112) hC dX8_readPart_105 (by decide) (fun h105 => ?_) (fun h105 => ?_)
              · refine j_iconst (v := (-1)) hC dX8_readPart_112 (by decide) ?_
                exact j_sub [0] rfl (wX8_readPart_113 hC hG hnl fu M102 (-1))
              · refine j_iconst (v := 5) hC dX8_readPart_108 (by decide) ?_
                refine j_goto (tgt := 113) hC dX8_readPart_109 (by decide) ?_
                exact j_sub [0] rfl (wX8_readPart_113 hC hG hnl fu M102 5)
            · refine j_iconst (v := 4) hC dX8_readPart_95 (by decide) ?_
              refine j_goto (tgt := 113) hC dX8_readPart_96 (by decide) ?_
              exact j_sub [0] rfl (wX8_readPart_113 hC hG hnl fu M89 4)
          · refine j_iconst (v := 3) hC dX8_readPart_82 (by decide) ?_
            refine j_goto (tgt := 113) hC dX8_readPart_83 (by decide) ?_
            exact j_sub [0] rfl (wX8_readPart_113 hC hG hnl fu M76 3)
        · refine j_iconst (v := 2) hC dX8_readPart_69 (by decide) ?_
          refine j_goto (tgt := 113) hC dX8_readPart_70 (by decide) ?_
          exact j_sub [0] rfl (wX8_readPart_113 hC hG hnl fu M63 2)
      · refine j_iconst (v := 1) hC dX8_readPart_56 (by decide) ?_
        refine j_goto (tgt := 113) hC dX8_readPart_57 (by decide) ?_
        exact j_sub [0] rfl (wX8_readPart_113 hC hG hnl fu M50 1)
    · refine j_iconst (v := 0) hC dX8_readPart_43 (by decide) ?_
      refine j_goto (tgt := 113) hC dX8_readPart_44 (by decide) ?_
      exact j_sub [0] rfl (wX8_readPart_113 hC hG hnl fu M37 0)
set_option linter.unusedVariables false in
set_option maxRecDepth 100000 in
theorem mX8_readPart (l : Launch) (Γ : xG) (hG : dmI dmM Γ) (fu : Nat) (D : List LDen) (M : Mem) (r : Int32 × Mem) (hr : FX8_readPart fu D M = some r) : CN l yX8_readPart (ws_ yX8_readPart cX8_readPart 2 (some .boolean)) 6 164 Γ D [.ref (gadr Γ (5, 0, 0))] M (foI r.1) r.2 := by
  refine CN.of (own := RX8) (lv0 := lv_args 0 [.ref (gadr Γ (5, 0, 0))]) (by decide +kernel) rfl (Nat.le_of_ble_eq_true rfl) rfl (fun X e1 e2 e3 e4 hC => ?_) r hr
  subst e1
  subst e2
  exact wX8_readPart hC hG e4 fu M
set_option linter.unusedVariables false in
set_option maxRecDepth 100000 in
theorem wgX8_readSum_9 {X : JX} (hC : JC X cX8_readSum RX8 (some .boolean) 7 185 0 0) (hG : dmI dmM (XG X)) (hnl : nLof X = 1) (fu : Nat) (kn9 : Mem → Option (Int32 × Mem)) (hk9 : ∀ (M : Mem), J X (ZN X foI) (kn9 M) 9 [(0, .ref (gadr (XG X) (5, 0, 0)))] [] M 0 0) (M : Mem) : J X (ZN X foI) (GX8_readSum_9 fu (XD X) kn9 M) 9 [(0, .ref (gadr (XG X) (5, 0, 0)))] [] M 0 0 := by
  unfold GX8_readSum_9
  refine j_aload_n hC 0 dX8_readSum_9 rfl ?_
  refine j_bipush (v := 43) hC dX8_readSum_10 (by decide) ?_
  refine j_callV (nA := 1) (rest := []) hC [.int 43] rfl (fun r hr => mX8_sign (XL X) (XG X) hG fu (XD X) M 43 r hr) q1720 q1722 qs71 q136 q1723 (dmMo hG rfl) rfl rfl (by decide +kernel) rfl rfl rfl rfl rfl rfl dX8_readSum_12 (fun v12 => [.int v12]) (fun _ => rfl) (fun v12 M12 => ?_)
  refine j_if_eq (tgt := 37) hC dX8_readSum_15 (by decide) (fun h15 => ?_) (fun h15 => ?_)
  · refine j_iconst (v := 1) hC dX8_readSum_37 (by decide) ?_
    exact j_zret hC (by decide) dX8_readSum_38
  · refine j_aload_n hC 0 dX8_readSum_18 rfl ?_
    refine j_callV (nA := 0) (rest := []) hC [] rfl (fun r hr => mX8_readPart (XL X) (XG X) hG fu (XD X) M12 r hr) q1739 q1741 qs75 q136 q1742 (dmMo hG rfl) rfl rfl (by decide +kernel) rfl rfl rfl rfl rfl rfl dX8_readSum_19 (fun v19 => [.int v19]) (fun _ => rfl) (fun v19 M19 => ?_)
    refine j_if_ne (tgt := 27) hC dX8_readSum_22 (by decide) (fun h22 => ?_) (fun h22 => ?_)
    · refine j_iconst (v := 0) hC dX8_readSum_25 (by decide) ?_
      exact j_zret hC (by decide) dX8_readSum_26
    · refine j_aload_n hC 0 dX8_readSum_27 rfl ?_
      refine j_bipush (v := 9) hC dX8_readSum_28 (by decide) ?_
      refine j_iconst (v := 0) hC dX8_readSum_30 (by decide) ?_
      refine j_callV (nA := 2) (rest := []) hC [.int 9, .int 0] rfl (fun r hr => mX8_emits (XL X) (XG X) hG fu (XD X) M19 9 0 r hr) q1725 q1727 qs72 q136 q1728 (dmMo hG rfl) rfl rfl (by decide +kernel) rfl rfl rfl rfl rfl rfl dX8_readSum_31 (fun _ => []) (fun _ => rfl) (fun v31 M31 => ?_)
      refine j_goto (tgt := 9) hC dX8_readSum_34 (by decide) ?_
      exact j_sub [0] rfl (hk9 M31)
set_option linter.unusedVariables false in
set_option maxRecDepth 100000 in
theorem wX8_readSum_9 {X : JX} (hC : JC X cX8_readSum RX8 (some .boolean) 7 185 0 0) (hG : dmI dmM (XG X)) (hnl : nLof X = 1) (fu : Nat) (M : Mem) : J X (ZN X foI) (FX8_readSum_9 fu (XD X) M) 9 [(0, .ref (gadr (XG X) (5, 0, 0)))] [] M 0 0 := by
  exact j_lp (lvf := fun z => [(0, .ref (gadr (XG X) (5, 0, 0)))]) (Mf := fun z => z) (fun kn hk z => wgX8_readSum_9 hC hG hnl fu kn (fun M => hk M) z) fu M
set_option linter.unusedVariables false in
set_option maxRecDepth 100000 in
theorem wX8_readSum {X : JX} (hC : JC X cX8_readSum RX8 (some .boolean) 7 185 0 0) (hG : dmI dmM (XG X)) (hnl : nLof X = 1) (fu : Nat) (M : Mem) : J X (ZN X foI) (FX8_readSum fu (XD X) M) 0 [(0, .ref (gadr (XG X) (5, 0, 0)))] [] M 0 0 := by
  unfold FX8_readSum
  refine j_aload_n hC 0 dX8_readSum_0 rfl ?_
  refine j_callV (nA := 0) (rest := []) hC [] rfl (fun r hr => mX8_readPart (XL X) (XG X) hG fu (XD X) M r hr) q1739 q1741 qs75 q136 q1742 (dmMo hG rfl) rfl rfl (by decide +kernel) rfl rfl rfl rfl rfl rfl dX8_readSum_1 (fun v1 => [.int v1]) (fun _ => rfl) (fun v1 M1 => ?_)
  refine j_if_ne (tgt := 9) hC dX8_readSum_4 (by decide) (fun h4 => ?_) (fun h4 => ?_)
  · refine j_iconst (v := 0) hC dX8_readSum_7 (by decide) ?_
    exact j_zret hC (by decide) dX8_readSum_8
  · exact j_sub [0] rfl (wX8_readSum_9 hC hG hnl fu M1)
set_option linter.unusedVariables false in
set_option maxRecDepth 100000 in
theorem mX8_readSum (l : Launch) (Γ : xG) (hG : dmI dmM Γ) (fu : Nat) (D : List LDen) (M : Mem) (r : Int32 × Mem) (hr : FX8_readSum fu D M = some r) : CN l yX8_readSum (ws_ yX8_readSum cX8_readSum 1 (some .boolean)) 7 185 Γ D [.ref (gadr Γ (5, 0, 0))] M (foI r.1) r.2 := by
  refine CN.of (own := RX8) (lv0 := lv_args 0 [.ref (gadr Γ (5, 0, 0))]) (by decide +kernel) rfl (Nat.le_of_ble_eq_true rfl) rfl (fun X e1 e2 e3 e4 hC => ?_) r hr
  subst e1
  subst e2
  exact wX8_readSum hC hG e4 fu M
set_option linter.unusedVariables false in
set_option maxRecDepth 100000 in
theorem wX8_readAtomR_173 {X : JX} {d : Nat} (hC : JC X cX8_readAtom RX8 (some .boolean) (2 * (d + 1) + 20) (60 * (d + 1) + 400) 0 0) (hG : dmI dmM (XG X)) (hnl : nLof X = 2) (fu : Nat) (rec : Nat → Mem → Option (Int32 × Mem)) (hrec0 : ∀ (M : Mem) (r : Int32 × Mem), rec 0 M = some r → CN (XL X) yX8_readAtom (ws_ yX8_readAtom cX8_readAtom 2 (some .boolean)) (2 * d + 20) (60 * d + 400) (XG X) (XD X) [.ref (gadr (XG X) (5, 0, 0))] M (foI r.1) r.2) (hrec1 : ∀ (M : Mem) (r : Int32 × Mem), rec 1 M = some r → CN (XL X) yX8_readAllOf (ws_ yX8_readAllOf cX8_readAllOf 1 (some .boolean)) (2 * d + 20) (60 * d + 400) (XG X) (XD X) [.ref (gadr (XG X) (5, 0, 0))] M (foI r.1) r.2) (hrec2 : ∀ (M : Mem) (r : Int32 × Mem), rec 2 M = some r → CN (XL X) yX8_readCond (ws_ yX8_readCond cX8_readCond 1 (some .boolean)) (2 * d + 20) (60 * d + 400) (XG X) (XD X) [.ref (gadr (XG X) (5, 0, 0))] M (foI r.1) r.2) (M : Mem) (t0 : Int32) : J X (ZN X foI) (FX8_readAtomR_173 fu (XD X) rec M t0) 173 [] [.int t0, .ref (gadr (XG X) (5, 0, 0))] M 0 0 := by
  unfold FX8_readAtomR_173
  refine j_iconst (v := 0) hC dX8_readAtom_173 (by decide) ?_
  refine j_callV (nA := 2) (rest := []) hC [.int t0, .int 0] rfl (fun r hr => mX8_emits (XL X) (XG X) hG fu (XD X) M t0 0 r hr) q1725 q1727 qs72 q136 q1728 (dmMo hG rfl) rfl rfl (by decide +kernel) (Nat.ble_eq_true_of_le (by omega)) (Nat.ble_eq_true_of_le (by omega)) rfl rfl rfl rfl dX8_readAtom_174 (fun _ => []) (fun _ => rfl) (fun v174 M174 => ?_)
  refine j_iconst (v := 1) hC dX8_readAtom_177 (by decide) ?_
  exact j_zret hC (by decide) dX8_readAtom_178
set_option linter.unusedVariables false in
set_option maxRecDepth 100000 in
theorem wX8_readAtomR_159 {X : JX} {d : Nat} (hC : JC X cX8_readAtom RX8 (some .boolean) (2 * (d + 1) + 20) (60 * (d + 1) + 400) 0 0) (hG : dmI dmM (XG X)) (hnl : nLof X = 2) (fu : Nat) (rec : Nat → Mem → Option (Int32 × Mem)) (hrec0 : ∀ (M : Mem) (r : Int32 × Mem), rec 0 M = some r → CN (XL X) yX8_readAtom (ws_ yX8_readAtom cX8_readAtom 2 (some .boolean)) (2 * d + 20) (60 * d + 400) (XG X) (XD X) [.ref (gadr (XG X) (5, 0, 0))] M (foI r.1) r.2) (hrec1 : ∀ (M : Mem) (r : Int32 × Mem), rec 1 M = some r → CN (XL X) yX8_readAllOf (ws_ yX8_readAllOf cX8_readAllOf 1 (some .boolean)) (2 * d + 20) (60 * d + 400) (XG X) (XD X) [.ref (gadr (XG X) (5, 0, 0))] M (foI r.1) r.2) (hrec2 : ∀ (M : Mem) (r : Int32 × Mem), rec 2 M = some r → CN (XL X) yX8_readCond (ws_ yX8_readCond cX8_readCond 1 (some .boolean)) (2 * d + 20) (60 * d + 400) (XG X) (XD X) [.ref (gadr (XG X) (5, 0, 0))] M (foI r.1) r.2) (M : Mem) : J X (ZN X foI) (FX8_readAtomR_159 fu (XD X) rec M) 159 [] [] M 0 0 := by
  unfold FX8_readAtomR_159
  refine j_iconst (v := 0) hC dX8_readAtom_159 (by decide) ?_
  exact j_zret hC (by decide) dX8_readAtom_160
set_option linter.unusedVariables false in
set_option maxRecDepth 100000 in
theorem wX8_readAtomR_152 {X : JX} {d : Nat} (hC : JC X cX8_readAtom RX8 (some .boolean) (2 * (d + 1) + 20) (60 * (d + 1) + 400) 0 0) (hG : dmI dmM (XG X)) (hnl : nLof X = 2) (fu : Nat) (rec : Nat → Mem → Option (Int32 × Mem)) (hrec0 : ∀ (M : Mem) (r : Int32 × Mem), rec 0 M = some r → CN (XL X) yX8_readAtom (ws_ yX8_readAtom cX8_readAtom 2 (some .boolean)) (2 * d + 20) (60 * d + 400) (XG X) (XD X) [.ref (gadr (XG X) (5, 0, 0))] M (foI r.1) r.2) (hrec1 : ∀ (M : Mem) (r : Int32 × Mem), rec 1 M = some r → CN (XL X) yX8_readAllOf (ws_ yX8_readAllOf cX8_readAllOf 1 (some .boolean)) (2 * d + 20) (60 * d + 400) (XG X) (XD X) [.ref (gadr (XG X) (5, 0, 0))] M (foI r.1) r.2) (hrec2 : ∀ (M : Mem) (r : Int32 × Mem), rec 2 M = some r → CN (XL X) yX8_readCond (ws_ yX8_readCond cX8_readCond 1 (some .boolean)) (2 * d + 20) (60 * d + 400) (XG X) (XD X) [.ref (gadr (XG X) (5, 0, 0))] M (foI r.1) r.2) (M : Mem) (x1 : Int32) : J X (ZN X foI) (FX8_readAtomR_152 fu (XD X) rec M x1) 152 [(0, .ref (gadr (XG X) (5, 0, 0))), (1, .int x1)] [] M 0 0 := by
  unfold FX8_readAtomR_152
  refine j_aload_n hC 0 dX8_readAtom_152 rfl ?_
  refine j_callV (nA := 0) (rest := []) hC [] rfl (fun r hr => mX8_readSum (XL X) (XG X) hG fu (XD X) M r hr) q1735 q1737 qs74 q136 q1738 (dmMo hG rfl) rfl rfl (by decide +kernel) (Nat.ble_eq_true_of_le (by omega)) (Nat.ble_eq_true_of_le (by omega)) rfl rfl rfl rfl dX8_readAtom_153 (fun v153 => [.int v153]) (fun _ => rfl) (fun v153 M153 => ?_)
  refine j_if_ne (tgt := 161) hC dX8_readAtom_156 (by decide) (fun h156 => ?_) (fun h156 => ?_)
  · exact j_sub [] rfl (wX8_readAtomR_159 hC hG hnl fu rec hrec0 hrec1 hrec2 M153)
  · refine j_aload_n hC 0 dX8_readAtom_161 rfl ?_
    refine j_iload_n hC 1 dX8_readAtom_162 rfl ?_
    refine j_if_eq (tgt := 171) hC dX8_readAtom_163 (by decide) (fun h163 => ?_) (fun h163 => ?_)
    · refine j_bipush (v := 11) hC dX8_readAtom_171 (by decide) ?_
      exact j_sub [] rfl (wX8_readAtomR_173 hC hG hnl fu rec hrec0 hrec1 hrec2 M153 11)
    · refine j_bipush (v := 10) hC dX8_readAtom_166 (by decide) ?_
      refine j_goto (tgt := 173) hC dX8_readAtom_168 (by decide) ?_
      exact j_sub [] rfl (wX8_readAtomR_173 hC hG hnl fu rec hrec0 hrec1 hrec2 M153 10)
set_option linter.unusedVariables false in
set_option maxRecDepth 100000 in
theorem wX8_readAtomR {X : JX} {d : Nat} (hC : JC X cX8_readAtom RX8 (some .boolean) (2 * (d + 1) + 20) (60 * (d + 1) + 400) 0 0) (hG : dmI dmM (XG X)) (hnl : nLof X = 2) (fu : Nat) (rec : Nat → Mem → Option (Int32 × Mem)) (hrec0 : ∀ (M : Mem) (r : Int32 × Mem), rec 0 M = some r → CN (XL X) yX8_readAtom (ws_ yX8_readAtom cX8_readAtom 2 (some .boolean)) (2 * d + 20) (60 * d + 400) (XG X) (XD X) [.ref (gadr (XG X) (5, 0, 0))] M (foI r.1) r.2) (hrec1 : ∀ (M : Mem) (r : Int32 × Mem), rec 1 M = some r → CN (XL X) yX8_readAllOf (ws_ yX8_readAllOf cX8_readAllOf 1 (some .boolean)) (2 * d + 20) (60 * d + 400) (XG X) (XD X) [.ref (gadr (XG X) (5, 0, 0))] M (foI r.1) r.2) (hrec2 : ∀ (M : Mem) (r : Int32 × Mem), rec 2 M = some r → CN (XL X) yX8_readCond (ws_ yX8_readCond cX8_readCond 1 (some .boolean)) (2 * d + 20) (60 * d + 400) (XG X) (XD X) [.ref (gadr (XG X) (5, 0, 0))] M (foI r.1) r.2) (M : Mem) : J X (ZN X foI) (FX8_readAtomR fu (XD X) rec M) 0 [(0, .ref (gadr (XG X) (5, 0, 0)))] [] M 0 0 := by
  unfold FX8_readAtomR
  refine j_aload_n hC 0 dX8_readAtom_0 rfl ?_
  refine j_bipush (v := 40) hC dX8_readAtom_1 (by decide) ?_
  refine j_callV (nA := 1) (rest := []) hC [.int 40] rfl (fun r hr => mX8_sign (XL X) (XG X) hG fu (XD X) M 40 r hr) q1720 q1722 qs71 q136 q1723 (dmMo hG rfl) rfl rfl (by decide +kernel) (Nat.ble_eq_true_of_le (by omega)) (Nat.ble_eq_true_of_le (by omega)) rfl rfl rfl rfl dX8_readAtom_3 (fun v3 => [.int v3]) (fun _ => rfl) (fun v3 M3 => ?_)
  refine j_if_eq (tgt := 56) hC dX8_readAtom_6 (by decide) (fun h6 => ?_) (fun h6 => ?_)
  · refine j_aload_n hC 0 dX8_readAtom_56 rfl ?_
    refine j_ldcS (tx := "not") (i := 24) hC (by decide) dX8_readAtom_57 ?_
    refine j_callV (nA := 1) (rest := []) hC [.ref (gadr (XG X) (6, 0, 24))] rfl (fun r hr => mX8_passes (XL X) (XG X) hG fu (XD X) 24 (by decide) M3 r hr) q1704 q1706 qs67 q136 q1707 (dmMo hG rfl) rfl rfl (by decide +kernel) (Nat.ble_eq_true_of_le (by omega)) (Nat.ble_eq_true_of_le (by omega)) rfl rfl rfl rfl dX8_readAtom_59 (fun v59 => [.int v59]) (fun _ => rfl) (fun v59 M59 => ?_)
    refine j_if_eq (tgt := 114) hC dX8_readAtom_62 (by decide) (fun h62 => ?_) (fun h62 => ?_)
    · refine j_aload_n hC 0 dX8_readAtom_114 rfl ?_
      refine j_callV (nA := 0) (rest := []) hC [] rfl (fun r hr => mX8_readTag (XL X) (XG X) hG fu (XD X) M59 r hr) q1729 q1731 qs73 q136 q1732 (dmMo hG rfl) rfl rfl (by decide +kernel) (Nat.ble_eq_true_of_le (by omega)) (Nat.ble_eq_true_of_le (by omega)) rfl rfl rfl rfl dX8_readAtom_115 (fun v115 => [.int v115]) (fun _ => rfl) (fun v115 M115 => ?_)
      refine j_if_eq (tgt := 123) hC dX8_readAtom_118 (by decide) (fun h118 => ?_) (fun h118 => ?_)
      · refine j_aload_n hC 0 dX8_readAtom_123 rfl ?_
        refine j_callV (nA := 0) (rest := []) hC [] rfl (fun r hr => mX8_readSum (XL X) (XG X) hG fu (XD X) M115 r hr) q1735 q1737 qs74 q136 q1738 (dmMo hG rfl) rfl rfl (by decide +kernel) (Nat.ble_eq_true_of_le (by omega)) (Nat.ble_eq_true_of_le (by omega)) rfl rfl rfl rfl dX8_readAtom_124 (fun v124 => [.int v124]) (fun _ => rfl) (fun v124 M124 => ?_)
        refine j_if_ne (tgt := 132) hC dX8_readAtom_127 (by decide) (fun h127 => ?_) (fun h127 => ?_)
        · refine j_iconst (v := 0) hC dX8_readAtom_130 (by decide) ?_
          exact j_zret hC (by decide) dX8_readAtom_131
        · refine j_aload_n hC 0 dX8_readAtom_132 rfl ?_
          refine j_bipush (v := 60) hC dX8_readAtom_133 (by decide) ?_
          refine j_callV (nA := 1) (rest := []) hC [.int 60] rfl (fun r hr => mX8_sign (XL X) (XG X) hG fu (XD X) M124 60 r hr) q1720 q1722 qs71 q136 q1723 (dmMo hG rfl) rfl rfl (by decide +kernel) (Nat.ble_eq_true_of_le (by omega)) (Nat.ble_eq_true_of_le (by omega)) rfl rfl rfl rfl dX8_readAtom_135 (fun v135 => [.int v135]) (fun _ => rfl) (fun v135 M135 => ?_)
          refine j_istore_n hC [(1, .int v135), (0, .ref (gadr (XG X) (5, 0, 0)))] hnl dX8_readAtom_138 rfl rfl ?_
          refine j_iload_n hC 0 dX8_readAtom_139 rfl ?_
          refine j_if_ne (tgt := 152) hC dX8_readAtom_140 (by decide) (fun h140 => ?_) (fun h140 => ?_)
          · refine j_aload_n hC 1 dX8_readAtom_143 rfl ?_
            refine j_bipush (v := 62) hC dX8_readAtom_144 (by decide) ?_
            refine j_callV (nA := 1) (rest := []) hC [.int 62] rfl (fun r hr => mX8_sign (XL X) (XG X) hG fu (XD X) M135 62 r hr) q1720 q1722 qs71 q136 q1723 (dmMo hG rfl) rfl rfl (by decide +kernel) (Nat.ble_eq_true_of_le (by omega)) (Nat.ble_eq_true_of_le (by omega)) rfl rfl rfl rfl dX8_readAtom_146 (fun v146 => [.int v146]) (fun _ => rfl) (fun v146 M146 => ?_)
            refine j_if_eq (tgt := 159) hC dX8_readAtom_149 (by decide) (fun h149 => ?_) (fun h149 => ?_)
            · exact j_sub [] rfl (wX8_readAtomR_159 hC hG hnl fu rec hrec0 hrec1 hrec2 M146)
            · exact j_sub [1, 0] rfl (wX8_readAtomR_152 hC hG hnl fu rec hrec0 hrec1 hrec2 M146 v135)
          · exact j_sub [1, 0] rfl (wX8_readAtomR_152 hC hG hnl fu rec hrec0 hrec1 hrec2 M135 v135)
      · refine j_iconst (v := 1) hC dX8_readAtom_121 (by decide) ?_
        exact j_zret hC (by decide) dX8_readAtom_122
    · refine j_aload_n hC 0 dX8_readAtom_65 rfl ?_
      refine j_getI (fk := 13) hC (dmMo hG rfl) rfl rfl in_X8 rfl rfl q1477 rfl dX8_readAtom_66 ?_
      refine j_bipush (v := 6) hC dX8_readAtom_69 (by decide) ?_
      refine j_icmp_ne (tgt := 76) hC dX8_readAtom_71 (by decide) (fun h71 => ?_) (fun h71 => ?_)
      · refine j_iconst (v := 0) hC dX8_readAtom_74 (by decide) ?_
        exact j_zret hC (by decide) dX8_readAtom_75
      · refine j_aload_n hC 0 dX8_readAtom_76 rfl ?_
        refine j_dup hC dX8_readAtom_77 rfl ?_
        refine j_getI (fk := 13) hC (dmMo hG rfl) rfl rfl in_X8 rfl rfl q1477 rfl dX8_readAtom_78 ?_
        refine j_iconst (v := 1) hC dX8_readAtom_81 (by decide) ?_
        refine j_iadd hC dX8_readAtom_82 ?_
        refine j_put (fk := 13) (ty := .int) hC (dmMo hG rfl) rfl rfl in_X8 rfl rfl q1477 tyX8 tyX8_ok nmX8 rfl rfl (by decide +kernel) rfl rfl dX8_readAtom_83 ?_
        refine j_lt (fun M83 => ?_)
        refine j_aload_n hC 0 dX8_readAtom_86 rfl ?_
        refine j_callV (nA := 0) (rest := []) hC [] rfl (fun r hr => hrec0 M83 r hr) q1716 q1718 qs70 q136 q1719 (dmMo hG rfl) rfl rfl (by decide +kernel) (Nat.ble_eq_true_of_le (by omega)) (Nat.ble_eq_true_of_le (by omega)) rfl rfl rfl rfl dX8_readAtom_87 (fun v87 => [.int v87]) (fun _ => rfl) (fun v87 M87 => ?_)
        refine j_if_ne (tgt := 95) hC dX8_readAtom_90 (by decide) (fun h90 => ?_) (fun h90 => ?_)
        · refine j_iconst (v := 0) hC dX8_readAtom_93 (by decide) ?_
          exact j_zret hC (by decide) dX8_readAtom_94
        · refine j_aload_n hC 0 dX8_readAtom_95 rfl ?_
          refine j_dup hC dX8_readAtom_96 rfl ?_
          refine j_getI (fk := 13) hC (dmMo hG rfl) rfl rfl in_X8 rfl rfl q1477 rfl dX8_readAtom_97 ?_
          refine j_iconst (v := 1) hC dX8_readAtom_100 (by decide) ?_
          refine j_isub hC dX8_readAtom_101 ?_
          refine j_put (fk := 13) (ty := .int) hC (dmMo hG rfl) rfl rfl in_X8 rfl rfl q1477 tyX8 tyX8_ok nmX8 rfl rfl (by decide +kernel) rfl rfl dX8_readAtom_102 ?_
          refine j_lt (fun M102 => ?_)
          refine j_aload_n hC 0 dX8_readAtom_105 rfl ?_
          refine j_bipush (v := 12) hC dX8_readAtom_106 (by decide) ?_
          refine j_iconst (v := 0) hC dX8_readAtom_108 (by decide) ?_
          refine j_callV (nA := 2) (rest := []) hC [.int 12, .int 0] rfl (fun r hr => mX8_emits (XL X) (XG X) hG fu (XD X) M102 12 0 r hr) q1725 q1727 qs72 q136 q1728 (dmMo hG rfl) rfl rfl (by decide +kernel) (Nat.ble_eq_true_of_le (by omega)) (Nat.ble_eq_true_of_le (by omega)) rfl rfl rfl rfl dX8_readAtom_109 (fun _ => []) (fun _ => rfl) (fun v109 M109 => ?_)
          refine j_iconst (v := 1) hC dX8_readAtom_112 (by decide) ?_
          exact j_zret hC (by decide) dX8_readAtom_113
  · refine j_aload_n hC 0 dX8_readAtom_9 rfl ?_
    refine j_getI (fk := 13) hC (dmMo hG rfl) rfl rfl in_X8 rfl rfl q1477 rfl dX8_readAtom_10 ?_
    refine j_bipush (v := 6) hC dX8_readAtom_13 (by decide) ?_
    refine j_icmp_ne (tgt := 20) hC dX8_readAtom_15 (by decide) (fun h15 => ?_) (fun h15 => ?_)
    · refine j_iconst (v := 0) hC dX8_readAtom_18 (by decide) ?_
      exact j_zret hC (by decide) dX8_readAtom_19
    · refine j_aload_n hC 0 dX8_readAtom_20 rfl ?_
      refine j_dup hC dX8_readAtom_21 rfl ?_
      refine j_getI (fk := 13) hC (dmMo hG rfl) rfl rfl in_X8 rfl rfl q1477 rfl dX8_readAtom_22 ?_
      refine j_iconst (v := 1) hC dX8_readAtom_25 (by decide) ?_
      refine j_iadd hC dX8_readAtom_26 ?_
      refine j_put (fk := 13) (ty := .int) hC (dmMo hG rfl) rfl rfl in_X8 rfl rfl q1477 tyX8 tyX8_ok nmX8 rfl rfl (by decide +kernel) rfl rfl dX8_readAtom_27 ?_
      refine j_lt (fun M27 => ?_)
      refine j_aload_n hC 0 dX8_readAtom_30 rfl ?_
      refine j_callV (nA := 0) (rest := []) hC [] rfl (fun r hr => hrec2 M27 r hr) q1708 q1710 qs68 q136 q1711 (dmMo hG rfl) rfl rfl (by decide +kernel) (Nat.ble_eq_true_of_le (by omega)) (Nat.ble_eq_true_of_le (by omega)) rfl rfl rfl rfl dX8_readAtom_31 (fun v31 => [.int v31]) (fun _ => rfl) (fun v31 M31 => ?_)
      refine j_if_ne (tgt := 39) hC dX8_readAtom_34 (by decide) (fun h34 => ?_) (fun h34 => ?_)
      · refine j_iconst (v := 0) hC dX8_readAtom_37 (by decide) ?_
        exact j_zret hC (by decide) dX8_readAtom_38
      · refine j_aload_n hC 0 dX8_readAtom_39 rfl ?_
        refine j_dup hC dX8_readAtom_40 rfl ?_
        refine j_getI (fk := 13) hC (dmMo hG rfl) rfl rfl in_X8 rfl rfl q1477 rfl dX8_readAtom_41 ?_
        refine j_iconst (v := 1) hC dX8_readAtom_44 (by decide) ?_
        refine j_isub hC dX8_readAtom_45 ?_
        refine j_put (fk := 13) (ty := .int) hC (dmMo hG rfl) rfl rfl in_X8 rfl rfl q1477 tyX8 tyX8_ok nmX8 rfl rfl (by decide +kernel) rfl rfl dX8_readAtom_46 ?_
        refine j_lt (fun M46 => ?_)
        refine j_aload_n hC 0 dX8_readAtom_49 rfl ?_
        refine j_bipush (v := 41) hC dX8_readAtom_50 (by decide) ?_
        refine j_callV (nA := 1) (rest := []) hC [.int 41] rfl (fun r hr => mX8_sign (XL X) (XG X) hG fu (XD X) M46 41 r hr) q1720 q1722 qs71 q136 q1723 (dmMo hG rfl) rfl rfl (by decide +kernel) (Nat.ble_eq_true_of_le (by omega)) (Nat.ble_eq_true_of_le (by omega)) rfl rfl rfl rfl dX8_readAtom_52 (fun v52 => [.int v52]) (fun _ => rfl) (fun v52 M52 => ?_)
        exact j_zret hC rfl dX8_readAtom_55
set_option linter.unusedVariables false in
set_option maxRecDepth 100000 in
theorem wX8_noBird_19 {X : JX} (hC : JC X cX8_noBird RX8 (some .boolean) 2 34 0 0) (hG : dmI dmM (XG X)) (hnl : nLof X = 2) (fu : Nat) (M : Mem) (t0 : Int32) : J X (ZN X foI) (FX8_noBird_19 fu (XD X) M t0) 19 [] [.int t0] M 0 0 := by
  unfold FX8_noBird_19
  exact j_zret hC rfl dX8_noBird_19
set_option linter.unusedVariables false in
set_option maxRecDepth 100000 in
theorem wX8_noBird {X : JX} (hC : JC X cX8_noBird RX8 (some .boolean) 2 34 0 0) (hG : dmI dmM (XG X)) (hnl : nLof X = 2) (fu : Nat) (M : Mem) (x1 : Int32) : J X (ZN X foI) (FX8_noBird fu (XD X) M x1) 0 [(0, .ref (gadr (XG X) (5, 0, 0))), (1, .int x1)] [] M 0 0 := by
  unfold FX8_noBird
  refine j_iload_n hC 1 dX8_noBird_0 rfl ?_
  refine j_iconst (v := 0) hC dX8_noBird_1 (by decide) ?_
  refine j_aload_n hC 0 dX8_noBird_2 rfl ?_
  refine j_callV (nA := 0) (rest := [.int 0, .int x1]) hC [] rfl (fun r hr => mX8_birds (XL X) (XG X) hG fu (XD X) M r hr) q1622 q1624 qs54 q136 q1625 (dmMo hG rfl) rfl rfl (by decide +kernel) rfl rfl rfl rfl rfl rfl dX8_noBird_3 (fun v3 => [.int v3, .int 0, .int x1]) (fun _ => rfl) (fun v3 M3 => ?_)
  refine j_iconst (v := 1) hC dX8_noBird_6 (by decide) ?_
  refine j_isub hC dX8_noBird_7 ?_
  refine j_callS (nA := 3) (rest := []) hC [.int x1, .int 0, .int (v3 - 1)] rfl (fun r hr => mX8_in (XL X) (XG X) hG fu (XD X) M3 x1 0 (v3 - 1) r hr) q1641 q1642 q136 q1643 (by decide +kernel) rfl rfl rfl rfl rfl rfl dX8_noBird_8 (fun v8 => [.int v8]) (fun _ => rfl) (fun v8 M8 => ?_)
  refine j_if_ne (tgt := 18) hC dX8_noBird_11 (by decide) (fun h11 => ?_) (fun h11 => ?_)
  · refine j_iconst (v := 1) hC dX8_noBird_14 (by decide) ?_
    refine j_goto (tgt := 19) hC dX8_noBird_15 (by decide) ?_
    exact j_sub [] rfl (wX8_noBird_19 hC hG hnl fu M8 1)
  · refine j_iconst (v := 0) hC dX8_noBird_18 (by decide) ?_
    exact j_sub [] rfl (wX8_noBird_19 hC hG hnl fu M8 0)
set_option linter.unusedVariables false in
set_option maxRecDepth 100000 in
theorem mX8_noBird (l : Launch) (Γ : xG) (hG : dmI dmM Γ) (fu : Nat) (D : List LDen) (M : Mem) (x1 : Int32) (r : Int32 × Mem) (hr : FX8_noBird fu D M x1 = some r) : CN l yX8_noBird (ws_ yX8_noBird cX8_noBird 2 (some .boolean)) 2 34 Γ D [.ref (gadr Γ (5, 0, 0)), .int x1] M (foI r.1) r.2 := by
  refine CN.of (own := RX8) (lv0 := lv_args 0 [.ref (gadr Γ (5, 0, 0)), .int x1]) (by decide +kernel) rfl (Nat.le_of_ble_eq_true rfl) rfl (fun X e1 e2 e3 e4 hC => ?_) r hr
  subst e1
  subst e2
  exact wX8_noBird hC hG e4 fu M x1
set_option linter.unusedVariables false in
set_option maxRecDepth 100000 in
theorem wX8_noLevel_15 {X : JX} (hC : JC X cX8_noLevel RX8 (some .boolean) 2 34 0 0) (hG : dmI dmM (XG X)) (hnl : nLof X = 1) (fu : Nat) (M : Mem) (t0 : Int32) : J X (ZN X foI) (FX8_noLevel_15 fu (XD X) M t0) 15 [] [.int t0] M 0 0 := by
  unfold FX8_noLevel_15
  exact j_zret hC rfl dX8_noLevel_15
set_option linter.unusedVariables false in
set_option maxRecDepth 100000 in
theorem wX8_noLevel {X : JX} (hC : JC X cX8_noLevel RX8 (some .boolean) 2 34 0 0) (hG : dmI dmM (XG X)) (hnl : nLof X = 1) (fu : Nat) (M : Mem) (x0 : Int32) : J X (ZN X foI) (FX8_noLevel fu (XD X) M x0) 0 [(0, .int x0)] [] M 0 0 := by
  unfold FX8_noLevel
  refine j_iload_n hC 0 dX8_noLevel_0 rfl ?_
  refine j_iconst (v := 0) hC dX8_noLevel_1 (by decide) ?_
  refine j_bipush (v := 12) hC dX8_noLevel_2 (by decide) ?_
  refine j_callS (nA := 3) (rest := []) hC [.int x0, .int 0, .int 12] rfl (fun r hr => mX8_in (XL X) (XG X) hG fu (XD X) M x0 0 12 r hr) q1641 q1642 q136 q1643 (by decide +kernel) rfl rfl rfl rfl rfl rfl dX8_noLevel_4 (fun v4 => [.int v4]) (fun _ => rfl) (fun v4 M4 => ?_)
  refine j_if_ne (tgt := 14) hC dX8_noLevel_7 (by decide) (fun h7 => ?_) (fun h7 => ?_)
  · refine j_iconst (v := 1) hC dX8_noLevel_10 (by decide) ?_
    refine j_goto (tgt := 15) hC dX8_noLevel_11 (by decide) ?_
    exact j_sub [] rfl (wX8_noLevel_15 hC hG hnl fu M4 1)
  · refine j_iconst (v := 0) hC dX8_noLevel_14 (by decide) ?_
    exact j_sub [] rfl (wX8_noLevel_15 hC hG hnl fu M4 0)
set_option linter.unusedVariables false in
set_option maxRecDepth 100000 in
theorem mX8_noLevel (l : Launch) (Γ : xG) (hG : dmI dmM Γ) (fu : Nat) (D : List LDen) (M : Mem) (x0 : Int32) (r : Int32 × Mem) (hr : FX8_noLevel fu D M x0 = some r) : CN l yX8_noLevel (ws_ yX8_noLevel cX8_noLevel 1 (some .boolean)) 2 34 Γ D [.int x0] M (foI r.1) r.2 := by
  refine CN.of (own := RX8) (lv0 := lv_args 0 [.int x0]) (by decide +kernel) rfl (Nat.le_of_ble_eq_true rfl) rfl (fun X e1 e2 e3 e4 hC => ?_) r hr
  subst e1
  subst e2
  exact wX8_noLevel hC hG e4 fu M x0
set_option linter.unusedVariables false in
set_option maxRecDepth 100000 in
theorem wX8_noColumn_15 {X : JX} (hC : JC X cX8_noColumn RX8 (some .boolean) 2 34 0 0) (hG : dmI dmM (XG X)) (hnl : nLof X = 1) (fu : Nat) (M : Mem) (t0 : Int32) : J X (ZN X foI) (FX8_noColumn_15 fu (XD X) M t0) 15 [] [.int t0] M 0 0 := by
  unfold FX8_noColumn_15
  exact j_zret hC rfl dX8_noColumn_15
set_option linter.unusedVariables false in
set_option maxRecDepth 100000 in
theorem wX8_noColumn {X : JX} (hC : JC X cX8_noColumn RX8 (some .boolean) 2 34 0 0) (hG : dmI dmM (XG X)) (hnl : nLof X = 1) (fu : Nat) (M : Mem) (x0 : Int32) : J X (ZN X foI) (FX8_noColumn fu (XD X) M x0) 0 [(0, .int x0)] [] M 0 0 := by
  unfold FX8_noColumn
  refine j_iload_n hC 0 dX8_noColumn_0 rfl ?_
  refine j_iconst (v := 0) hC dX8_noColumn_1 (by decide) ?_
  refine j_bipush (v := 15) hC dX8_noColumn_2 (by decide) ?_
  refine j_callS (nA := 3) (rest := []) hC [.int x0, .int 0, .int 15] rfl (fun r hr => mX8_in (XL X) (XG X) hG fu (XD X) M x0 0 15 r hr) q1641 q1642 q136 q1643 (by decide +kernel) rfl rfl rfl rfl rfl rfl dX8_noColumn_4 (fun v4 => [.int v4]) (fun _ => rfl) (fun v4 M4 => ?_)
  refine j_if_ne (tgt := 14) hC dX8_noColumn_7 (by decide) (fun h7 => ?_) (fun h7 => ?_)
  · refine j_iconst (v := 1) hC dX8_noColumn_10 (by decide) ?_
    refine j_goto (tgt := 15) hC dX8_noColumn_11 (by decide) ?_
    exact j_sub [] rfl (wX8_noColumn_15 hC hG hnl fu M4 1)
  · refine j_iconst (v := 0) hC dX8_noColumn_14 (by decide) ?_
    exact j_sub [] rfl (wX8_noColumn_15 hC hG hnl fu M4 0)
set_option linter.unusedVariables false in
set_option maxRecDepth 100000 in
theorem mX8_noColumn (l : Launch) (Γ : xG) (hG : dmI dmM Γ) (fu : Nat) (D : List LDen) (M : Mem) (x0 : Int32) (r : Int32 × Mem) (hr : FX8_noColumn fu D M x0 = some r) : CN l yX8_noColumn (ws_ yX8_noColumn cX8_noColumn 1 (some .boolean)) 2 34 Γ D [.int x0] M (foI r.1) r.2 := by
  refine CN.of (own := RX8) (lv0 := lv_args 0 [.int x0]) (by decide +kernel) rfl (Nat.le_of_ble_eq_true rfl) rfl (fun X e1 e2 e3 e4 hC => ?_) r hr
  subst e1
  subst e2
  exact wX8_noColumn hC hG e4 fu M x0
