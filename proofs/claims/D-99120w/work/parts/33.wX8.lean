/-! the model: the walks (printed by gen/gen.py) -/
set_option maxRecDepth 100000
set_option linter.unusedVariables false in
set_option maxRecDepth 100000 in
theorem wX8_matter_40 {X : JX} (hC : JC X cX8_matter RX8 (some .int) 4 79 0 0) (hG : dmI dmM (XG X)) (hnl : nLof X = 3) (fu : Nat) (M : Mem) : J X (ZN X foI) (FX8_matter_40 fu (XD X) M) 40 [] [] M 0 0 := by
  unfold FX8_matter_40
  refine j_iconst (v := 0) hC dX8_matter_40 (by decide) ?_
  exact j_iret hC dX8_matter_41
set_option linter.unusedVariables false in
set_option maxRecDepth 100000 in
theorem wX8_matter_64 {X : JX} (hC : JC X cX8_matter RX8 (some .int) 4 79 0 0) (hG : dmI dmM (XG X)) (hnl : nLof X = 3) (fu : Nat) (M : Mem) (t0 : Int32) : J X (ZN X foI) (FX8_matter_64 fu (XD X) M t0) 64 [] [.int t0] M 0 0 := by
  unfold FX8_matter_64
  exact j_iret hC dX8_matter_64
set_option linter.unusedVariables false in
set_option maxRecDepth 100000 in
theorem wX8_matter_33 {X : JX} (hC : JC X cX8_matter RX8 (some .int) 4 79 0 0) (hG : dmI dmM (XG X)) (hnl : nLof X = 3) (fu : Nat) (M : Mem) (x1 x2 t0 : Int32) : J X (ZN X foI) (FX8_matter_33 fu (XD X) M x1 x2 t0) 33 [(0, .ref (gadr (XG X) (5, 0, 0))), (1, .int x1), (2, .int x2)] [.int t0, .ref (gadr (XG X) (5, 0, 0))] M 0 0 := by
  unfold FX8_matter_33
  refine j_iconst (v := 2) hC dX8_matter_33 (by decide) ?_
  refine j_callV (nA := 2) (rest := []) hC [.int t0, .int 2] rfl (fun r hr => mX8_throwsIf (XL X) (XG X) hG fu (XD X) M t0 2 r hr) q1748 q1750 qs76 q136 q1751 (dmMo hG rfl) rfl rfl (by decide +kernel) rfl rfl rfl rfl rfl rfl dX8_matter_34 (fun v34 => [.int v34]) (fun _ => rfl) (fun v34 M34 => ?_)
  refine j_if_eq (tgt := 42) hC dX8_matter_37 (by decide) (fun h37 => ?_) (fun h37 => ?_)
  · refine j_iload_n hC 2 dX8_matter_42 rfl ?_
    refine j_iconst (v := 4) hC dX8_matter_43 (by decide) ?_
    refine j_icmp_ge (tgt := 56) hC dX8_matter_44 (by decide) (fun h44 => ?_) (fun h44 => ?_)
    · refine j_aload_n hC 0 dX8_matter_56 rfl ?_
      refine j_iload_n hC 1 dX8_matter_57 rfl ?_
      refine j_iload_n hC 2 dX8_matter_58 rfl ?_
      refine j_iconst (v := 4) hC dX8_matter_59 (by decide) ?_
      refine j_isub hC dX8_matter_60 ?_
      refine j_callV (nA := 2) (rest := []) hC [.int x1, .int (x2 - 4)] rfl (fun r hr => mX8_choices (XL X) (XG X) hG fu (XD X) M34 x1 (x2 - 4) r hr) q1938 q1940 qs105 q136 q1941 (dmMo hG rfl) rfl rfl (by decide +kernel) rfl rfl rfl rfl rfl rfl dX8_matter_61 (fun v61 => [.int v61]) (fun _ => rfl) (fun v61 M61 => ?_)
      exact j_sub [] rfl (wX8_matter_64 hC hG hnl fu M61 v61)
    · refine j_aload_n hC 0 dX8_matter_47 rfl ?_
      refine j_iload_n hC 1 dX8_matter_48 rfl ?_
      refine j_iload_n hC 2 dX8_matter_49 rfl ?_
      refine j_callV (nA := 2) (rest := []) hC [.int x1, .int x2] rfl (fun r hr => mX8_ofCase (XL X) (XG X) hG fu (XD X) M34 x1 x2 r hr) q1934 q1936 qs104 q136 q1937 (dmMo hG rfl) rfl rfl (by decide +kernel) rfl rfl rfl rfl rfl rfl dX8_matter_50 (fun v50 => [.int v50]) (fun _ => rfl) (fun v50 M50 => ?_)
      refine j_goto (tgt := 64) hC dX8_matter_53 (by decide) ?_
      exact j_sub [] rfl (wX8_matter_64 hC hG hnl fu M50 v50)
  · exact j_sub [] rfl (wX8_matter_40 hC hG hnl fu M34)
set_option linter.unusedVariables false in
set_option maxRecDepth 100000 in
theorem wX8_matter {X : JX} (hC : JC X cX8_matter RX8 (some .int) 4 79 0 0) (hG : dmI dmM (XG X)) (hnl : nLof X = 3) (fu : Nat) (M : Mem) (x1 x2 : Int32) : J X (ZN X foI) (FX8_matter fu (XD X) M x1 x2) 0 [(0, .ref (gadr (XG X) (5, 0, 0))), (1, .int x1), (2, .int x2)] [] M 0 0 := by
  unfold FX8_matter
  refine j_aload_n hC 0 dX8_matter_0 rfl ?_
  refine j_iconst (v := 0) hC dX8_matter_1 (by decide) ?_
  refine j_put (fk := 0) (ty := .int) hC (dmMo hG rfl) rfl rfl in_X8 rfl rfl q1464 tyX8 tyX8_ok nmX8 rfl rfl (by decide +kernel) rfl rfl dX8_matter_2 ?_
  refine j_lt (fun M2 => ?_)
  refine j_aload_n hC 0 dX8_matter_5 rfl ?_
  refine j_aload_n hC 0 dX8_matter_6 rfl ?_
  refine j_iload_n hC 1 dX8_matter_7 rfl ?_
  refine j_callV (nA := 1) (rest := [.ref (gadr (XG X) (5, 0, 0))]) hC [.int x1] rfl (fun r hr => mX8_noCase (XL X) (XG X) hG fu (XD X) M2 x1 r hr) q1930 q1932 qs103 q136 q1933 (dmMo hG rfl) rfl rfl (by decide +kernel) rfl rfl rfl rfl rfl rfl dX8_matter_8 (fun v8 => [.int v8, .ref (gadr (XG X) (5, 0, 0))]) (fun _ => rfl) (fun v8 M8 => ?_)
  refine j_iconst (v := 1) hC dX8_matter_11 (by decide) ?_
  refine j_callV (nA := 2) (rest := []) hC [.int v8, .int 1] rfl (fun r hr => mX8_throwsIf (XL X) (XG X) hG fu (XD X) M8 v8 1 r hr) q1748 q1750 qs76 q136 q1751 (dmMo hG rfl) rfl rfl (by decide +kernel) rfl rfl rfl rfl rfl rfl dX8_matter_12 (fun v12 => [.int v12]) (fun _ => rfl) (fun v12 M12 => ?_)
  refine j_if_ne (tgt := 40) hC dX8_matter_15 (by decide) (fun h15 => ?_) (fun h15 => ?_)
  · refine j_aload_n hC 0 dX8_matter_18 rfl ?_
    refine j_iload_n hC 2 dX8_matter_19 rfl ?_
    refine j_iconst (v := 0) hC dX8_matter_20 (by decide) ?_
    refine j_iconst (v := 5) hC dX8_matter_21 (by decide) ?_
    refine j_callS (nA := 3) (rest := [.ref (gadr (XG X) (5, 0, 0))]) hC [.int x2, .int 0, .int 5] rfl (fun r hr => mX8_in (XL X) (XG X) hG fu (XD X) M12 x2 0 5 r hr) q1641 q1642 q136 q1643 (by decide +kernel) rfl rfl rfl rfl rfl rfl dX8_matter_22 (fun v22 => [.int v22, .ref (gadr (XG X) (5, 0, 0))]) (fun _ => rfl) (fun v22 M22 => ?_)
    refine j_if_ne (tgt := 32) hC dX8_matter_25 (by decide) (fun h25 => ?_) (fun h25 => ?_)
    · refine j_iconst (v := 1) hC dX8_matter_28 (by decide) ?_
      refine j_goto (tgt := 33) hC dX8_matter_29 (by decide) ?_
      exact j_sub [0, 1, 2] rfl (wX8_matter_33 hC hG hnl fu M22 x1 x2 1)
    · refine j_iconst (v := 0) hC dX8_matter_32 (by decide) ?_
      exact j_sub [0, 1, 2] rfl (wX8_matter_33 hC hG hnl fu M22 x1 x2 0)
  · exact j_sub [] rfl (wX8_matter_40 hC hG hnl fu M12)
set_option linter.unusedVariables false in
set_option maxRecDepth 100000 in
theorem mX8_matter (l : Launch) (Γ : xG) (hG : dmI dmM Γ) (fu : Nat) (D : List LDen) (M : Mem) (x1 x2 : Int32) (r : Int32 × Mem) (hr : FX8_matter fu D M x1 x2 = some r) : CN l yX8_matter (ws_ yX8_matter cX8_matter 3 (some .int)) 4 79 Γ D [.ref (gadr Γ (5, 0, 0)), .int x1, .int x2] M (foI r.1) r.2 := by
  refine CN.of (own := RX8) (lv0 := lv_args 0 [.ref (gadr Γ (5, 0, 0)), .int x1, .int x2]) (by decide +kernel) rfl (Nat.le_of_ble_eq_true rfl) rfl (fun X e1 e2 e3 e4 hC => ?_) r hr
  subst e1
  subst e2
  exact wX8_matter hC hG e4 fu M x1 x2
set_option linter.unusedVariables false in
set_option maxRecDepth 100000 in
theorem wX8_wind_30 {X : JX} (hC : JC X cX8_wind RX8 (some .int) 3 54 0 0) (hG : dmI dmM (XG X)) (hnl : nLof X = 2) (fu : Nat) (M : Mem) (t0 : Int32) : J X (ZN X foI) (FX8_wind_30 fu (XD X) M t0) 30 [] [.int t0] M 0 0 := by
  unfold FX8_wind_30
  exact j_iret hC dX8_wind_30
set_option linter.unusedVariables false in
set_option maxRecDepth 100000 in
theorem wX8_wind {X : JX} (hC : JC X cX8_wind RX8 (some .int) 3 54 0 0) (hG : dmI dmM (XG X)) (hnl : nLof X = 2) (fu : Nat) (M : Mem) (x1 : Int32) : J X (ZN X foI) (FX8_wind fu (XD X) M x1) 0 [(0, .ref (gadr (XG X) (5, 0, 0))), (1, .int x1)] [] M 0 0 := by
  unfold FX8_wind
  refine j_aload_n hC 0 dX8_wind_0 rfl ?_
  refine j_iconst (v := 0) hC dX8_wind_1 (by decide) ?_
  refine j_put (fk := 0) (ty := .int) hC (dmMo hG rfl) rfl rfl in_X8 rfl rfl q1464 tyX8 tyX8_ok nmX8 rfl rfl (by decide +kernel) rfl rfl dX8_wind_2 ?_
  refine j_lt (fun M2 => ?_)
  refine j_aload_n hC 0 dX8_wind_5 rfl ?_
  refine j_iload_n hC 1 dX8_wind_6 rfl ?_
  refine j_callS (nA := 1) (rest := [.ref (gadr (XG X) (5, 0, 0))]) hC [.int x1] rfl (fun r hr => mX8_noLevel (XL X) (XG X) hG fu (XD X) M2 x1 r hr) q1764 q1765 q136 q1766 (by decide +kernel) rfl rfl rfl rfl rfl rfl dX8_wind_7 (fun v7 => [.int v7, .ref (gadr (XG X) (5, 0, 0))]) (fun _ => rfl) (fun v7 M7 => ?_)
  refine j_iconst (v := 1) hC dX8_wind_10 (by decide) ?_
  refine j_callV (nA := 2) (rest := []) hC [.int v7, .int 1] rfl (fun r hr => mX8_throwsIf (XL X) (XG X) hG fu (XD X) M7 v7 1 r hr) q1748 q1750 qs76 q136 q1751 (dmMo hG rfl) rfl rfl (by decide +kernel) rfl rfl rfl rfl rfl rfl dX8_wind_11 (fun v11 => [.int v11]) (fun _ => rfl) (fun v11 M11 => ?_)
  refine j_if_eq (tgt := 21) hC dX8_wind_14 (by decide) (fun h14 => ?_) (fun h14 => ?_)
  · refine j_aload_n hC 0 dX8_wind_21 rfl ?_
    refine j_getR (fk := 1) hC (dmMo hG rfl) rfl rfl in_X8 rfl rfl q1465 rfl dX8_wind_22 ?_
    refine j_bipush (v := 13) hC dX8_wind_25 (by decide) ?_
    refine j_iload_n hC 1 dX8_wind_27 rfl ?_
    refine j_iadd hC dX8_wind_28 ?_
    refine j_iald hC (dmMo hG rfl) rfl dX8_wind_29 (fun h29 => ?_)
    exact j_sub [] rfl (wX8_wind_30 hC hG hnl fu M11 (M11 (5, 0, 1) ((13 + x1).toNatClampNeg)))
  · refine j_iconst (v := 0) hC dX8_wind_17 (by decide) ?_
    refine j_goto (tgt := 30) hC dX8_wind_18 (by decide) ?_
    exact j_sub [] rfl (wX8_wind_30 hC hG hnl fu M11 0)
set_option linter.unusedVariables false in
set_option maxRecDepth 100000 in
theorem mX8_wind (l : Launch) (Γ : xG) (hG : dmI dmM Γ) (fu : Nat) (D : List LDen) (M : Mem) (x1 : Int32) (r : Int32 × Mem) (hr : FX8_wind fu D M x1 = some r) : CN l yX8_wind (ws_ yX8_wind cX8_wind 2 (some .int)) 3 54 Γ D [.ref (gadr Γ (5, 0, 0)), .int x1] M (foI r.1) r.2 := by
  refine CN.of (own := RX8) (lv0 := lv_args 0 [.ref (gadr Γ (5, 0, 0)), .int x1]) (by decide +kernel) rfl (Nat.le_of_ble_eq_true rfl) rfl (fun X e1 e2 e3 e4 hC => ?_) r hr
  subst e1
  subst e2
  exact wX8_wind hC hG e4 fu M x1
set_option linter.unusedVariables false in
set_option maxRecDepth 100000 in
theorem wX8_isOpen_14 {X : JX} (hC : JC X cX8_isOpen RX8 (some .boolean) 3 55 0 0) (hG : dmI dmM (XG X)) (hnl : nLof X = 2) (fu : Nat) (M : Mem) (t0 : Int32) : J X (ZN X foI) (FX8_isOpen_14 fu (XD X) M t0) 14 [] [.int t0] M 0 0 := by
  unfold FX8_isOpen_14
  exact j_zret hC rfl dX8_isOpen_14
set_option linter.unusedVariables false in
set_option maxRecDepth 100000 in
theorem wX8_isOpen {X : JX} (hC : JC X cX8_isOpen RX8 (some .boolean) 3 55 0 0) (hG : dmI dmM (XG X)) (hnl : nLof X = 2) (fu : Nat) (M : Mem) (x1 : Int32) : J X (ZN X foI) (FX8_isOpen fu (XD X) M x1) 0 [(0, .ref (gadr (XG X) (5, 0, 0))), (1, .int x1)] [] M 0 0 := by
  unfold FX8_isOpen
  refine j_aload_n hC 0 dX8_isOpen_0 rfl ?_
  refine j_iload_n hC 1 dX8_isOpen_1 rfl ?_
  refine j_iconst (v := 3) hC dX8_isOpen_2 (by decide) ?_
  refine j_callV (nA := 2) (rest := []) hC [.int x1, .int 3] rfl (fun r hr => mX8_ofCase (XL X) (XG X) hG fu (XD X) M x1 3 r hr) q1934 q1936 qs104 q136 q1937 (dmMo hG rfl) rfl rfl (by decide +kernel) rfl rfl rfl rfl rfl rfl dX8_isOpen_3 (fun v3 => [.int v3]) (fun _ => rfl) (fun v3 M3 => ?_)
  refine j_if_ne (tgt := 13) hC dX8_isOpen_6 (by decide) (fun h6 => ?_) (fun h6 => ?_)
  · refine j_iconst (v := 1) hC dX8_isOpen_9 (by decide) ?_
    refine j_goto (tgt := 14) hC dX8_isOpen_10 (by decide) ?_
    exact j_sub [] rfl (wX8_isOpen_14 hC hG hnl fu M3 1)
  · refine j_iconst (v := 0) hC dX8_isOpen_13 (by decide) ?_
    exact j_sub [] rfl (wX8_isOpen_14 hC hG hnl fu M3 0)
set_option linter.unusedVariables false in
set_option maxRecDepth 100000 in
theorem mX8_isOpen (l : Launch) (Γ : xG) (hG : dmI dmM Γ) (fu : Nat) (D : List LDen) (M : Mem) (x1 : Int32) (r : Int32 × Mem) (hr : FX8_isOpen fu D M x1 = some r) : CN l yX8_isOpen (ws_ yX8_isOpen cX8_isOpen 2 (some .boolean)) 3 55 Γ D [.ref (gadr Γ (5, 0, 0)), .int x1] M (foI r.1) r.2 := by
  refine CN.of (own := RX8) (lv0 := lv_args 0 [.ref (gadr Γ (5, 0, 0)), .int x1]) (by decide +kernel) rfl (Nat.le_of_ble_eq_true rfl) rfl (fun X e1 e2 e3 e4 hC => ?_) r hr
  subst e1
  subst e2
  exact wX8_isOpen hC hG e4 fu M x1
set_option linter.unusedVariables false in
set_option maxRecDepth 100000 in
theorem wX8_leastBy_40 {X : JX} (hC : JC X cX8_leastBy RX8 (some .int) 4 82 0 0) (hG : dmI dmM (XG X)) (hnl : nLof X = 5) (fu : Nat) (kn7 : Mem × Int32 × Int32 × Int32 × Int32 → Option (Int32 × Mem)) (hk7 : ∀ (M : Mem) (x1 x2 x3 x4 : Int32), J X (ZN X foI) (kn7 (M, x1, x2, x3, x4)) 7 [(0, .ref (gadr (XG X) (5, 0, 0))), (1, .int x1), (2, .int x2), (3, .int x3), (4, .int x4)] [] M 0 0) (M : Mem) (x1 x2 x4 t0 : Int32) : J X (ZN X foI) (FX8_leastBy_40 fu (XD X) kn7 M x1 x2 x4 t0) 40 [(0, .ref (gadr (XG X) (5, 0, 0))), (1, .int x1), (2, .int x2), (4, .int x4)] [.int t0] M 0 0 := by
  unfold FX8_leastBy_40
  refine j_istore_n hC [(3, .int t0), (0, .ref (gadr (XG X) (5, 0, 0))), (1, .int x1), (2, .int x2), (4, .int x4)] hnl dX8_leastBy_40 rfl rfl ?_
  refine j_iincL hC 4 (fun y41 => [(4, .int y41), (3, .int t0), (0, .ref (gadr (XG X) (5, 0, 0))), (1, .int x1), (2, .int x2)]) hnl dX8_leastBy_41 rfl (by decide) rfl (fun _ => rfl) (fun y41 => ?_)
  refine j_goto (tgt := 7) hC dX8_leastBy_44 (by decide) ?_
  exact j_sub [2, 3, 4, 1, 0] rfl (hk7 M x1 x2 t0 y41)
set_option linter.unusedVariables false in
set_option maxRecDepth 100000 in
theorem wgX8_leastBy_7 {X : JX} (hC : JC X cX8_leastBy RX8 (some .int) 4 82 0 0) (hG : dmI dmM (XG X)) (hnl : nLof X = 5) (fu : Nat) (kn7 : Mem × Int32 × Int32 × Int32 × Int32 → Option (Int32 × Mem)) (hk7 : ∀ (M : Mem) (x1 x2 x3 x4 : Int32), J X (ZN X foI) (kn7 (M, x1, x2, x3, x4)) 7 [(0, .ref (gadr (XG X) (5, 0, 0))), (1, .int x1), (2, .int x2), (3, .int x3), (4, .int x4)] [] M 0 0) (M : Mem) (x1 x2 x3 x4 : Int32) : J X (ZN X foI) (GX8_leastBy_7 fu (XD X) kn7 M x1 x2 x3 x4) 7 [(0, .ref (gadr (XG X) (5, 0, 0))), (1, .int x1), (2, .int x2), (3, .int x3), (4, .int x4)] [] M 0 0 := by
  unfold GX8_leastBy_7
  refine j_iload hC 4 dX8_leastBy_7 rfl ?_
  refine j_aload_n hC 0 dX8_leastBy_9 rfl ?_
  refine j_callV (nA := 0) (rest := [.int x4]) hC [] rfl (fun r hr => mX8_birds (XL X) (XG X) hG fu (XD X) M r hr) q1622 q1624 qs54 q136 q1625 (dmMo hG rfl) rfl rfl (by decide +kernel) rfl rfl rfl rfl rfl rfl dX8_leastBy_10 (fun v10 => [.int v10, .int x4]) (fun _ => rfl) (fun v10 M10 => ?_)
  refine j_icmp_ge (tgt := 47) hC dX8_leastBy_13 (by decide) (fun h13 => ?_) (fun h13 => ?_)
  · refine j_ldc2 (v := 100) hC dX8_leastBy_47 q1959 ?_
    refine j_iload_n hC 3 dX8_leastBy_50 rfl ?_
    refine j_i2l hC dX8_leastBy_51 ?_
    refine j_lmul hC dX8_leastBy_52 ?_
    refine j_ldc2 (v := 43046721) hC dX8_leastBy_53 q1960 ?_
    refine j_ldivL hC dX8_leastBy_56 (by decide) ?_
    refine j_l2i hC dX8_leastBy_57 ?_
    exact j_iret hC dX8_leastBy_58
  · refine j_iload_n hC 2 dX8_leastBy_16 rfl ?_
    refine j_iload hC 4 dX8_leastBy_17 rfl ?_
    refine j_callS (nA := 2) (rest := []) hC [.int x2, .int x4] rfl (fun r hr => mX8_has (XL X) (XG X) hG fu (XD X) M10 x2 x4 r hr) q1644 q1645 q136 q1646 (by decide +kernel) rfl rfl rfl rfl rfl rfl dX8_leastBy_19 (fun v19 => [.int v19]) (fun _ => rfl) (fun v19 M19 => ?_)
    refine j_if_eq (tgt := 39) hC dX8_leastBy_22 (by decide) (fun h22 => ?_) (fun h22 => ?_)
    · refine j_iload_n hC 3 dX8_leastBy_39 rfl ?_
      exact j_sub [0, 1, 2, 4] rfl (wX8_leastBy_40 hC hG hnl fu kn7 hk7 M19 x1 x2 x4 x3)
    · refine j_iload_n hC 3 dX8_leastBy_25 rfl ?_
      refine j_aload_n hC 0 dX8_leastBy_26 rfl ?_
      refine j_iload_n hC 1 dX8_leastBy_27 rfl ?_
      refine j_iload hC 4 dX8_leastBy_28 rfl ?_
      refine j_callV (nA := 2) (rest := [.int x3]) hC [.int x1, .int x4] rfl (fun r hr => mX8_firstHas (XL X) (XG X) hG fu (XD X) M19 x1 x4 r hr) q1882 q1884 qs97 q136 q1885 (dmMo hG rfl) rfl rfl (by decide +kernel) rfl rfl rfl rfl rfl rfl dX8_leastBy_30 (fun v30 => [.int v30, .int x3]) (fun _ => rfl) (fun v30 M30 => ?_)
      refine j_min hC q1802 q640 q155 q641 dX8_leastBy_33 rfl (Nat.le_of_ble_eq_true rfl) (Nat.le_of_ble_eq_true rfl) (Nat.le_of_ble_eq_true rfl) ?_
      refine j_goto (tgt := 40) hC dX8_leastBy_36 (by decide) ?_
      exact j_sub [0, 1, 2, 4] rfl (wX8_leastBy_40 hC hG hnl fu kn7 hk7 M30 x1 x2 x4 (mn x3 v30))
set_option linter.unusedVariables false in
set_option maxRecDepth 100000 in
theorem wX8_leastBy_7 {X : JX} (hC : JC X cX8_leastBy RX8 (some .int) 4 82 0 0) (hG : dmI dmM (XG X)) (hnl : nLof X = 5) (fu : Nat) (M : Mem) (x1 x2 x3 x4 : Int32) : J X (ZN X foI) (FX8_leastBy_7 fu (XD X) M x1 x2 x3 x4) 7 [(0, .ref (gadr (XG X) (5, 0, 0))), (1, .int x1), (2, .int x2), (3, .int x3), (4, .int x4)] [] M 0 0 := by
  exact j_lp (lvf := fun z => [(0, .ref (gadr (XG X) (5, 0, 0))), (1, .int (z.2.1)), (2, .int (z.2.2.1)), (3, .int (z.2.2.2.1)), (4, .int (z.2.2.2.2))]) (Mf := fun z => z.1) (fun kn hk z => wgX8_leastBy_7 hC hG hnl fu kn (fun M x1 x2 x3 x4 => hk (M, x1, x2, x3, x4)) z.1 z.2.1 z.2.2.1 z.2.2.2.1 z.2.2.2.2) fu (M, x1, x2, x3, x4)
set_option linter.unusedVariables false in
set_option maxRecDepth 100000 in
theorem wX8_leastBy {X : JX} (hC : JC X cX8_leastBy RX8 (some .int) 4 82 0 0) (hG : dmI dmM (XG X)) (hnl : nLof X = 5) (fu : Nat) (M : Mem) (x1 x2 : Int32) : J X (ZN X foI) (FX8_leastBy fu (XD X) M x1 x2) 0 [(0, .ref (gadr (XG X) (5, 0, 0))), (1, .int x1), (2, .int x2)] [] M 0 0 := by
  unfold FX8_leastBy
  refine j_ldcw (v := 43046721) hC dX8_leastBy_0 q1958 ?_
  refine j_istore_n hC [(3, .int 43046721), (0, .ref (gadr (XG X) (5, 0, 0))), (1, .int x1), (2, .int x2)] hnl dX8_leastBy_3 rfl rfl ?_
  refine j_iconst (v := 0) hC dX8_leastBy_4 (by decide) ?_
  refine j_istore hC [(4, .int 0), (3, .int 43046721), (0, .ref (gadr (XG X) (5, 0, 0))), (1, .int x1), (2, .int x2)] hnl dX8_leastBy_5 rfl rfl ?_
  exact j_sub [2, 3, 4, 1, 0] rfl (wX8_leastBy_7 hC hG hnl fu M x1 x2 43046721 0)
set_option linter.unusedVariables false in
set_option maxRecDepth 100000 in
theorem mX8_leastBy (l : Launch) (Γ : xG) (hG : dmI dmM Γ) (fu : Nat) (D : List LDen) (M : Mem) (x1 x2 : Int32) (r : Int32 × Mem) (hr : FX8_leastBy fu D M x1 x2 = some r) : CN l yX8_leastBy (ws_ yX8_leastBy cX8_leastBy 5 (some .int)) 4 82 Γ D [.ref (gadr Γ (5, 0, 0)), .int x1, .int x2] M (foI r.1) r.2 := by
  refine CN.of (own := RX8) (lv0 := lv_args 0 [.ref (gadr Γ (5, 0, 0)), .int x1, .int x2]) (by decide +kernel) rfl (Nat.le_of_ble_eq_true rfl) rfl (fun X e1 e2 e3 e4 hC => ?_) r hr
  subst e1
  subst e2
  exact wX8_leastBy hC hG e4 fu M x1 x2
set_option linter.unusedVariables false in
set_option maxRecDepth 100000 in
theorem wX8_surest_39 {X : JX} (hC : JC X cX8_surest RX8 (some .int) 11 244 0 0) (hG : dmI dmM (XG X)) (hnl : nLof X = 9) (fu : Nat) (M : Mem) : J X (ZN X foI) (FX8_surest_39 fu (XD X) M) 39 [] [] M 0 0 := by
  unfold FX8_surest_39
  refine j_iconst (v := 0) hC dX8_surest_39 (by decide) ?_
  exact j_iret hC dX8_surest_40
set_option linter.unusedVariables false in
set_option maxRecDepth 100000 in
theorem wX8_surest_83 {X : JX} (hC : JC X cX8_surest RX8 (some .int) 11 244 0 0) (hG : dmI dmM (XG X)) (hnl : nLof X = 9) (fu : Nat) (M : Mem) : J X (ZN X foI) (FX8_surest_83 fu (XD X) M) 83 [] [] M 0 0 := by
  unfold FX8_surest_83
  refine j_iconst (v := (-1)) hC dX8_surest_83 (by decide) ?_
  exact j_iret hC dX8_surest_84
set_option linter.unusedVariables false in
set_option maxRecDepth 100000 in
theorem wX8_surest_164 {X : JX} (hC : JC X cX8_surest RX8 (some .int) 11 244 0 0) (hG : dmI dmM (XG X)) (hnl : nLof X = 9) (fu : Nat) (M : Mem) (t0 : Int32) : J X (ZN X foI) (FX8_surest_164 fu (XD X) M t0) 164 [] [.int t0] M 0 0 := by
  unfold FX8_surest_164
  exact j_iret hC dX8_surest_164
set_option linter.unusedVariables false in
set_option maxRecDepth 100000 in
theorem wX8_surest_147 {X : JX} (hC : JC X cX8_surest RX8 (some .int) 11 244 0 0) (hG : dmI dmM (XG X)) (hnl : nLof X = 9) (fu : Nat) (kn98 : Mem × Int32 × Int32 × Int32 × Int32 × Int32 × Int32 → Option (Int32 × Mem)) (hk98 : ∀ (M : Mem) (x3 x4 x5 x6 x7 x8 : Int32), J X (ZN X foI) (kn98 (M, x3, x4, x5, x6, x7, x8)) 98 [(0, .ref (gadr (XG X) (5, 0, 0))), (3, .int x3), (4, .int x4), (5, .int x5), (6, .int x6), (7, .int x7), (8, .int x8)] [] M 0 0) (M : Mem) (x3 x4 x5 x6 x7 x8 : Int32) : J X (ZN X foI) (FX8_surest_147 fu (XD X) kn98 M x3 x4 x5 x6 x7 x8) 147 [(0, .ref (gadr (XG X) (5, 0, 0))), (3, .int x3), (4, .int x4), (5, .int x5), (6, .int x6), (7, .int x7), (8, .int x8)] [] M 0 0 := by
  unfold FX8_surest_147
  refine j_iincL hC 6 (fun y147 => [(8, .int y147), (0, .ref (gadr (XG X) (5, 0, 0))), (3, .int x3), (4, .int x4), (5, .int x5), (6, .int x6), (7, .int x7)]) hnl dX8_surest_147 rfl (by decide) rfl (fun _ => rfl) (fun y147 => ?_)
  refine j_goto (tgt := 98) hC dX8_surest_150 (by decide) ?_
  exact j_sub [1, 2, 3, 4, 5, 6, 0] rfl (hk98 M x3 x4 x5 x6 x7 y147)
set_option linter.unusedVariables false in
set_option maxRecDepth 100000 in
theorem wgX8_surest_98 {X : JX} (hC : JC X cX8_surest RX8 (some .int) 11 244 0 0) (hG : dmI dmM (XG X)) (hnl : nLof X = 9) (fu : Nat) (kn98 : Mem × Int32 × Int32 × Int32 × Int32 × Int32 × Int32 → Option (Int32 × Mem)) (hk98 : ∀ (M : Mem) (x3 x4 x5 x6 x7 x8 : Int32), J X (ZN X foI) (kn98 (M, x3, x4, x5, x6, x7, x8)) 98 [(0, .ref (gadr (XG X) (5, 0, 0))), (3, .int x3), (4, .int x4), (5, .int x5), (6, .int x6), (7, .int x7), (8, .int x8)] [] M 0 0) (M : Mem) (x3 x4 x5 x6 x7 x8 : Int32) : J X (ZN X foI) (GX8_surest_98 fu (XD X) kn98 M x3 x4 x5 x6 x7 x8) 98 [(0, .ref (gadr (XG X) (5, 0, 0))), (3, .int x3), (4, .int x4), (5, .int x5), (6, .int x6), (7, .int x7), (8, .int x8)] [] M 0 0 := by
  unfold GX8_surest_98
  refine j_iload hC 6 dX8_surest_98 rfl ?_
  refine j_aload_n hC 0 dX8_surest_100 rfl ?_
  refine j_callV (nA := 0) (rest := [.int x8]) hC [] rfl (fun r hr => mX8_birds (XL X) (XG X) hG fu (XD X) M r hr) q1622 q1624 qs54 q136 q1625 (dmMo hG rfl) rfl rfl (by decide +kernel) rfl rfl rfl rfl rfl rfl dX8_surest_101 (fun v101 => [.int v101, .int x8]) (fun _ => rfl) (fun v101 M101 => ?_)
  refine j_icmp_ge (tgt := 153) hC dX8_surest_104 (by decide) (fun h104 => ?_) (fun h104 => ?_)
  · refine j_iload_n hC 1 dX8_surest_153 rfl ?_
    refine j_if_eq (tgt := 162) hC dX8_surest_154 (by decide) (fun h154 => ?_) (fun h154 => ?_)
    · refine j_iload hC 4 dX8_surest_162 rfl ?_
      exact j_sub [] rfl (wX8_surest_164 hC hG hnl fu M101 x6)
    · refine j_iload hC 5 dX8_surest_157 rfl ?_
      refine j_goto (tgt := 164) hC dX8_surest_159 (by decide) ?_
      exact j_sub [] rfl (wX8_surest_164 hC hG hnl fu M101 x7)
  · refine j_iload hC 2 dX8_surest_107 rfl ?_
    refine j_iload hC 6 dX8_surest_109 rfl ?_
    refine j_callS (nA := 2) (rest := []) hC [.int x4, .int x8] rfl (fun r hr => mX8_has (XL X) (XG X) hG fu (XD X) M101 x4 x8 r hr) q1644 q1645 q136 q1646 (by decide +kernel) rfl rfl rfl rfl rfl rfl dX8_surest_111 (fun v111 => [.int v111]) (fun _ => rfl) (fun v111 M111 => ?_)
    refine j_if_eq (tgt := 147) hC dX8_surest_114 (by decide) (fun h114 => ?_) (fun h114 => ?_)
    · exact j_sub [0, 1, 2, 3, 4, 5, 6] rfl (wX8_surest_147 hC hG hnl fu kn98 hk98 M111 x3 x4 x5 x6 x7 x8)
    · refine j_aload_n hC 0 dX8_surest_117 rfl ?_
      refine j_iload hC 6 dX8_surest_118 rfl ?_
      refine j_iload hC 3 dX8_surest_120 rfl ?_
      refine j_callV (nA := 2) (rest := []) hC [.int x8, .int x5] rfl (fun r hr => mX8_leastBy (XL X) (XG X) hG fu (XD X) M111 x8 x5 r hr) q1954 q1956 qs107 q136 q1957 (dmMo hG rfl) rfl rfl (by decide +kernel) rfl rfl rfl rfl rfl rfl dX8_surest_122 (fun v122 => [.int v122]) (fun _ => rfl) (fun v122 M122 => ?_)
      refine j_iload hC 5 dX8_surest_125 rfl ?_
      refine j_icmp_gt (tgt := 133) hC dX8_surest_127 (by decide) (fun h127 => ?_) (fun h127 => ?_)
      · refine j_iload hC 6 dX8_surest_133 rfl ?_
        refine j_istore hC [(6, .int x8), (0, .ref (gadr (XG X) (5, 0, 0))), (3, .int x3), (4, .int x4), (5, .int x5), (7, .int x7), (8, .int x8)] hnl dX8_surest_135 rfl rfl ?_
        refine j_aload_n hC 1 dX8_surest_137 rfl ?_
        refine j_iload hC 6 dX8_surest_138 rfl ?_
        refine j_iload hC 4 dX8_surest_140 rfl ?_
        refine j_callV (nA := 2) (rest := []) hC [.int x8, .int x5] rfl (fun r hr => mX8_leastBy (XL X) (XG X) hG fu (XD X) M122 x8 x5 r hr) q1954 q1956 qs107 q136 q1957 (dmMo hG rfl) rfl rfl (by decide +kernel) rfl rfl rfl rfl rfl rfl dX8_surest_142 (fun v142 => [.int v142]) (fun _ => rfl) (fun v142 M142 => ?_)
        refine j_istore hC [(7, .int v142), (6, .int x8), (0, .ref (gadr (XG X) (5, 0, 0))), (3, .int x3), (4, .int x4), (5, .int x5), (8, .int x8)] hnl dX8_surest_145 rfl rfl ?_
        exact j_sub [2, 3, 4, 5, 1, 0, 6] rfl (wX8_surest_147 hC hG hnl fu kn98 hk98 M142 x3 x4 x5 x8 v142 x8)
      · refine j_goto (tgt := 147) hC dX8_surest_130 (by decide) ?_
        exact j_sub [0, 1, 2, 3, 4, 5, 6] rfl (wX8_surest_147 hC hG hnl fu kn98 hk98 M122 x3 x4 x5 x6 x7 x8)
set_option linter.unusedVariables false in
set_option maxRecDepth 100000 in
theorem wX8_surest_98 {X : JX} (hC : JC X cX8_surest RX8 (some .int) 11 244 0 0) (hG : dmI dmM (XG X)) (hnl : nLof X = 9) (fu : Nat) (M : Mem) (x3 x4 x5 x6 x7 x8 : Int32) : J X (ZN X foI) (FX8_surest_98 fu (XD X) M x3 x4 x5 x6 x7 x8) 98 [(0, .ref (gadr (XG X) (5, 0, 0))), (3, .int x3), (4, .int x4), (5, .int x5), (6, .int x6), (7, .int x7), (8, .int x8)] [] M 0 0 := by
  exact j_lp (lvf := fun z => [(0, .ref (gadr (XG X) (5, 0, 0))), (3, .int (z.2.1)), (4, .int (z.2.2.1)), (5, .int (z.2.2.2.1)), (6, .int (z.2.2.2.2.1)), (7, .int (z.2.2.2.2.2.1)), (8, .int (z.2.2.2.2.2.2))]) (Mf := fun z => z.1) (fun kn hk z => wgX8_surest_98 hC hG hnl fu kn (fun M x3 x4 x5 x6 x7 x8 => hk (M, x3, x4, x5, x6, x7, x8)) z.1 z.2.1 z.2.2.1 z.2.2.2.1 z.2.2.2.2.1 z.2.2.2.2.2.1 z.2.2.2.2.2.2) fu (M, x3, x4, x5, x6, x7, x8)
set_option linter.unusedVariables false in
set_option maxRecDepth 100000 in
theorem wX8_surest_68 {X : JX} (hC : JC X cX8_surest RX8 (some .int) 11 244 0 0) (hG : dmI dmM (XG X)) (hnl : nLof X = 9) (fu : Nat) (M : Mem) (x3 x4 t0 t1 : Int32) : J X (ZN X foI) (FX8_surest_68 fu (XD X) M x3 x4 t0 t1) 68 [(0, .ref (gadr (XG X) (5, 0, 0))), (3, .int x3), (4, .int x4)] [.int t0, .int t1, .ref (gadr (XG X) (5, 0, 0))] M 0 0 := by
  unfold FX8_surest_68
  refine j_callV (nA := 2) (rest := []) hC [.int t1, .int t0] rfl (fun r hr => mX8_choices (XL X) (XG X) hG fu (XD X) M t1 t0 r hr) q1938 q1940 qs105 q136 q1941 (dmMo hG rfl) rfl rfl (by decide +kernel) rfl rfl rfl rfl rfl rfl dX8_surest_68 (fun v68 => [.int v68]) (fun _ => rfl) (fun v68 M68 => ?_)
  refine j_istore hC [(5, .int v68), (0, .ref (gadr (XG X) (5, 0, 0))), (3, .int x3), (4, .int x4)] hnl dX8_surest_71 rfl rfl ?_
  refine j_iload hC 3 dX8_surest_73 rfl ?_
  refine j_if_eq (tgt := 83) hC dX8_surest_75 (by decide) (fun h75 => ?_) (fun h75 => ?_)
  · exact j_sub [] rfl (wX8_surest_83 hC hG hnl fu M68)
  · refine j_iload hC 0 dX8_surest_78 rfl ?_
    refine j_if_ne (tgt := 85) hC dX8_surest_80 (by decide) (fun h80 => ?_) (fun h80 => ?_)
    · exact j_sub [] rfl (wX8_surest_83 hC hG hnl fu M68)
    · refine j_aload_n hC 1 dX8_surest_85 rfl ?_
      refine j_callV (nA := 0) (rest := []) hC [] rfl (fun r hr => mX8_laysAllGoods (XL X) (XG X) hG fu (XD X) M68 r hr) q1874 q1876 qs95 q136 q1877 (dmMo hG rfl) rfl rfl (by decide +kernel) rfl rfl rfl rfl rfl rfl dX8_surest_86 (fun _ => []) (fun _ => rfl) (fun v86 M86 => ?_)
      refine j_iconst (v := (-1)) hC dX8_surest_89 (by decide) ?_
      refine j_istore hC [(6, .int ((-1))), (5, .int v68), (0, .ref (gadr (XG X) (5, 0, 0))), (3, .int x3), (4, .int x4)] hnl dX8_surest_90 rfl rfl ?_
      refine j_iconst (v := (-1)) hC dX8_surest_92 (by decide) ?_
      refine j_istore hC [(7, .int ((-1))), (6, .int ((-1))), (5, .int v68), (0, .ref (gadr (XG X) (5, 0, 0))), (3, .int x3), (4, .int x4)] hnl dX8_surest_93 rfl rfl ?_
      refine j_iconst (v := 0) hC dX8_surest_95 (by decide) ?_
      refine j_istore hC [(8, .int 0), (7, .int ((-1))), (6, .int ((-1))), (5, .int v68), (0, .ref (gadr (XG X) (5, 0, 0))), (3, .int x3), (4, .int x4)] hnl dX8_surest_96 rfl rfl ?_
      exact j_sub [4, 5, 6, 3, 2, 1, 0] rfl (wX8_surest_98 hC hG hnl fu M86 x3 x4 v68 (-1) (-1) 0)
set_option linter.unusedVariables false in
set_option maxRecDepth 100000 in
theorem wX8_surest_52 {X : JX} (hC : JC X cX8_surest RX8 (some .int) 11 244 0 0) (hG : dmI dmM (XG X)) (hnl : nLof X = 9) (fu : Nat) (M : Mem) (x1 x2 x3 t0 t1 : Int32) : J X (ZN X foI) (FX8_surest_52 fu (XD X) M x1 x2 x3 t0 t1) 52 [(0, .ref (gadr (XG X) (5, 0, 0))), (1, .int x1), (2, .int x2), (3, .int x3)] [.int t0, .int t1, .ref (gadr (XG X) (5, 0, 0))] M 0 0 := by
  unfold FX8_surest_52
  refine j_callV (nA := 2) (rest := []) hC [.int t1, .int t0] rfl (fun r hr => mX8_choices (XL X) (XG X) hG fu (XD X) M t1 t0 r hr) q1938 q1940 qs105 q136 q1941 (dmMo hG rfl) rfl rfl (by decide +kernel) rfl rfl rfl rfl rfl rfl dX8_surest_52 (fun v52 => [.int v52]) (fun _ => rfl) (fun v52 M52 => ?_)
  refine j_istore hC [(4, .int v52), (0, .ref (gadr (XG X) (5, 0, 0))), (1, .int x1), (2, .int x2), (3, .int x3)] hnl dX8_surest_55 rfl rfl ?_
  refine j_aload_n hC 1 dX8_surest_57 rfl ?_
  refine j_iload_n hC 2 dX8_surest_58 rfl ?_
  refine j_iload_n hC 3 dX8_surest_59 rfl ?_
  refine j_if_eq (tgt := 67) hC dX8_surest_60 (by decide) (fun h60 => ?_) (fun h60 => ?_)
  · refine j_iconst (v := 1) hC dX8_surest_67 (by decide) ?_
    exact j_sub [1, 4, 0] rfl (wX8_surest_68 hC hG hnl fu M52 x3 v52 1 x1)
  · refine j_iconst (v := 0) hC dX8_surest_63 (by decide) ?_
    refine j_goto (tgt := 68) hC dX8_surest_64 (by decide) ?_
    exact j_sub [1, 4, 0] rfl (wX8_surest_68 hC hG hnl fu M52 x3 v52 0 x1)
set_option linter.unusedVariables false in
set_option maxRecDepth 100000 in
theorem wX8_surest_32 {X : JX} (hC : JC X cX8_surest RX8 (some .int) 11 244 0 0) (hG : dmI dmM (XG X)) (hnl : nLof X = 9) (fu : Nat) (M : Mem) (x1 x2 x3 t0 : Int32) : J X (ZN X foI) (FX8_surest_32 fu (XD X) M x1 x2 x3 t0) 32 [(0, .ref (gadr (XG X) (5, 0, 0))), (1, .int x1), (2, .int x2), (3, .int x3)] [.int t0, .ref (gadr (XG X) (5, 0, 0))] M 0 0 := by
  unfold FX8_surest_32
  refine j_iconst (v := 2) hC dX8_surest_32 (by decide) ?_
  refine j_callV (nA := 2) (rest := []) hC [.int t0, .int 2] rfl (fun r hr => mX8_throwsIf (XL X) (XG X) hG fu (XD X) M t0 2 r hr) q1748 q1750 qs76 q136 q1751 (dmMo hG rfl) rfl rfl (by decide +kernel) rfl rfl rfl rfl rfl rfl dX8_surest_33 (fun v33 => [.int v33]) (fun _ => rfl) (fun v33 M33 => ?_)
  refine j_if_eq (tgt := 41) hC dX8_surest_36 (by decide) (fun h36 => ?_) (fun h36 => ?_)
  · refine j_aload_n hC 0 dX8_surest_41 rfl ?_
    refine j_iload_n hC 1 dX8_surest_42 rfl ?_
    refine j_iload_n hC 2 dX8_surest_43 rfl ?_
    refine j_if_eq (tgt := 51) hC dX8_surest_44 (by decide) (fun h44 => ?_) (fun h44 => ?_)
    · refine j_iconst (v := 0) hC dX8_surest_51 (by decide) ?_
      exact j_sub [0, 1, 2, 3] rfl (wX8_surest_52 hC hG hnl fu M33 x1 x2 x3 0 x1)
    · refine j_iconst (v := 1) hC dX8_surest_47 (by decide) ?_
      refine j_goto (tgt := 52) hC dX8_surest_48 (by decide) ?_
      exact j_sub [0, 1, 2, 3] rfl (wX8_surest_52 hC hG hnl fu M33 x1 x2 x3 1 x1)
  · exact j_sub [] rfl (wX8_surest_39 hC hG hnl fu M33)
set_option linter.unusedVariables false in
set_option maxRecDepth 100000 in
theorem wX8_surest {X : JX} (hC : JC X cX8_surest RX8 (some .int) 11 244 0 0) (hG : dmI dmM (XG X)) (hnl : nLof X = 9) (fu : Nat) (M : Mem) (x1 x2 x3 : Int32) : J X (ZN X foI) (FX8_surest fu (XD X) M x1 x2 x3) 0 [(0, .ref (gadr (XG X) (5, 0, 0))), (1, .int x1), (2, .int x2), (3, .int x3)] [] M 0 0 := by
  unfold FX8_surest
  refine j_aload_n hC 0 dX8_surest_0 rfl ?_
  refine j_iconst (v := 0) hC dX8_surest_1 (by decide) ?_
  refine j_put (fk := 0) (ty := .int) hC (dmMo hG rfl) rfl rfl in_X8 rfl rfl q1464 tyX8 tyX8_ok nmX8 rfl rfl (by decide +kernel) rfl rfl dX8_surest_2 ?_
  refine j_lt (fun M2 => ?_)
  refine j_aload_n hC 0 dX8_surest_5 rfl ?_
  refine j_aload_n hC 0 dX8_surest_6 rfl ?_
  refine j_iload_n hC 1 dX8_surest_7 rfl ?_
  refine j_callV (nA := 1) (rest := [.ref (gadr (XG X) (5, 0, 0))]) hC [.int x1] rfl (fun r hr => mX8_noCase (XL X) (XG X) hG fu (XD X) M2 x1 r hr) q1930 q1932 qs103 q136 q1933 (dmMo hG rfl) rfl rfl (by decide +kernel) rfl rfl rfl rfl rfl rfl dX8_surest_8 (fun v8 => [.int v8, .ref (gadr (XG X) (5, 0, 0))]) (fun _ => rfl) (fun v8 M8 => ?_)
  refine j_iconst (v := 1) hC dX8_surest_11 (by decide) ?_
  refine j_callV (nA := 2) (rest := []) hC [.int v8, .int 1] rfl (fun r hr => mX8_throwsIf (XL X) (XG X) hG fu (XD X) M8 v8 1 r hr) q1748 q1750 qs76 q136 q1751 (dmMo hG rfl) rfl rfl (by decide +kernel) rfl rfl rfl rfl rfl rfl dX8_surest_12 (fun v12 => [.int v12]) (fun _ => rfl) (fun v12 M12 => ?_)
  refine j_if_ne (tgt := 39) hC dX8_surest_15 (by decide) (fun h15 => ?_) (fun h15 => ?_)
  · refine j_aload_n hC 0 dX8_surest_18 rfl ?_
    refine j_aload_n hC 0 dX8_surest_19 rfl ?_
    refine j_iload_n hC 1 dX8_surest_20 rfl ?_
    refine j_callV (nA := 1) (rest := [.ref (gadr (XG X) (5, 0, 0))]) hC [.int x1] rfl (fun r hr => mX8_isOpen (XL X) (XG X) hG fu (XD X) M12 x1 r hr) q1950 q1952 qs106 q136 q1953 (dmMo hG rfl) rfl rfl (by decide +kernel) rfl rfl rfl rfl rfl rfl dX8_surest_21 (fun v21 => [.int v21, .ref (gadr (XG X) (5, 0, 0))]) (fun _ => rfl) (fun v21 M21 => ?_)
    refine j_if_ne (tgt := 31) hC dX8_surest_24 (by decide) (fun h24 => ?_) (fun h24 => ?_)
    · refine j_iconst (v := 1) hC dX8_surest_27 (by decide) ?_
      refine j_goto (tgt := 32) hC dX8_surest_28 (by decide) ?_
      exact j_sub [0, 1, 2, 3] rfl (wX8_surest_32 hC hG hnl fu M21 x1 x2 x3 1)
    · refine j_iconst (v := 0) hC dX8_surest_31 (by decide) ?_
      exact j_sub [0, 1, 2, 3] rfl (wX8_surest_32 hC hG hnl fu M21 x1 x2 x3 0)
  · exact j_sub [] rfl (wX8_surest_39 hC hG hnl fu M12)
set_option linter.unusedVariables false in
set_option maxRecDepth 100000 in
theorem mX8_surest (l : Launch) (Γ : xG) (hG : dmI dmM Γ) (fu : Nat) (D : List LDen) (M : Mem) (x1 x2 x3 : Int32) (r : Int32 × Mem) (hr : FX8_surest fu D M x1 x2 x3 = some r) : CN l yX8_surest (ws_ yX8_surest cX8_surest 9 (some .int)) 11 244 Γ D [.ref (gadr Γ (5, 0, 0)), .int x1, .int x2, .int x3] M (foI r.1) r.2 := by
  refine CN.of (own := RX8) (lv0 := lv_args 0 [.ref (gadr Γ (5, 0, 0)), .int x1, .int x2, .int x3]) (by decide +kernel) rfl (Nat.le_of_ble_eq_true rfl) rfl (fun X e1 e2 e3 e4 hC => ?_) r hr
  subst e1
  subst e2
  exact wX8_surest hC hG e4 fu M x1 x2 x3
set_option linter.unusedVariables false in
set_option maxRecDepth 100000 in
theorem wX8_isBestOf_39 {X : JX} (hC : JC X cX8_isBestOf RX8 (some .boolean) 4 82 0 0) (hG : dmI dmM (XG X)) (hnl : nLof X = 5) (fu : Nat) (kn3 : Mem × Int32 × Int32 × Int32 × Int32 → Option (Int32 × Mem)) (hk3 : ∀ (M : Mem) (x1 x2 x3 x4 : Int32), J X (ZN X foI) (kn3 (M, x1, x2, x3, x4)) 3 [(0, .ref (gadr (XG X) (5, 0, 0))), (1, .int x1), (2, .int x2), (3, .int x3), (4, .int x4)] [] M 0 0) (M : Mem) (x1 x2 x3 x4 : Int32) : J X (ZN X foI) (FX8_isBestOf_39 fu (XD X) kn3 M x1 x2 x3 x4) 39 [(0, .ref (gadr (XG X) (5, 0, 0))), (1, .int x1), (2, .int x2), (3, .int x3), (4, .int x4)] [] M 0 0 := by
  unfold FX8_isBestOf_39
  refine j_iincL hC 4 (fun y39 => [(4, .int y39), (0, .ref (gadr (XG X) (5, 0, 0))), (1, .int x1), (2, .int x2), (3, .int x3)]) hnl dX8_isBestOf_39 rfl (by decide) rfl (fun _ => rfl) (fun y39 => ?_)
  refine j_goto (tgt := 3) hC dX8_isBestOf_42 (by decide) ?_
  exact j_sub [1, 2, 3, 4, 0] rfl (hk3 M x1 x2 x3 y39)
set_option linter.unusedVariables false in
set_option maxRecDepth 100000 in
theorem wgX8_isBestOf_3 {X : JX} (hC : JC X cX8_isBestOf RX8 (some .boolean) 4 82 0 0) (hG : dmI dmM (XG X)) (hnl : nLof X = 5) (fu : Nat) (kn3 : Mem × Int32 × Int32 × Int32 × Int32 → Option (Int32 × Mem)) (hk3 : ∀ (M : Mem) (x1 x2 x3 x4 : Int32), J X (ZN X foI) (kn3 (M, x1, x2, x3, x4)) 3 [(0, .ref (gadr (XG X) (5, 0, 0))), (1, .int x1), (2, .int x2), (3, .int x3), (4, .int x4)] [] M 0 0) (M : Mem) (x1 x2 x3 x4 : Int32) : J X (ZN X foI) (GX8_isBestOf_3 fu (XD X) kn3 M x1 x2 x3 x4) 3 [(0, .ref (gadr (XG X) (5, 0, 0))), (1, .int x1), (2, .int x2), (3, .int x3), (4, .int x4)] [] M 0 0 := by
  unfold GX8_isBestOf_3
  refine j_iload hC 4 dX8_isBestOf_3 rfl ?_
  refine j_aload_n hC 0 dX8_isBestOf_5 rfl ?_
  refine j_callV (nA := 0) (rest := [.int x4]) hC [] rfl (fun r hr => mX8_birds (XL X) (XG X) hG fu (XD X) M r hr) q1622 q1624 qs54 q136 q1625 (dmMo hG rfl) rfl rfl (by decide +kernel) rfl rfl rfl rfl rfl rfl dX8_isBestOf_6 (fun v6 => [.int v6, .int x4]) (fun _ => rfl) (fun v6 M6 => ?_)
  refine j_icmp_ge (tgt := 45) hC dX8_isBestOf_9 (by decide) (fun h9 => ?_) (fun h9 => ?_)
  · refine j_iconst (v := 1) hC dX8_isBestOf_45 (by decide) ?_
    exact j_zret hC (by decide) dX8_isBestOf_46
  · refine j_iload_n hC 3 dX8_isBestOf_12 rfl ?_
    refine j_iload hC 4 dX8_isBestOf_13 rfl ?_
    refine j_callS (nA := 2) (rest := []) hC [.int x3, .int x4] rfl (fun r hr => mX8_has (XL X) (XG X) hG fu (XD X) M6 x3 x4 r hr) q1644 q1645 q136 q1646 (by decide +kernel) rfl rfl rfl rfl rfl rfl dX8_isBestOf_15 (fun v15 => [.int v15]) (fun _ => rfl) (fun v15 M15 => ?_)
    refine j_if_eq (tgt := 39) hC dX8_isBestOf_18 (by decide) (fun h18 => ?_) (fun h18 => ?_)
    · exact j_sub [0, 1, 2, 3, 4] rfl (wX8_isBestOf_39 hC hG hnl fu kn3 hk3 M15 x1 x2 x3 x4)
    · refine j_aload_n hC 0 dX8_isBestOf_21 rfl ?_
      refine j_iload hC 4 dX8_isBestOf_22 rfl ?_
      refine j_iload_n hC 2 dX8_isBestOf_24 rfl ?_
      refine j_callV (nA := 2) (rest := []) hC [.int x4, .int x2] rfl (fun r hr => mX8_firstHas (XL X) (XG X) hG fu (XD X) M15 x4 x2 r hr) q1882 q1884 qs97 q136 q1885 (dmMo hG rfl) rfl rfl (by decide +kernel) rfl rfl rfl rfl rfl rfl dX8_isBestOf_25 (fun v25 => [.int v25]) (fun _ => rfl) (fun v25 M25 => ?_)
      refine j_aload_n hC 0 dX8_isBestOf_28 rfl ?_
      refine j_iload_n hC 1 dX8_isBestOf_29 rfl ?_
      refine j_iload_n hC 2 dX8_isBestOf_30 rfl ?_
      refine j_callV (nA := 2) (rest := [.int v25]) hC [.int x1, .int x2] rfl (fun r hr => mX8_firstHas (XL X) (XG X) hG fu (XD X) M25 x1 x2 r hr) q1882 q1884 qs97 q136 q1885 (dmMo hG rfl) rfl rfl (by decide +kernel) rfl rfl rfl rfl rfl rfl dX8_isBestOf_31 (fun v31 => [.int v31, .int v25]) (fun _ => rfl) (fun v31 M31 => ?_)
      refine j_icmp_le (tgt := 39) hC dX8_isBestOf_34 (by decide) (fun h34 => ?_) (fun h34 => ?_)
      · exact j_sub [0, 1, 2, 3, 4] rfl (wX8_isBestOf_39 hC hG hnl fu kn3 hk3 M31 x1 x2 x3 x4)
      · refine j_iconst (v := 0) hC dX8_isBestOf_37 (by decide) ?_
        exact j_zret hC (by decide) dX8_isBestOf_38
set_option linter.unusedVariables false in
set_option maxRecDepth 100000 in
theorem wX8_isBestOf_3 {X : JX} (hC : JC X cX8_isBestOf RX8 (some .boolean) 4 82 0 0) (hG : dmI dmM (XG X)) (hnl : nLof X = 5) (fu : Nat) (M : Mem) (x1 x2 x3 x4 : Int32) : J X (ZN X foI) (FX8_isBestOf_3 fu (XD X) M x1 x2 x3 x4) 3 [(0, .ref (gadr (XG X) (5, 0, 0))), (1, .int x1), (2, .int x2), (3, .int x3), (4, .int x4)] [] M 0 0 := by
  exact j_lp (lvf := fun z => [(0, .ref (gadr (XG X) (5, 0, 0))), (1, .int (z.2.1)), (2, .int (z.2.2.1)), (3, .int (z.2.2.2.1)), (4, .int (z.2.2.2.2))]) (Mf := fun z => z.1) (fun kn hk z => wgX8_isBestOf_3 hC hG hnl fu kn (fun M x1 x2 x3 x4 => hk (M, x1, x2, x3, x4)) z.1 z.2.1 z.2.2.1 z.2.2.2.1 z.2.2.2.2) fu (M, x1, x2, x3, x4)
set_option linter.unusedVariables false in
set_option maxRecDepth 100000 in
theorem wX8_isBestOf {X : JX} (hC : JC X cX8_isBestOf RX8 (some .boolean) 4 82 0 0) (hG : dmI dmM (XG X)) (hnl : nLof X = 5) (fu : Nat) (M : Mem) (x1 x2 x3 : Int32) : J X (ZN X foI) (FX8_isBestOf fu (XD X) M x1 x2 x3) 0 [(0, .ref (gadr (XG X) (5, 0, 0))), (1, .int x1), (2, .int x2), (3, .int x3)] [] M 0 0 := by
  unfold FX8_isBestOf
  refine j_iconst (v := 0) hC dX8_isBestOf_0 (by decide) ?_
  refine j_istore hC [(4, .int 0), (0, .ref (gadr (XG X) (5, 0, 0))), (1, .int x1), (2, .int x2), (3, .int x3)] hnl dX8_isBestOf_1 rfl rfl ?_
  exact j_sub [1, 2, 3, 4, 0] rfl (wX8_isBestOf_3 hC hG hnl fu M x1 x2 x3 0)
set_option linter.unusedVariables false in
set_option maxRecDepth 100000 in
theorem mX8_isBestOf (l : Launch) (Γ : xG) (hG : dmI dmM Γ) (fu : Nat) (D : List LDen) (M : Mem) (x1 x2 x3 : Int32) (r : Int32 × Mem) (hr : FX8_isBestOf fu D M x1 x2 x3 = some r) : CN l yX8_isBestOf (ws_ yX8_isBestOf cX8_isBestOf 5 (some .boolean)) 4 82 Γ D [.ref (gadr Γ (5, 0, 0)), .int x1, .int x2, .int x3] M (foI r.1) r.2 := by
  refine CN.of (own := RX8) (lv0 := lv_args 0 [.ref (gadr Γ (5, 0, 0)), .int x1, .int x2, .int x3]) (by decide +kernel) rfl (Nat.le_of_ble_eq_true rfl) rfl (fun X e1 e2 e3 e4 hC => ?_) r hr
  subst e1
  subst e2
  exact wX8_isBestOf hC hG e4 fu M x1 x2 x3
set_option linter.unusedVariables false in
set_option maxRecDepth 100000 in
theorem wX8_rests_39 {X : JX} (hC : JC X cX8_rests RX8 (some .int) 11 244 0 0) (hG : dmI dmM (XG X)) (hnl : nLof X = 10) (fu : Nat) (M : Mem) : J X (ZN X foI) (FX8_rests_39 fu (XD X) M) 39 [] [] M 0 0 := by
  unfold FX8_rests_39
  refine j_iconst (v := 0) hC dX8_rests_39 (by decide) ?_
  exact j_iret hC dX8_rests_40
set_option linter.unusedVariables false in
set_option maxRecDepth 100000 in
theorem wX8_rests_166 {X : JX} (hC : JC X cX8_rests RX8 (some .int) 11 244 0 0) (hG : dmI dmM (XG X)) (hnl : nLof X = 10) (fu : Nat) (M : Mem) (t0 : Int32) : J X (ZN X foI) (FX8_rests_166 fu (XD X) M t0) 166 [] [.int t0] M 0 0 := by
  unfold FX8_rests_166
  exact j_iret hC dX8_rests_166
set_option linter.unusedVariables false in
set_option maxRecDepth 100000 in
theorem wX8_rests_149 {X : JX} (hC : JC X cX8_rests RX8 (some .int) 11 244 0 0) (hG : dmI dmM (XG X)) (hnl : nLof X = 10) (fu : Nat) (kn70 : Mem × Int32 × Int32 × Int32 × Int32 × Int32 × Int32 → Option (Int32 × Mem)) (hk70 : ∀ (M : Mem) (x2 x3 x4 x5 x6 x7 : Int32), J X (ZN X foI) (kn70 (M, x2, x3, x4, x5, x6, x7)) 70 [(0, .ref (gadr (XG X) (5, 0, 0))), (2, .int x2), (3, .int x3), (4, .int x4), (5, .int x5), (6, .int x6), (7, .int x7)] [] M 0 0) (M : Mem) (x2 x3 x4 x5 x6 x7 : Int32) : J X (ZN X foI) (FX8_rests_149 fu (XD X) kn70 M x2 x3 x4 x5 x6 x7) 149 [(0, .ref (gadr (XG X) (5, 0, 0))), (2, .int x2), (3, .int x3), (4, .int x4), (5, .int x5), (6, .int x6), (7, .int x7)] [] M 0 0 := by
  unfold FX8_rests_149
  refine j_iincL hC 6 (fun y149 => [(7, .int y149), (0, .ref (gadr (XG X) (5, 0, 0))), (2, .int x2), (3, .int x3), (4, .int x4), (5, .int x5), (6, .int x6)]) hnl dX8_rests_149 rfl (by decide) rfl (fun _ => rfl) (fun y149 => ?_)
  refine j_goto (tgt := 70) hC dX8_rests_152 (by decide) ?_
  exact j_sub [1, 2, 3, 4, 5, 6, 0] rfl (hk70 M x2 x3 x4 x5 x6 y149)
set_option linter.unusedVariables false in
set_option maxRecDepth 100000 in
theorem wgX8_rests_70 {X : JX} (hC : JC X cX8_rests RX8 (some .int) 11 244 0 0) (hG : dmI dmM (XG X)) (hnl : nLof X = 10) (fu : Nat) (kn70 : Mem × Int32 × Int32 × Int32 × Int32 × Int32 × Int32 → Option (Int32 × Mem)) (hk70 : ∀ (M : Mem) (x2 x3 x4 x5 x6 x7 : Int32), J X (ZN X foI) (kn70 (M, x2, x3, x4, x5, x6, x7)) 70 [(0, .ref (gadr (XG X) (5, 0, 0))), (2, .int x2), (3, .int x3), (4, .int x4), (5, .int x5), (6, .int x6), (7, .int x7)] [] M 0 0) (M : Mem) (x2 x3 x4 x5 x6 x7 : Int32) : J X (ZN X foI) (GX8_rests_70 fu (XD X) kn70 M x2 x3 x4 x5 x6 x7) 70 [(0, .ref (gadr (XG X) (5, 0, 0))), (2, .int x2), (3, .int x3), (4, .int x4), (5, .int x5), (6, .int x6), (7, .int x7)] [] M 0 0 := by
  unfold GX8_rests_70
  refine j_iload hC 6 dX8_rests_70 rfl ?_
  refine j_if_lt (tgt := 155) hC dX8_rests_72 (by decide) (fun h72 => ?_) (fun h72 => ?_)
  · refine j_iload_n hC 1 dX8_rests_155 rfl ?_
    refine j_if_eq (tgt := 164) hC dX8_rests_156 (by decide) (fun h156 => ?_) (fun h156 => ?_)
    · refine j_iload hC 4 dX8_rests_164 rfl ?_
      exact j_sub [] rfl (wX8_rests_166 hC hG hnl fu M x5)
    · refine j_iload hC 5 dX8_rests_159 rfl ?_
      refine j_goto (tgt := 166) hC dX8_rests_161 (by decide) ?_
      exact j_sub [] rfl (wX8_rests_166 hC hG hnl fu M x6)
  · refine j_iload hC 6 dX8_rests_75 rfl ?_
    refine j_bipush (v := 6) hC dX8_rests_77 (by decide) ?_
    refine j_idivL hC dX8_rests_79 (by decide) ?_
    refine j_ltT (fun y80 => ?_)
    refine j_istore hC [(8, .int y80), (0, .ref (gadr (XG X) (5, 0, 0))), (2, .int x2), (3, .int x3), (4, .int x4), (5, .int x5), (6, .int x6), (7, .int x7)] hnl dX8_rests_80 rfl rfl ?_
    refine j_iload hC 7 dX8_rests_82 rfl ?_
    refine j_bipush (v := 6) hC dX8_rests_84 (by decide) ?_
    refine j_iremL hC dX8_rests_86 (by decide) ?_
    refine j_ltT (fun y87 => ?_)
    refine j_istore hC [(9, .int y87), (8, .int y80), (0, .ref (gadr (XG X) (5, 0, 0))), (2, .int x2), (3, .int x3), (4, .int x4), (5, .int x5), (6, .int x6), (7, .int x7)] hnl dX8_rests_87 rfl rfl ?_
    refine j_iload_n hC 4 dX8_rests_89 rfl ?_
    refine j_iload hC 1 dX8_rests_90 rfl ?_
    refine j_callS (nA := 2) (rest := []) hC [.int x3, .int y80] rfl (fun r hr => mX8_has (XL X) (XG X) hG fu (XD X) M x3 y80 r hr) q1644 q1645 q136 q1646 (by decide +kernel) rfl rfl rfl rfl rfl rfl dX8_rests_92 (fun v92 => [.int v92]) (fun _ => rfl) (fun v92 M92 => ?_)
    refine j_if_eq (tgt := 149) hC dX8_rests_95 (by decide) (fun h95 => ?_) (fun h95 => ?_)
    · exact j_sub [2, 3, 4, 5, 6, 7, 8] rfl (wX8_rests_149 hC hG hnl fu kn70 hk70 M92 x2 x3 x4 x5 x6 x7)
    · refine j_iload hC 5 dX8_rests_98 rfl ?_
      refine j_iload hC 0 dX8_rests_100 rfl ?_
      refine j_callS (nA := 2) (rest := []) hC [.int x4, .int y87] rfl (fun r hr => mX8_has (XL X) (XG X) hG fu (XD X) M92 x4 y87 r hr) q1644 q1645 q136 q1646 (by decide +kernel) rfl rfl rfl rfl rfl rfl dX8_rests_102 (fun v102 => [.int v102]) (fun _ => rfl) (fun v102 M102 => ?_)
      refine j_if_eq (tgt := 149) hC dX8_rests_105 (by decide) (fun h105 => ?_) (fun h105 => ?_)
      · exact j_sub [2, 3, 4, 5, 6, 7, 8] rfl (wX8_rests_149 hC hG hnl fu kn70 hk70 M102 x2 x3 x4 x5 x6 x7)
      · refine j_aload_n hC 2 dX8_rests_108 rfl ?_
        refine j_iload hC 1 dX8_rests_109 rfl ?_
        refine j_iload hC 0 dX8_rests_111 rfl ?_
        refine j_iload_n hC 4 dX8_rests_113 rfl ?_
        refine j_callV (nA := 3) (rest := []) hC [.int y80, .int y87, .int x3] rfl (fun r hr => mX8_isBestOf (XL X) (XG X) hG fu (XD X) M102 y80 y87 x3 r hr) q1965 q1967 qs108 q136 q1968 (dmMo hG rfl) rfl rfl (by decide +kernel) rfl rfl rfl rfl rfl rfl dX8_rests_114 (fun v114 => [.int v114]) (fun _ => rfl) (fun v114 M114 => ?_)
        refine j_if_eq (tgt := 149) hC dX8_rests_117 (by decide) (fun h117 => ?_) (fun h117 => ?_)
        · exact j_sub [2, 3, 4, 5, 6, 7, 8] rfl (wX8_rests_149 hC hG hnl fu kn70 hk70 M114 x2 x3 x4 x5 x6 x7)
        · refine j_aload_n hC 2 dX8_rests_120 rfl ?_
          refine j_iload hC 0 dX8_rests_121 rfl ?_
          refine j_iload hC 1 dX8_rests_123 rfl ?_
          refine j_iload hC 5 dX8_rests_125 rfl ?_
          refine j_callV (nA := 3) (rest := []) hC [.int y87, .int y80, .int x4] rfl (fun r hr => mX8_isBestOf (XL X) (XG X) hG fu (XD X) M114 y87 y80 x4 r hr) q1965 q1967 qs108 q136 q1968 (dmMo hG rfl) rfl rfl (by decide +kernel) rfl rfl rfl rfl rfl rfl dX8_rests_127 (fun v127 => [.int v127]) (fun _ => rfl) (fun v127 M127 => ?_)
          refine j_if_ne (tgt := 136) hC dX8_rests_130 (by decide) (fun h130 => ?_) (fun h130 => ?_)
          · refine j_goto (tgt := 149) hC dX8_rests_133 (by decide) ?_
            exact j_sub [2, 3, 4, 5, 6, 7, 8] rfl (wX8_rests_149 hC hG hnl fu kn70 hk70 M127 x2 x3 x4 x5 x6 x7)
          · refine j_iincL hC 6 (fun y136 => [(5, .int y136), (9, .int y87), (8, .int y80), (0, .ref (gadr (XG X) (5, 0, 0))), (2, .int x2), (3, .int x3), (4, .int x4), (6, .int x6), (7, .int x7)]) hnl dX8_rests_136 rfl (by decide) rfl (fun _ => rfl) (fun y136 => ?_)
            refine j_bipush (v := 10) hC dX8_rests_139 (by decide) ?_
            refine j_iload hC 2 dX8_rests_141 rfl ?_
            refine j_imul hC dX8_rests_143 ?_
            refine j_iload hC 1 dX8_rests_144 rfl ?_
            refine j_iadd hC dX8_rests_146 ?_
            refine j_ltT (fun y147 => ?_)
            refine j_istore hC [(6, .int y147), (5, .int y136), (9, .int y87), (8, .int y80), (0, .ref (gadr (XG X) (5, 0, 0))), (2, .int x2), (3, .int x3), (4, .int x4), (7, .int x7)] hnl dX8_rests_147 rfl rfl ?_
            exact j_sub [4, 5, 6, 7, 1, 0, 8] rfl (wX8_rests_149 hC hG hnl fu kn70 hk70 M127 x2 x3 x4 y136 y147 x7)
set_option linter.unusedVariables false in
set_option maxRecDepth 100000 in
theorem wX8_rests_70 {X : JX} (hC : JC X cX8_rests RX8 (some .int) 11 244 0 0) (hG : dmI dmM (XG X)) (hnl : nLof X = 10) (fu : Nat) (M : Mem) (x2 x3 x4 x5 x6 x7 : Int32) : J X (ZN X foI) (FX8_rests_70 fu (XD X) M x2 x3 x4 x5 x6 x7) 70 [(0, .ref (gadr (XG X) (5, 0, 0))), (2, .int x2), (3, .int x3), (4, .int x4), (5, .int x5), (6, .int x6), (7, .int x7)] [] M 0 0 := by
  exact j_lp (lvf := fun z => [(0, .ref (gadr (XG X) (5, 0, 0))), (2, .int (z.2.1)), (3, .int (z.2.2.1)), (4, .int (z.2.2.2.1)), (5, .int (z.2.2.2.2.1)), (6, .int (z.2.2.2.2.2.1)), (7, .int (z.2.2.2.2.2.2))]) (Mf := fun z => z.1) (fun kn hk z => wgX8_rests_70 hC hG hnl fu kn (fun M x2 x3 x4 x5 x6 x7 => hk (M, x2, x3, x4, x5, x6, x7)) z.1 z.2.1 z.2.2.1 z.2.2.2.1 z.2.2.2.2.1 z.2.2.2.2.2.1 z.2.2.2.2.2.2) fu (M, x2, x3, x4, x5, x6, x7)
set_option linter.unusedVariables false in
set_option maxRecDepth 100000 in
theorem wX8_rests_32 {X : JX} (hC : JC X cX8_rests RX8 (some .int) 11 244 0 0) (hG : dmI dmM (XG X)) (hnl : nLof X = 10) (fu : Nat) (M : Mem) (x1 x2 t0 : Int32) : J X (ZN X foI) (FX8_rests_32 fu (XD X) M x1 x2 t0) 32 [(0, .ref (gadr (XG X) (5, 0, 0))), (1, .int x1), (2, .int x2)] [.int t0, .ref (gadr (XG X) (5, 0, 0))] M 0 0 := by
  unfold FX8_rests_32
  refine j_iconst (v := 2) hC dX8_rests_32 (by decide) ?_
  refine j_callV (nA := 2) (rest := []) hC [.int t0, .int 2] rfl (fun r hr => mX8_throwsIf (XL X) (XG X) hG fu (XD X) M t0 2 r hr) q1748 q1750 qs76 q136 q1751 (dmMo hG rfl) rfl rfl (by decide +kernel) rfl rfl rfl rfl rfl rfl dX8_rests_33 (fun v33 => [.int v33]) (fun _ => rfl) (fun v33 M33 => ?_)
  refine j_if_eq (tgt := 41) hC dX8_rests_36 (by decide) (fun h36 => ?_) (fun h36 => ?_)
  · refine j_aload_n hC 0 dX8_rests_41 rfl ?_
    refine j_callV (nA := 0) (rest := []) hC [] rfl (fun r hr => mX8_laysAllGoods (XL X) (XG X) hG fu (XD X) M33 r hr) q1874 q1876 qs95 q136 q1877 (dmMo hG rfl) rfl rfl (by decide +kernel) rfl rfl rfl rfl rfl rfl dX8_rests_42 (fun _ => []) (fun _ => rfl) (fun v42 M42 => ?_)
    refine j_aload_n hC 0 dX8_rests_45 rfl ?_
    refine j_iload_n hC 1 dX8_rests_46 rfl ?_
    refine j_iconst (v := 0) hC dX8_rests_47 (by decide) ?_
    refine j_callV (nA := 2) (rest := []) hC [.int x1, .int 0] rfl (fun r hr => mX8_choices (XL X) (XG X) hG fu (XD X) M42 x1 0 r hr) q1938 q1940 qs105 q136 q1941 (dmMo hG rfl) rfl rfl (by decide +kernel) rfl rfl rfl rfl rfl rfl dX8_rests_48 (fun v48 => [.int v48]) (fun _ => rfl) (fun v48 M48 => ?_)
    refine j_istore_n hC [(3, .int v48), (0, .ref (gadr (XG X) (5, 0, 0))), (1, .int x1), (2, .int x2)] hnl dX8_rests_51 rfl rfl ?_
    refine j_aload_n hC 1 dX8_rests_52 rfl ?_
    refine j_iload_n hC 2 dX8_rests_53 rfl ?_
    refine j_iconst (v := 1) hC dX8_rests_54 (by decide) ?_
    refine j_callV (nA := 2) (rest := []) hC [.int x1, .int 1] rfl (fun r hr => mX8_choices (XL X) (XG X) hG fu (XD X) M48 x1 1 r hr) q1938 q1940 qs105 q136 q1941 (dmMo hG rfl) rfl rfl (by decide +kernel) rfl rfl rfl rfl rfl rfl dX8_rests_55 (fun v55 => [.int v55]) (fun _ => rfl) (fun v55 M55 => ?_)
    refine j_istore hC [(4, .int v55), (3, .int v48), (0, .ref (gadr (XG X) (5, 0, 0))), (1, .int x1), (2, .int x2)] hnl dX8_rests_58 rfl rfl ?_
    refine j_iconst (v := 0) hC dX8_rests_60 (by decide) ?_
    refine j_istore hC [(5, .int 0), (4, .int v55), (3, .int v48), (0, .ref (gadr (XG X) (5, 0, 0))), (1, .int x1), (2, .int x2)] hnl dX8_rests_61 rfl rfl ?_
    refine j_iconst (v := (-1)) hC dX8_rests_63 (by decide) ?_
    refine j_istore hC [(6, .int ((-1))), (5, .int 0), (4, .int v55), (3, .int v48), (0, .ref (gadr (XG X) (5, 0, 0))), (1, .int x1), (2, .int x2)] hnl dX8_rests_64 rfl rfl ?_
    refine j_bipush (v := 35) hC dX8_rests_66 (by decide) ?_
    refine j_istore hC [(7, .int 35), (6, .int ((-1))), (5, .int 0), (4, .int v55), (3, .int v48), (0, .ref (gadr (XG X) (5, 0, 0))), (1, .int x1), (2, .int x2)] hnl dX8_rests_68 rfl rfl ?_
    exact j_sub [5, 7, 4, 3, 2, 1, 0] rfl (wX8_rests_70 hC hG hnl fu M55 x2 v48 v55 0 (-1) 35)
  · exact j_sub [] rfl (wX8_rests_39 hC hG hnl fu M33)
set_option linter.unusedVariables false in
set_option maxRecDepth 100000 in
theorem wX8_rests {X : JX} (hC : JC X cX8_rests RX8 (some .int) 11 244 0 0) (hG : dmI dmM (XG X)) (hnl : nLof X = 10) (fu : Nat) (M : Mem) (x1 x2 : Int32) : J X (ZN X foI) (FX8_rests fu (XD X) M x1 x2) 0 [(0, .ref (gadr (XG X) (5, 0, 0))), (1, .int x1), (2, .int x2)] [] M 0 0 := by
  unfold FX8_rests
  refine j_aload_n hC 0 dX8_rests_0 rfl ?_
  refine j_iconst (v := 0) hC dX8_rests_1 (by decide) ?_
  refine j_put (fk := 0) (ty := .int) hC (dmMo hG rfl) rfl rfl in_X8 rfl rfl q1464 tyX8 tyX8_ok nmX8 rfl rfl (by decide +kernel) rfl rfl dX8_rests_2 ?_
  refine j_lt (fun M2 => ?_)
  refine j_aload_n hC 0 dX8_rests_5 rfl ?_
  refine j_aload_n hC 0 dX8_rests_6 rfl ?_
  refine j_iload_n hC 1 dX8_rests_7 rfl ?_
  refine j_callV (nA := 1) (rest := [.ref (gadr (XG X) (5, 0, 0))]) hC [.int x1] rfl (fun r hr => mX8_noCase (XL X) (XG X) hG fu (XD X) M2 x1 r hr) q1930 q1932 qs103 q136 q1933 (dmMo hG rfl) rfl rfl (by decide +kernel) rfl rfl rfl rfl rfl rfl dX8_rests_8 (fun v8 => [.int v8, .ref (gadr (XG X) (5, 0, 0))]) (fun _ => rfl) (fun v8 M8 => ?_)
  refine j_iconst (v := 1) hC dX8_rests_11 (by decide) ?_
  refine j_callV (nA := 2) (rest := []) hC [.int v8, .int 1] rfl (fun r hr => mX8_throwsIf (XL X) (XG X) hG fu (XD X) M8 v8 1 r hr) q1748 q1750 qs76 q136 q1751 (dmMo hG rfl) rfl rfl (by decide +kernel) rfl rfl rfl rfl rfl rfl dX8_rests_12 (fun v12 => [.int v12]) (fun _ => rfl) (fun v12 M12 => ?_)
  refine j_if_ne (tgt := 39) hC dX8_rests_15 (by decide) (fun h15 => ?_) (fun h15 => ?_)
  · refine j_aload_n hC 0 dX8_rests_18 rfl ?_
    refine j_aload_n hC 0 dX8_rests_19 rfl ?_
    refine j_iload_n hC 1 dX8_rests_20 rfl ?_
    refine j_callV (nA := 1) (rest := [.ref (gadr (XG X) (5, 0, 0))]) hC [.int x1] rfl (fun r hr => mX8_isOpen (XL X) (XG X) hG fu (XD X) M12 x1 r hr) q1950 q1952 qs106 q136 q1953 (dmMo hG rfl) rfl rfl (by decide +kernel) rfl rfl rfl rfl rfl rfl dX8_rests_21 (fun v21 => [.int v21, .ref (gadr (XG X) (5, 0, 0))]) (fun _ => rfl) (fun v21 M21 => ?_)
    refine j_if_ne (tgt := 31) hC dX8_rests_24 (by decide) (fun h24 => ?_) (fun h24 => ?_)
    · refine j_iconst (v := 1) hC dX8_rests_27 (by decide) ?_
      refine j_goto (tgt := 32) hC dX8_rests_28 (by decide) ?_
      exact j_sub [0, 1, 2] rfl (wX8_rests_32 hC hG hnl fu M21 x1 x2 1)
    · refine j_iconst (v := 0) hC dX8_rests_31 (by decide) ?_
      exact j_sub [0, 1, 2] rfl (wX8_rests_32 hC hG hnl fu M21 x1 x2 0)
  · exact j_sub [] rfl (wX8_rests_39 hC hG hnl fu M12)
set_option linter.unusedVariables false in
set_option maxRecDepth 100000 in
theorem mX8_rests (l : Launch) (Γ : xG) (hG : dmI dmM Γ) (fu : Nat) (D : List LDen) (M : Mem) (x1 x2 : Int32) (r : Int32 × Mem) (hr : FX8_rests fu D M x1 x2 = some r) : CN l yX8_rests (ws_ yX8_rests cX8_rests 10 (some .int)) 11 244 Γ D [.ref (gadr Γ (5, 0, 0)), .int x1, .int x2] M (foI r.1) r.2 := by
  refine CN.of (own := RX8) (lv0 := lv_args 0 [.ref (gadr Γ (5, 0, 0)), .int x1, .int x2]) (by decide +kernel) rfl (Nat.le_of_ble_eq_true rfl) rfl (fun X e1 e2 e3 e4 hC => ?_) r hr
  subst e1
  subst e2
  exact wX8_rests hC hG e4 fu M x1 x2
set_option linter.unusedVariables false in
set_option maxRecDepth 100000 in
theorem wX8_fair_39 {X : JX} (hC : JC X cX8_fair RX8 (some .int) 11 244 0 0) (hG : dmI dmM (XG X)) (hnl : nLof X = 7) (fu : Nat) (M : Mem) : J X (ZN X foI) (FX8_fair_39 fu (XD X) M) 39 [] [] M 0 0 := by
  unfold FX8_fair_39
  refine j_iconst (v := 0) hC dX8_fair_39 (by decide) ?_
  exact j_iret hC dX8_fair_40
set_option linter.unusedVariables false in
set_option maxRecDepth 100000 in
theorem wX8_fair_149 {X : JX} (hC : JC X cX8_fair RX8 (some .int) 11 244 0 0) (hG : dmI dmM (XG X)) (hnl : nLof X = 7) (fu : Nat) (kn66 : Mem × Int32 × Int32 × Int32 × Int32 × Int32 → Option (Int32 × Mem)) (hk66 : ∀ (M : Mem) (x1 x2 x3 x4 x5 : Int32), J X (ZN X foI) (kn66 (M, x1, x2, x3, x4, x5)) 66 [(0, .ref (gadr (XG X) (5, 0, 0))), (1, .int x1), (2, .int x2), (3, .int x3), (4, .int x4), (5, .int x5)] [] M 0 0) (M : Mem) (x1 x2 x3 x4 x5 : Int32) : J X (ZN X foI) (FX8_fair_149 fu (XD X) kn66 M x1 x2 x3 x4 x5) 149 [(0, .ref (gadr (XG X) (5, 0, 0))), (1, .int x1), (2, .int x2), (3, .int x3), (4, .int x4), (5, .int x5)] [] M 0 0 := by
  unfold FX8_fair_149
  refine j_iincL hC 5 (fun y149 => [(5, .int y149), (0, .ref (gadr (XG X) (5, 0, 0))), (1, .int x1), (2, .int x2), (3, .int x3), (4, .int x4)]) hnl dX8_fair_149 rfl (by decide) rfl (fun _ => rfl) (fun y149 => ?_)
  refine j_goto (tgt := 66) hC dX8_fair_152 (by decide) ?_
  exact j_sub [1, 2, 3, 4, 5, 0] rfl (hk66 M x1 x2 x3 x4 y149)
set_option linter.unusedVariables false in
set_option maxRecDepth 100000 in
theorem wgX8_fair_66 {X : JX} (hC : JC X cX8_fair RX8 (some .int) 11 244 0 0) (hG : dmI dmM (XG X)) (hnl : nLof X = 7) (fu : Nat) (kn66 : Mem × Int32 × Int32 × Int32 × Int32 × Int32 → Option (Int32 × Mem)) (hk66 : ∀ (M : Mem) (x1 x2 x3 x4 x5 : Int32), J X (ZN X foI) (kn66 (M, x1, x2, x3, x4, x5)) 66 [(0, .ref (gadr (XG X) (5, 0, 0))), (1, .int x1), (2, .int x2), (3, .int x3), (4, .int x4), (5, .int x5)] [] M 0 0) (kn54 : Mem × Int32 × Int32 × Int32 × Int32 → Option (Int32 × Mem)) (hk54 : ∀ (M : Mem) (x1 x2 x3 x4 : Int32), J X (ZN X foI) (kn54 (M, x1, x2, x3, x4)) 54 [(0, .ref (gadr (XG X) (5, 0, 0))), (1, .int x1), (2, .int x2), (3, .int x3), (4, .int x4)] [] M 0 0) (M : Mem) (x1 x2 x3 x4 x5 : Int32) : J X (ZN X foI) (GX8_fair_66 fu (XD X) kn66 kn54 M x1 x2 x3 x4 x5) 66 [(0, .ref (gadr (XG X) (5, 0, 0))), (1, .int x1), (2, .int x2), (3, .int x3), (4, .int x4), (5, .int x5)] [] M 0 0 := by
  unfold GX8_fair_66
  refine j_iload hC 5 dX8_fair_66 rfl ?_
  refine j_aload_n hC 0 dX8_fair_68 rfl ?_
  refine j_callV (nA := 0) (rest := [.int x5]) hC [] rfl (fun r hr => mX8_birds (XL X) (XG X) hG fu (XD X) M r hr) q1622 q1624 qs54 q136 q1625 (dmMo hG rfl) rfl rfl (by decide +kernel) rfl rfl rfl rfl rfl rfl dX8_fair_69 (fun v69 => [.int v69, .int x5]) (fun _ => rfl) (fun v69 M69 => ?_)
  refine j_icmp_ge (tgt := 155) hC dX8_fair_72 (by decide) (fun h72 => ?_) (fun h72 => ?_)
  · refine j_iincL hC 4 (fun y155 => [(4, .int y155), (0, .ref (gadr (XG X) (5, 0, 0))), (1, .int x1), (2, .int x2), (3, .int x3), (5, .int x5)]) hnl dX8_fair_155 rfl (by decide) rfl (fun _ => rfl) (fun y155 => ?_)
    refine j_goto (tgt := 54) hC dX8_fair_158 (by decide) ?_
    exact j_sub [1, 2, 3, 4, 0] rfl (hk54 M69 x1 x2 x3 y155)
  · refine j_aload_n hC 0 dX8_fair_75 rfl ?_
    refine j_iload_n hC 1 dX8_fair_76 rfl ?_
    refine j_iconst (v := 0) hC dX8_fair_77 (by decide) ?_
    refine j_callV (nA := 2) (rest := []) hC [.int x1, .int 0] rfl (fun r hr => mX8_choices (XL X) (XG X) hG fu (XD X) M69 x1 0 r hr) q1938 q1940 qs105 q136 q1941 (dmMo hG rfl) rfl rfl (by decide +kernel) rfl rfl rfl rfl rfl rfl dX8_fair_78 (fun v78 => [.int v78]) (fun _ => rfl) (fun v78 M78 => ?_)
    refine j_iload hC 4 dX8_fair_81 rfl ?_
    refine j_callS (nA := 2) (rest := []) hC [.int v78, .int x4] rfl (fun r hr => mX8_has (XL X) (XG X) hG fu (XD X) M78 v78 x4 r hr) q1644 q1645 q136 q1646 (by decide +kernel) rfl rfl rfl rfl rfl rfl dX8_fair_83 (fun v83 => [.int v83]) (fun _ => rfl) (fun v83 M83 => ?_)
    refine j_if_eq (tgt := 149) hC dX8_fair_86 (by decide) (fun h86 => ?_) (fun h86 => ?_)
    · exact j_sub [0, 1, 2, 3, 4, 5] rfl (wX8_fair_149 hC hG hnl fu kn66 hk66 M83 x1 x2 x3 x4 x5)
    · refine j_aload_n hC 0 dX8_fair_89 rfl ?_
      refine j_iload_n hC 1 dX8_fair_90 rfl ?_
      refine j_iconst (v := 1) hC dX8_fair_91 (by decide) ?_
      refine j_callV (nA := 2) (rest := []) hC [.int x1, .int 1] rfl (fun r hr => mX8_choices (XL X) (XG X) hG fu (XD X) M83 x1 1 r hr) q1938 q1940 qs105 q136 q1941 (dmMo hG rfl) rfl rfl (by decide +kernel) rfl rfl rfl rfl rfl rfl dX8_fair_92 (fun v92 => [.int v92]) (fun _ => rfl) (fun v92 M92 => ?_)
      refine j_iload hC 5 dX8_fair_95 rfl ?_
      refine j_callS (nA := 2) (rest := []) hC [.int v92, .int x5] rfl (fun r hr => mX8_has (XL X) (XG X) hG fu (XD X) M92 v92 x5 r hr) q1644 q1645 q136 q1646 (by decide +kernel) rfl rfl rfl rfl rfl rfl dX8_fair_97 (fun v97 => [.int v97]) (fun _ => rfl) (fun v97 M97 => ?_)
      refine j_if_ne (tgt := 106) hC dX8_fair_100 (by decide) (fun h100 => ?_) (fun h100 => ?_)
      · refine j_goto (tgt := 149) hC dX8_fair_103 (by decide) ?_
        exact j_sub [0, 1, 2, 3, 4, 5] rfl (wX8_fair_149 hC hG hnl fu kn66 hk66 M97 x1 x2 x3 x4 x5)
      · refine j_aload_n hC 0 dX8_fair_106 rfl ?_
        refine j_iload hC 4 dX8_fair_107 rfl ?_
        refine j_iload hC 5 dX8_fair_109 rfl ?_
        refine j_callV (nA := 2) (rest := []) hC [.int x4, .int x5] rfl (fun r hr => mX8_firstHas (XL X) (XG X) hG fu (XD X) M97 x4 x5 r hr) q1882 q1884 qs97 q136 q1885 (dmMo hG rfl) rfl rfl (by decide +kernel) rfl rfl rfl rfl rfl rfl dX8_fair_111 (fun v111 => [.int v111]) (fun _ => rfl) (fun v111 M111 => ?_)
        refine j_aload_n hC 0 dX8_fair_114 rfl ?_
        refine j_iload hC 5 dX8_fair_115 rfl ?_
        refine j_iload hC 4 dX8_fair_117 rfl ?_
        refine j_callV (nA := 2) (rest := [.int v111]) hC [.int x5, .int x4] rfl (fun r hr => mX8_firstHas (XL X) (XG X) hG fu (XD X) M111 x5 x4 r hr) q1882 q1884 qs97 q136 q1885 (dmMo hG rfl) rfl rfl (by decide +kernel) rfl rfl rfl rfl rfl rfl dX8_fair_119 (fun v119 => [.int v119, .int v111]) (fun _ => rfl) (fun v119 M119 => ?_)
        refine j_isub hC dX8_fair_122 ?_
        refine j_abs hC q1974 q1360 q155 q1361 dX8_fair_123 rfl (Nat.le_of_ble_eq_true rfl) (Nat.le_of_ble_eq_true rfl) (Nat.le_of_ble_eq_true rfl) ?_
        refine j_ltT (fun y126 => ?_)
        refine j_istore hC [(6, .int y126), (0, .ref (gadr (XG X) (5, 0, 0))), (1, .int x1), (2, .int x2), (3, .int x3), (4, .int x4), (5, .int x5)] hnl dX8_fair_126 rfl rfl ?_
        refine j_iload hC 0 dX8_fair_128 rfl ?_
        refine j_iload_n hC 4 dX8_fair_130 rfl ?_
        refine j_icmp_lt (tgt := 137) hC dX8_fair_131 (by decide) (fun h131 => ?_) (fun h131 => ?_)
        · refine j_bipush (v := 10) hC dX8_fair_137 (by decide) ?_
          refine j_iload hC 5 dX8_fair_139 rfl ?_
          refine j_imul hC dX8_fair_141 ?_
          refine j_iload hC 6 dX8_fair_142 rfl ?_
          refine j_iadd hC dX8_fair_144 ?_
          refine j_ltT (fun y145 => ?_)
          refine j_istore_n hC [(2, .int y145), (6, .int y126), (0, .ref (gadr (XG X) (5, 0, 0))), (1, .int x1), (3, .int x3), (4, .int x4), (5, .int x5)] hnl dX8_fair_145 rfl rfl ?_
          refine j_iload hC 1 dX8_fair_146 rfl ?_
          refine j_istore_n hC [(3, .int y126), (2, .int y145), (6, .int y126), (0, .ref (gadr (XG X) (5, 0, 0))), (1, .int x1), (4, .int x4), (5, .int x5)] hnl dX8_fair_148 rfl rfl ?_
          exact j_sub [3, 4, 1, 0, 5, 6] rfl (wX8_fair_149 hC hG hnl fu kn66 hk66 M119 x1 y145 y126 x4 x5)
        · refine j_goto (tgt := 149) hC dX8_fair_134 (by decide) ?_
          exact j_sub [1, 2, 3, 4, 5, 6] rfl (wX8_fair_149 hC hG hnl fu kn66 hk66 M119 x1 x2 x3 x4 x5)
set_option linter.unusedVariables false in
set_option maxRecDepth 100000 in
theorem wX8_fair_66 {X : JX} (hC : JC X cX8_fair RX8 (some .int) 11 244 0 0) (hG : dmI dmM (XG X)) (hnl : nLof X = 7) (fu : Nat) (kn54 : Mem × Int32 × Int32 × Int32 × Int32 → Option (Int32 × Mem)) (hk54 : ∀ (M : Mem) (x1 x2 x3 x4 : Int32), J X (ZN X foI) (kn54 (M, x1, x2, x3, x4)) 54 [(0, .ref (gadr (XG X) (5, 0, 0))), (1, .int x1), (2, .int x2), (3, .int x3), (4, .int x4)] [] M 0 0) (M : Mem) (x1 x2 x3 x4 x5 : Int32) : J X (ZN X foI) (FX8_fair_66 fu (XD X) kn54 M x1 x2 x3 x4 x5) 66 [(0, .ref (gadr (XG X) (5, 0, 0))), (1, .int x1), (2, .int x2), (3, .int x3), (4, .int x4), (5, .int x5)] [] M 0 0 := by
  exact j_lp (lvf := fun z => [(0, .ref (gadr (XG X) (5, 0, 0))), (1, .int (z.2.1)), (2, .int (z.2.2.1)), (3, .int (z.2.2.2.1)), (4, .int (z.2.2.2.2.1)), (5, .int (z.2.2.2.2.2))]) (Mf := fun z => z.1) (fun kn hk z => wgX8_fair_66 hC hG hnl fu kn (fun M x1 x2 x3 x4 x5 => hk (M, x1, x2, x3, x4, x5)) kn54 hk54 z.1 z.2.1 z.2.2.1 z.2.2.2.1 z.2.2.2.2.1 z.2.2.2.2.2) fu (M, x1, x2, x3, x4, x5)
set_option linter.unusedVariables false in
set_option maxRecDepth 100000 in
theorem wgX8_fair_54 {X : JX} (hC : JC X cX8_fair RX8 (some .int) 11 244 0 0) (hG : dmI dmM (XG X)) (hnl : nLof X = 7) (fu : Nat) (kn54 : Mem × Int32 × Int32 × Int32 × Int32 → Option (Int32 × Mem)) (hk54 : ∀ (M : Mem) (x1 x2 x3 x4 : Int32), J X (ZN X foI) (kn54 (M, x1, x2, x3, x4)) 54 [(0, .ref (gadr (XG X) (5, 0, 0))), (1, .int x1), (2, .int x2), (3, .int x3), (4, .int x4)] [] M 0 0) (M : Mem) (x1 x2 x3 x4 : Int32) : J X (ZN X foI) (GX8_fair_54 fu (XD X) kn54 M x1 x2 x3 x4) 54 [(0, .ref (gadr (XG X) (5, 0, 0))), (1, .int x1), (2, .int x2), (3, .int x3), (4, .int x4)] [] M 0 0 := by
  unfold GX8_fair_54
  refine j_iload hC 4 dX8_fair_54 rfl ?_
  refine j_aload_n hC 0 dX8_fair_56 rfl ?_
  refine j_callV (nA := 0) (rest := [.int x4]) hC [] rfl (fun r hr => mX8_birds (XL X) (XG X) hG fu (XD X) M r hr) q1622 q1624 qs54 q136 q1625 (dmMo hG rfl) rfl rfl (by decide +kernel) rfl rfl rfl rfl rfl rfl dX8_fair_57 (fun v57 => [.int v57, .int x4]) (fun _ => rfl) (fun v57 M57 => ?_)
  refine j_icmp_ge (tgt := 161) hC dX8_fair_60 (by decide) (fun h60 => ?_) (fun h60 => ?_)
  · refine j_iload_n hC 2 dX8_fair_161 rfl ?_
    exact j_iret hC dX8_fair_162
  · refine j_iconst (v := 0) hC dX8_fair_63 (by decide) ?_
    refine j_istore hC [(5, .int 0), (0, .ref (gadr (XG X) (5, 0, 0))), (1, .int x1), (2, .int x2), (3, .int x3), (4, .int x4)] hnl dX8_fair_64 rfl rfl ?_
    exact j_sub [1, 2, 3, 4, 5, 0] rfl (wX8_fair_66 hC hG hnl fu kn54 hk54 M57 x1 x2 x3 x4 0)
set_option linter.unusedVariables false in
set_option maxRecDepth 100000 in
theorem wX8_fair_54 {X : JX} (hC : JC X cX8_fair RX8 (some .int) 11 244 0 0) (hG : dmI dmM (XG X)) (hnl : nLof X = 7) (fu : Nat) (M : Mem) (x1 x2 x3 x4 : Int32) : J X (ZN X foI) (FX8_fair_54 fu (XD X) M x1 x2 x3 x4) 54 [(0, .ref (gadr (XG X) (5, 0, 0))), (1, .int x1), (2, .int x2), (3, .int x3), (4, .int x4)] [] M 0 0 := by
  exact j_lp (lvf := fun z => [(0, .ref (gadr (XG X) (5, 0, 0))), (1, .int (z.2.1)), (2, .int (z.2.2.1)), (3, .int (z.2.2.2.1)), (4, .int (z.2.2.2.2))]) (Mf := fun z => z.1) (fun kn hk z => wgX8_fair_54 hC hG hnl fu kn (fun M x1 x2 x3 x4 => hk (M, x1, x2, x3, x4)) z.1 z.2.1 z.2.2.1 z.2.2.2.1 z.2.2.2.2) fu (M, x1, x2, x3, x4)
set_option linter.unusedVariables false in
set_option maxRecDepth 100000 in
theorem wX8_fair_32 {X : JX} (hC : JC X cX8_fair RX8 (some .int) 11 244 0 0) (hG : dmI dmM (XG X)) (hnl : nLof X = 7) (fu : Nat) (M : Mem) (x1 t0 : Int32) : J X (ZN X foI) (FX8_fair_32 fu (XD X) M x1 t0) 32 [(0, .ref (gadr (XG X) (5, 0, 0))), (1, .int x1)] [.int t0, .ref (gadr (XG X) (5, 0, 0))] M 0 0 := by
  unfold FX8_fair_32
  refine j_iconst (v := 2) hC dX8_fair_32 (by decide) ?_
  refine j_callV (nA := 2) (rest := []) hC [.int t0, .int 2] rfl (fun r hr => mX8_throwsIf (XL X) (XG X) hG fu (XD X) M t0 2 r hr) q1748 q1750 qs76 q136 q1751 (dmMo hG rfl) rfl rfl (by decide +kernel) rfl rfl rfl rfl rfl rfl dX8_fair_33 (fun v33 => [.int v33]) (fun _ => rfl) (fun v33 M33 => ?_)
  refine j_if_eq (tgt := 41) hC dX8_fair_36 (by decide) (fun h36 => ?_) (fun h36 => ?_)
  · refine j_aload_n hC 0 dX8_fair_41 rfl ?_
    refine j_callV (nA := 0) (rest := []) hC [] rfl (fun r hr => mX8_laysAllGoods (XL X) (XG X) hG fu (XD X) M33 r hr) q1874 q1876 qs95 q136 q1877 (dmMo hG rfl) rfl rfl (by decide +kernel) rfl rfl rfl rfl rfl rfl dX8_fair_42 (fun _ => []) (fun _ => rfl) (fun v42 M42 => ?_)
    refine j_iconst (v := (-1)) hC dX8_fair_45 (by decide) ?_
    refine j_istore_n hC [(2, .int ((-1))), (0, .ref (gadr (XG X) (5, 0, 0))), (1, .int x1)] hnl dX8_fair_46 rfl rfl ?_
    refine j_ldcw (v := 43046722) hC dX8_fair_47 q1973 ?_
    refine j_istore_n hC [(3, .int 43046722), (2, .int ((-1))), (0, .ref (gadr (XG X) (5, 0, 0))), (1, .int x1)] hnl dX8_fair_50 rfl rfl ?_
    refine j_iconst (v := 0) hC dX8_fair_51 (by decide) ?_
    refine j_istore hC [(4, .int 0), (3, .int 43046722), (2, .int ((-1))), (0, .ref (gadr (XG X) (5, 0, 0))), (1, .int x1)] hnl dX8_fair_52 rfl rfl ?_
    exact j_sub [3, 4, 2, 1, 0] rfl (wX8_fair_54 hC hG hnl fu M42 x1 (-1) 43046722 0)
  · exact j_sub [] rfl (wX8_fair_39 hC hG hnl fu M33)
set_option linter.unusedVariables false in
set_option maxRecDepth 100000 in
theorem wX8_fair {X : JX} (hC : JC X cX8_fair RX8 (some .int) 11 244 0 0) (hG : dmI dmM (XG X)) (hnl : nLof X = 7) (fu : Nat) (M : Mem) (x1 : Int32) : J X (ZN X foI) (FX8_fair fu (XD X) M x1) 0 [(0, .ref (gadr (XG X) (5, 0, 0))), (1, .int x1)] [] M 0 0 := by
  unfold FX8_fair
  refine j_aload_n hC 0 dX8_fair_0 rfl ?_
  refine j_iconst (v := 0) hC dX8_fair_1 (by decide) ?_
  refine j_put (fk := 0) (ty := .int) hC (dmMo hG rfl) rfl rfl in_X8 rfl rfl q1464 tyX8 tyX8_ok nmX8 rfl rfl (by decide +kernel) rfl rfl dX8_fair_2 ?_
  refine j_lt (fun M2 => ?_)
  refine j_aload_n hC 0 dX8_fair_5 rfl ?_
  refine j_aload_n hC 0 dX8_fair_6 rfl ?_
  refine j_iload_n hC 1 dX8_fair_7 rfl ?_
  refine j_callV (nA := 1) (rest := [.ref (gadr (XG X) (5, 0, 0))]) hC [.int x1] rfl (fun r hr => mX8_noCase (XL X) (XG X) hG fu (XD X) M2 x1 r hr) q1930 q1932 qs103 q136 q1933 (dmMo hG rfl) rfl rfl (by decide +kernel) rfl rfl rfl rfl rfl rfl dX8_fair_8 (fun v8 => [.int v8, .ref (gadr (XG X) (5, 0, 0))]) (fun _ => rfl) (fun v8 M8 => ?_)
  refine j_iconst (v := 1) hC dX8_fair_11 (by decide) ?_
  refine j_callV (nA := 2) (rest := []) hC [.int v8, .int 1] rfl (fun r hr => mX8_throwsIf (XL X) (XG X) hG fu (XD X) M8 v8 1 r hr) q1748 q1750 qs76 q136 q1751 (dmMo hG rfl) rfl rfl (by decide +kernel) rfl rfl rfl rfl rfl rfl dX8_fair_12 (fun v12 => [.int v12]) (fun _ => rfl) (fun v12 M12 => ?_)
  refine j_if_ne (tgt := 39) hC dX8_fair_15 (by decide) (fun h15 => ?_) (fun h15 => ?_)
  · refine j_aload_n hC 0 dX8_fair_18 rfl ?_
    refine j_aload_n hC 0 dX8_fair_19 rfl ?_
    refine j_iload_n hC 1 dX8_fair_20 rfl ?_
    refine j_callV (nA := 1) (rest := [.ref (gadr (XG X) (5, 0, 0))]) hC [.int x1] rfl (fun r hr => mX8_isOpen (XL X) (XG X) hG fu (XD X) M12 x1 r hr) q1950 q1952 qs106 q136 q1953 (dmMo hG rfl) rfl rfl (by decide +kernel) rfl rfl rfl rfl rfl rfl dX8_fair_21 (fun v21 => [.int v21, .ref (gadr (XG X) (5, 0, 0))]) (fun _ => rfl) (fun v21 M21 => ?_)
    refine j_if_ne (tgt := 31) hC dX8_fair_24 (by decide) (fun h24 => ?_) (fun h24 => ?_)
    · refine j_iconst (v := 1) hC dX8_fair_27 (by decide) ?_
      refine j_goto (tgt := 32) hC dX8_fair_28 (by decide) ?_
      exact j_sub [0, 1] rfl (wX8_fair_32 hC hG hnl fu M21 x1 1)
    · refine j_iconst (v := 0) hC dX8_fair_31 (by decide) ?_
      exact j_sub [0, 1] rfl (wX8_fair_32 hC hG hnl fu M21 x1 0)
  · exact j_sub [] rfl (wX8_fair_39 hC hG hnl fu M12)
set_option linter.unusedVariables false in
set_option maxRecDepth 100000 in
theorem mX8_fair (l : Launch) (Γ : xG) (hG : dmI dmM Γ) (fu : Nat) (D : List LDen) (M : Mem) (x1 : Int32) (r : Int32 × Mem) (hr : FX8_fair fu D M x1 = some r) : CN l yX8_fair (ws_ yX8_fair cX8_fair 7 (some .int)) 11 244 Γ D [.ref (gadr Γ (5, 0, 0)), .int x1] M (foI r.1) r.2 := by
  refine CN.of (own := RX8) (lv0 := lv_args 0 [.ref (gadr Γ (5, 0, 0)), .int x1]) (by decide +kernel) rfl (Nat.le_of_ble_eq_true rfl) rfl (fun X e1 e2 e3 e4 hC => ?_) r hr
  subst e1
  subst e2
  exact wX8_fair hC hG e4 fu M x1
set_option linter.unusedVariables false in
set_option maxRecDepth 100000 in
theorem wgX8_remembers_55 {X : JX} (hC : JC X cX8_remembers RX8 none 1 12 0 0) (hG : dmI dmM (XG X)) (hnl : nLof X = 2) (fu : Nat) (kn55 : Mem × Int32 → Option (Int32 × Mem)) (hk55 : ∀ (M : Mem) (x1 : Int32), J X (ZN X foV) (kn55 (M, x1)) 55 [(0, .ref (gadr (XG X) (5, 0, 0))), (1, .int x1)] [] M 0 0) (M : Mem) (x1 : Int32) : J X (ZN X foV) (GX8_remembers_55 fu (XD X) kn55 M x1) 55 [(0, .ref (gadr (XG X) (5, 0, 0))), (1, .int x1)] [] M 0 0 := by
  unfold GX8_remembers_55
  refine j_iload_n hC 1 dX8_remembers_55 rfl ?_
  refine j_sipush (v := 482) hC dX8_remembers_56 (by decide) ?_
  refine j_icmp_ge (tgt := 91) hC dX8_remembers_59 (by decide) (fun h59 => ?_) (fun h59 => ?_)
  · exact j_vret hC dX8_remembers_91
  · refine j_aload_n hC 0 dX8_remembers_62 rfl ?_
    refine j_getR (fk := 5) hC (dmMo hG rfl) rfl rfl in_X8 rfl rfl q1469 rfl dX8_remembers_63 ?_
    refine j_sipush (v := 482) hC dX8_remembers_66 (by decide) ?_
    refine j_aload_n hC 0 dX8_remembers_69 rfl ?_
    refine j_getI (fk := 7) hC (dmMo hG rfl) rfl rfl in_X8 rfl rfl q1471 rfl dX8_remembers_70 ?_
    refine j_iconst (v := 1) hC dX8_remembers_73 (by decide) ?_
    refine j_isub hC dX8_remembers_74 ?_
    refine j_imul hC dX8_remembers_75 ?_
    refine j_iload_n hC 1 dX8_remembers_76 rfl ?_
    refine j_iadd hC dX8_remembers_77 ?_
    refine j_aload_n hC 0 dX8_remembers_78 rfl ?_
    refine j_getR (fk := 1) hC (dmMo hG rfl) rfl rfl in_X8 rfl rfl q1465 rfl dX8_remembers_79 ?_
    refine j_iload_n hC 1 dX8_remembers_82 rfl ?_
    refine j_iald hC (dmMo hG rfl) rfl dX8_remembers_83 (fun h83 => ?_)
    refine j_iast hC (dmMo hG rfl) rfl dX8_remembers_84 (fun h84 => ?_)
    refine j_lt (fun M84 => ?_)
    refine j_iincL hC 1 (fun y85 => [(1, .int y85), (0, .ref (gadr (XG X) (5, 0, 0)))]) hnl dX8_remembers_85 rfl (by decide) rfl (fun _ => rfl) (fun y85 => ?_)
    refine j_goto (tgt := 55) hC dX8_remembers_88 (by decide) ?_
    exact j_sub [1, 0] rfl (hk55 M84 y85)
set_option linter.unusedVariables false in
set_option maxRecDepth 100000 in
theorem wX8_remembers_55 {X : JX} (hC : JC X cX8_remembers RX8 none 1 12 0 0) (hG : dmI dmM (XG X)) (hnl : nLof X = 2) (fu : Nat) (M : Mem) (x1 : Int32) : J X (ZN X foV) (FX8_remembers_55 fu (XD X) M x1) 55 [(0, .ref (gadr (XG X) (5, 0, 0))), (1, .int x1)] [] M 0 0 := by
  exact j_lp (lvf := fun z => [(0, .ref (gadr (XG X) (5, 0, 0))), (1, .int (z.2))]) (Mf := fun z => z.1) (fun kn hk z => wgX8_remembers_55 hC hG hnl fu kn (fun M x1 => hk (M, x1)) z.1 z.2) fu (M, x1)
set_option linter.unusedVariables false in
set_option maxRecDepth 100000 in
theorem wX8_remembers_53 {X : JX} (hC : JC X cX8_remembers RX8 none 1 12 0 0) (hG : dmI dmM (XG X)) (hnl : nLof X = 2) (fu : Nat) (M : Mem) : J X (ZN X foV) (FX8_remembers_53 fu (XD X) M) 53 [(0, .ref (gadr (XG X) (5, 0, 0)))] [] M 0 0 := by
  unfold FX8_remembers_53
  refine j_iconst (v := 0) hC dX8_remembers_53 (by decide) ?_
  refine j_istore_n hC [(1, .int 0), (0, .ref (gadr (XG X) (5, 0, 0)))] hnl dX8_remembers_54 rfl rfl ?_
  exact j_sub [1, 0] rfl (wX8_remembers_55 hC hG hnl fu M 0)
set_option linter.unusedVariables false in
set_option maxRecDepth 100000 in
theorem wgX8_remembers_11 {X : JX} (hC : JC X cX8_remembers RX8 none 1 12 0 0) (hG : dmI dmM (XG X)) (hnl : nLof X = 2) (fu : Nat) (kn11 : Mem × Int32 → Option (Int32 × Mem)) (hk11 : ∀ (M : Mem) (x1 : Int32), J X (ZN X foV) (kn11 (M, x1)) 11 [(0, .ref (gadr (XG X) (5, 0, 0))), (1, .int x1)] [] M 0 0) (M : Mem) (x1 : Int32) : J X (ZN X foV) (GX8_remembers_11 fu (XD X) kn11 M x1) 11 [(0, .ref (gadr (XG X) (5, 0, 0))), (1, .int x1)] [] M 0 0 := by
  unfold GX8_remembers_11
  refine j_iload_n hC 1 dX8_remembers_11 rfl ?_
  refine j_sipush (v := 5302) hC dX8_remembers_12 (by decide) ?_
  refine j_icmp_ge (tgt := 40) hC dX8_remembers_15 (by decide) (fun h15 => ?_) (fun h15 => ?_)
  · refine j_goto (tgt := 53) hC dX8_remembers_40 (by decide) ?_
    exact j_sub [0] rfl (wX8_remembers_53 hC hG hnl fu M)
  · refine j_aload_n hC 0 dX8_remembers_18 rfl ?_
    refine j_getR (fk := 5) hC (dmMo hG rfl) rfl rfl in_X8 rfl rfl q1469 rfl dX8_remembers_19 ?_
    refine j_iload_n hC 1 dX8_remembers_22 rfl ?_
    refine j_aload_n hC 0 dX8_remembers_23 rfl ?_
    refine j_getR (fk := 5) hC (dmMo hG rfl) rfl rfl in_X8 rfl rfl q1469 rfl dX8_remembers_24 ?_
    refine j_iload_n hC 1 dX8_remembers_27 rfl ?_
    refine j_sipush (v := 482) hC dX8_remembers_28 (by decide) ?_
    refine j_iadd hC dX8_remembers_31 ?_
    refine j_iald hC (dmMo hG rfl) rfl dX8_remembers_32 (fun h32 => ?_)
    refine j_iast hC (dmMo hG rfl) rfl dX8_remembers_33 (fun h33 => ?_)
    refine j_lt (fun M33 => ?_)
    refine j_iincL hC 1 (fun y34 => [(1, .int y34), (0, .ref (gadr (XG X) (5, 0, 0)))]) hnl dX8_remembers_34 rfl (by decide) rfl (fun _ => rfl) (fun y34 => ?_)
    refine j_goto (tgt := 11) hC dX8_remembers_37 (by decide) ?_
    exact j_sub [1, 0] rfl (hk11 M33 y34)
set_option linter.unusedVariables false in
set_option maxRecDepth 100000 in
theorem wX8_remembers_11 {X : JX} (hC : JC X cX8_remembers RX8 none 1 12 0 0) (hG : dmI dmM (XG X)) (hnl : nLof X = 2) (fu : Nat) (M : Mem) (x1 : Int32) : J X (ZN X foV) (FX8_remembers_11 fu (XD X) M x1) 11 [(0, .ref (gadr (XG X) (5, 0, 0))), (1, .int x1)] [] M 0 0 := by
  exact j_lp (lvf := fun z => [(0, .ref (gadr (XG X) (5, 0, 0))), (1, .int (z.2))]) (Mf := fun z => z.1) (fun kn hk z => wgX8_remembers_11 hC hG hnl fu kn (fun M x1 => hk (M, x1)) z.1 z.2) fu (M, x1)
set_option linter.unusedVariables false in
set_option maxRecDepth 100000 in
theorem wX8_remembers {X : JX} (hC : JC X cX8_remembers RX8 none 1 12 0 0) (hG : dmI dmM (XG X)) (hnl : nLof X = 2) (fu : Nat) (M : Mem) : J X (ZN X foV) (FX8_remembers fu (XD X) M) 0 [(0, .ref (gadr (XG X) (5, 0, 0)))] [] M 0 0 := by
  unfold FX8_remembers
  refine j_aload_n hC 0 dX8_remembers_0 rfl ?_
  refine j_getI (fk := 7) hC (dmMo hG rfl) rfl rfl in_X8 rfl rfl q1471 rfl dX8_remembers_1 ?_
  refine j_bipush (v := 12) hC dX8_remembers_4 (by decide) ?_
  refine j_icmp_ne (tgt := 43) hC dX8_remembers_6 (by decide) (fun h6 => ?_) (fun h6 => ?_)
  · refine j_iconst (v := 0) hC dX8_remembers_9 (by decide) ?_
    refine j_istore_n hC [(1, .int 0), (0, .ref (gadr (XG X) (5, 0, 0)))] hnl dX8_remembers_10 rfl rfl ?_
    exact j_sub [1, 0] rfl (wX8_remembers_11 hC hG hnl fu M 0)
  · refine j_aload_n hC 0 dX8_remembers_43 rfl ?_
    refine j_dup hC dX8_remembers_44 rfl ?_
    refine j_getI (fk := 7) hC (dmMo hG rfl) rfl rfl in_X8 rfl rfl q1471 rfl dX8_remembers_45 ?_
    refine j_iconst (v := 1) hC dX8_remembers_48 (by decide) ?_
    refine j_iadd hC dX8_remembers_49 ?_
    refine j_put (fk := 7) (ty := .int) hC (dmMo hG rfl) rfl rfl in_X8 rfl rfl q1471 tyX8 tyX8_ok nmX8 rfl rfl (by decide +kernel) rfl rfl dX8_remembers_50 ?_
    refine j_lt (fun M50 => ?_)
    exact j_sub [0] rfl (wX8_remembers_53 hC hG hnl fu M50)
set_option linter.unusedVariables false in
set_option maxRecDepth 100000 in
theorem mX8_remembers (l : Launch) (Γ : xG) (hG : dmI dmM Γ) (fu : Nat) (D : List LDen) (M : Mem) (r : Int32 × Mem) (hr : FX8_remembers fu D M = some r) : CN l yX8_remembers (ws_ yX8_remembers cX8_remembers 2 none) 1 12 Γ D [.ref (gadr Γ (5, 0, 0))] M (foV r.1) r.2 := by
  refine CN.of (own := RX8) (lv0 := lv_args 0 [.ref (gadr Γ (5, 0, 0))]) (by decide +kernel) rfl (Nat.le_of_ble_eq_true rfl) rfl (fun X e1 e2 e3 e4 hC => ?_) r hr
  subst e1
  subst e2
  exact wX8_remembers hC hG e4 fu M
set_option linter.unusedVariables false in
set_option maxRecDepth 100000 in
theorem wX8_drawn {X : JX} (hC : JC X cX8_drawn RX8 (some .int) 1 12 0 0) (hG : dmI dmM (XG X)) (hnl : nLof X = 2) (fu : Nat) (M : Mem) (x1 : Int32) : J X (ZN X foI) (FX8_drawn fu (XD X) M x1) 0 [(0, .ref (gadr (XG X) (5, 0, 0))), (1, .int x1)] [] M 0 0 := by
  unfold FX8_drawn
  refine j_aload_n hC 0 dX8_drawn_0 rfl ?_
  refine j_getR (fk := 1) hC (dmMo hG rfl) rfl rfl in_X8 rfl rfl q1465 rfl dX8_drawn_1 ?_
  refine j_bipush (v := 12) hC dX8_drawn_4 (by decide) ?_
  refine j_ldc (v := 1103515245) hC dX8_drawn_6 q1991 ?_
  refine j_aload_n hC 0 dX8_drawn_8 rfl ?_
  refine j_getR (fk := 1) hC (dmMo hG rfl) rfl rfl in_X8 rfl rfl q1465 rfl dX8_drawn_9 ?_
  refine j_bipush (v := 12) hC dX8_drawn_12 (by decide) ?_
  refine j_iald hC (dmMo hG rfl) rfl dX8_drawn_14 (fun h14 => ?_)
  refine j_imul hC dX8_drawn_15 ?_
  refine j_sipush (v := 12345) hC dX8_drawn_16 (by decide) ?_
  refine j_iadd hC dX8_drawn_19 ?_
  refine j_iast hC (dmMo hG rfl) rfl dX8_drawn_20 (fun h20 => ?_)
  refine j_lt (fun M20 => ?_)
  refine j_aload_n hC 0 dX8_drawn_21 rfl ?_
  refine j_getR (fk := 1) hC (dmMo hG rfl) rfl rfl in_X8 rfl rfl q1465 rfl dX8_drawn_22 ?_
  refine j_bipush (v := 12) hC dX8_drawn_25 (by decide) ?_
  refine j_iald hC (dmMo hG rfl) rfl dX8_drawn_27 (fun h27 => ?_)
  refine j_bipush (v := 16) hC dX8_drawn_28 (by decide) ?_
  refine j_ishr hC dX8_drawn_30 ?_
  refine j_sipush (v := 32767) hC dX8_drawn_31 (by decide) ?_
  refine j_iand hC dX8_drawn_34 ?_
  refine j_iload_n hC 1 dX8_drawn_35 rfl ?_
  refine j_irem hC dX8_drawn_36 ?_
  exact j_iret hC dX8_drawn_37
set_option linter.unusedVariables false in
set_option maxRecDepth 100000 in
theorem mX8_drawn (l : Launch) (Γ : xG) (hG : dmI dmM Γ) (fu : Nat) (D : List LDen) (M : Mem) (x1 : Int32) (r : Int32 × Mem) (hr : FX8_drawn fu D M x1 = some r) : CN l yX8_drawn (ws_ yX8_drawn cX8_drawn 2 (some .int)) 1 12 Γ D [.ref (gadr Γ (5, 0, 0)), .int x1] M (foI r.1) r.2 := by
  refine CN.of (own := RX8) (lv0 := lv_args 0 [.ref (gadr Γ (5, 0, 0)), .int x1]) (by decide +kernel) rfl (Nat.le_of_ble_eq_true rfl) rfl (fun X e1 e2 e3 e4 hC => ?_) r hr
  subst e1
  subst e2
  exact wX8_drawn hC hG e4 fu M x1
set_option linter.unusedVariables false in
set_option maxRecDepth 100000 in
theorem wX8_goodIn {X : JX} (hC : JC X cX8_goodIn RX8 (some .int) 1 12 0 0) (hG : dmI dmM (XG X)) (hnl : nLof X = 2) (fu : Nat) (M : Mem) (x1 : Int32) : J X (ZN X foI) (FX8_goodIn fu (XD X) M x1) 0 [(0, .ref (gadr (XG X) (5, 0, 0))), (1, .int x1)] [] M 0 0 := by
  unfold FX8_goodIn
  refine j_aload_n hC 0 dX8_goodIn_0 rfl ?_
  refine j_getR (fk := 27) hC (dmMo hG rfl) rfl rfl in_X8 rfl rfl q1491 rfl dX8_goodIn_1 ?_
  refine j_iconst (v := 4) hC dX8_goodIn_4 (by decide) ?_
  refine j_iload_n hC 1 dX8_goodIn_5 rfl ?_
  refine j_imul hC dX8_goodIn_6 ?_
  refine j_iconst (v := 3) hC dX8_goodIn_7 (by decide) ?_
  refine j_iadd hC dX8_goodIn_8 ?_
  refine j_iald hC (dmMo hG rfl) rfl dX8_goodIn_9 (fun h9 => ?_)
  exact j_iret hC dX8_goodIn_10
set_option linter.unusedVariables false in
set_option maxRecDepth 100000 in
theorem mX8_goodIn (l : Launch) (Γ : xG) (hG : dmI dmM Γ) (fu : Nat) (D : List LDen) (M : Mem) (x1 : Int32) (r : Int32 × Mem) (hr : FX8_goodIn fu D M x1 = some r) : CN l yX8_goodIn (ws_ yX8_goodIn cX8_goodIn 2 (some .int)) 1 12 Γ D [.ref (gadr Γ (5, 0, 0)), .int x1] M (foI r.1) r.2 := by
  refine CN.of (own := RX8) (lv0 := lv_args 0 [.ref (gadr Γ (5, 0, 0)), .int x1]) (by decide +kernel) rfl (Nat.le_of_ble_eq_true rfl) rfl (fun X e1 e2 e3 e4 hC => ?_) r hr
  subst e1
  subst e2
  exact wX8_goodIn hC hG e4 fu M x1
set_option linter.unusedVariables false in
set_option maxRecDepth 100000 in
theorem wX8_called_116 {X : JX} (hC : JC X cX8_called RX8 (some .int) 8 174 0 0) (hG : dmI dmM (XG X)) (hnl : nLof X = 5) (fu : Nat) (M : Mem) (t0 : Int32) : J X (ZN X foI) (FX8_called_116 fu (XD X) M t0) 116 [] [.int t0] M 0 0 := by
  unfold FX8_called_116
  exact j_iret hC dX8_called_116
set_option linter.unusedVariables false in
set_option maxRecDepth 100000 in
theorem wX8_called_111 {X : JX} (hC : JC X cX8_called RX8 (some .int) 8 174 0 0) (hG : dmI dmM (XG X)) (hnl : nLof X = 5) (fu : Nat) (M : Mem) : J X (ZN X foI) (FX8_called_111 fu (XD X) M) 111 [] [] M 0 0 := by
  unfold FX8_called_111
  refine j_iconst (v := 1) hC dX8_called_111 (by decide) ?_
  refine j_goto (tgt := 116) hC dX8_called_112 (by decide) ?_
  exact j_sub [] rfl (wX8_called_116 hC hG hnl fu M 1)
set_option linter.unusedVariables false in
set_option maxRecDepth 100000 in
theorem wX8_called_115 {X : JX} (hC : JC X cX8_called RX8 (some .int) 8 174 0 0) (hG : dmI dmM (XG X)) (hnl : nLof X = 5) (fu : Nat) (M : Mem) : J X (ZN X foI) (FX8_called_115 fu (XD X) M) 115 [] [] M 0 0 := by
  unfold FX8_called_115
  refine j_iconst (v := 2) hC dX8_called_115 (by decide) ?_
  exact j_sub [] rfl (wX8_called_116 hC hG hnl fu M 2)
set_option linter.unusedVariables false in
set_option maxRecDepth 100000 in
theorem wX8_called_88 {X : JX} (hC : JC X cX8_called RX8 (some .int) 8 174 0 0) (hG : dmI dmM (XG X)) (hnl : nLof X = 5) (fu : Nat) (M : Mem) (x3 x4 : Int32) : J X (ZN X foI) (FX8_called_88 fu (XD X) M x3 x4) 88 [(3, .int x3), (4, .int x4)] [] M 0 0 := by
  unfold FX8_called_88
  refine j_iload_n hC 0 dX8_called_88 rfl ?_
  refine j_iload hC 1 dX8_called_89 rfl ?_
  refine j_icmp_ne (tgt := 96) hC dX8_called_91 (by decide) (fun h91 => ?_) (fun h91 => ?_)
  · refine j_iconst (v := 3) hC dX8_called_94 (by decide) ?_
    exact j_iret hC dX8_called_95
  · refine j_iload hC 1 dX8_called_96 rfl ?_
    refine j_if_eq (tgt := 111) hC dX8_called_98 (by decide) (fun h98 => ?_) (fun h98 => ?_)
    · exact j_sub [] rfl (wX8_called_111 hC hG hnl fu M)
    · refine j_iload_n hC 0 dX8_called_101 rfl ?_
      refine j_if_le (tgt := 115) hC dX8_called_102 (by decide) (fun h102 => ?_) (fun h102 => ?_)
      · exact j_sub [] rfl (wX8_called_115 hC hG hnl fu M)
      · refine j_iload_n hC 0 dX8_called_105 rfl ?_
        refine j_iload hC 1 dX8_called_106 rfl ?_
        refine j_icmp_ge (tgt := 115) hC dX8_called_108 (by decide) (fun h108 => ?_) (fun h108 => ?_)
        · exact j_sub [] rfl (wX8_called_115 hC hG hnl fu M)
        · exact j_sub [] rfl (wX8_called_111 hC hG hnl fu M)
set_option linter.unusedVariables false in
set_option maxRecDepth 100000 in
theorem wX8_called_52 {X : JX} (hC : JC X cX8_called RX8 (some .int) 8 174 0 0) (hG : dmI dmM (XG X)) (hnl : nLof X = 5) (fu : Nat) (kn23 : Mem × Int32 × Int32 → Option (Int32 × Mem)) (hk23 : ∀ (M : Mem) (x3 x4 : Int32), J X (ZN X foI) (kn23 (M, x3, x4)) 23 [(0, .ref (gadr (XG X) (5, 0, 0))), (3, .int x3), (4, .int x4)] [] M 0 0) (M : Mem) (x3 x4 : Int32) : J X (ZN X foI) (FX8_called_52 fu (XD X) kn23 M x3 x4) 52 [(0, .ref (gadr (XG X) (5, 0, 0))), (3, .int x3), (4, .int x4)] [] M 0 0 := by
  unfold FX8_called_52
  refine j_iincL hC 2 (fun y52 => [(4, .int y52), (0, .ref (gadr (XG X) (5, 0, 0))), (3, .int x3)]) hnl dX8_called_52 rfl (by decide) rfl (fun _ => rfl) (fun y52 => ?_)
  refine j_goto (tgt := 23) hC dX8_called_55 (by decide) ?_
  exact j_sub [1, 2, 0] rfl (hk23 M x3 y52)
set_option linter.unusedVariables false in
set_option maxRecDepth 100000 in
theorem wgX8_called_23 {X : JX} (hC : JC X cX8_called RX8 (some .int) 8 174 0 0) (hG : dmI dmM (XG X)) (hnl : nLof X = 5) (fu : Nat) (kn23 : Mem × Int32 × Int32 → Option (Int32 × Mem)) (hk23 : ∀ (M : Mem) (x3 x4 : Int32), J X (ZN X foI) (kn23 (M, x3, x4)) 23 [(0, .ref (gadr (XG X) (5, 0, 0))), (3, .int x3), (4, .int x4)] [] M 0 0) (kn14 : Mem × Int32 → Option (Int32 × Mem)) (hk14 : ∀ (M : Mem) (x3 : Int32), J X (ZN X foI) (kn14 (M, x3)) 14 [(0, .ref (gadr (XG X) (5, 0, 0))), (3, .int x3)] [] M 0 0) (M : Mem) (x3 x4 : Int32) : J X (ZN X foI) (GX8_called_23 fu (XD X) kn23 kn14 M x3 x4) 23 [(0, .ref (gadr (XG X) (5, 0, 0))), (3, .int x3), (4, .int x4)] [] M 0 0 := by
  unfold GX8_called_23
  refine j_iload hC 2 dX8_called_23 rfl ?_
  refine j_iconst (v := 2) hC dX8_called_25 (by decide) ?_
  refine j_icmp_ge (tgt := 58) hC dX8_called_26 (by decide) (fun h26 => ?_) (fun h26 => ?_)
  · refine j_iincL hC 1 (fun y58 => [(3, .int y58), (0, .ref (gadr (XG X) (5, 0, 0))), (4, .int x4)]) hnl dX8_called_58 rfl (by decide) rfl (fun _ => rfl) (fun y58 => ?_)
    refine j_goto (tgt := 14) hC dX8_called_61 (by decide) ?_
    exact j_sub [1, 0] rfl (hk14 M y58)
  · refine j_aload_n hC 0 dX8_called_29 rfl ?_
    refine j_iload hC 2 dX8_called_30 rfl ?_
    refine j_callV (nA := 1) (rest := []) hC [.int x4] rfl (fun r hr => mX8_isFlying (XL X) (XG X) hG fu (XD X) M x4 r hr) q1862 q1864 qs93 q136 q1865 (dmMo hG rfl) rfl rfl (by decide +kernel) rfl rfl rfl rfl rfl rfl dX8_called_32 (fun v32 => [.int v32]) (fun _ => rfl) (fun v32 M32 => ?_)
    refine j_if_eq (tgt := 52) hC dX8_called_35 (by decide) (fun h35 => ?_) (fun h35 => ?_)
    · exact j_sub [0, 1, 2] rfl (wX8_called_52 hC hG hnl fu kn23 hk23 M32 x3 x4)
    · refine j_aload_n hC 0 dX8_called_38 rfl ?_
      refine j_iload hC 2 dX8_called_39 rfl ?_
      refine j_aload_n hC 0 dX8_called_41 rfl ?_
      refine j_iconst (v := 3) hC dX8_called_42 (by decide) ?_
      refine j_callV (nA := 1) (rest := [.int x4, .ref (gadr (XG X) (5, 0, 0))]) hC [.int 3] rfl (fun r hr => mX8_drawn (XL X) (XG X) hG fu (XD X) M32 3 r hr) q1987 q1989 qs111 q136 q1990 (dmMo hG rfl) rfl rfl (by decide +kernel) rfl rfl rfl rfl rfl rfl dX8_called_43 (fun v43 => [.int v43, .int x4, .ref (gadr (XG X) (5, 0, 0))]) (fun _ => rfl) (fun v43 M43 => ?_)
      refine j_iconst (v := 1) hC dX8_called_46 (by decide) ?_
      refine j_isub hC dX8_called_47 ?_
      refine j_iload_n hC 1 dX8_called_48 rfl ?_
      refine j_callV (nA := 3) (rest := []) hC [.int x4, .int (v43 - 1), .int x3] rfl (fun r hr => mX8_breathes (XL X) (XG X) hG fu (XD X) M43 x4 (v43 - 1) x3 r hr) q1866 q1868 qs94 q136 q1869 (dmMo hG rfl) rfl rfl (by decide +kernel) rfl rfl rfl rfl rfl rfl dX8_called_49 (fun _ => []) (fun _ => rfl) (fun v49 M49 => ?_)
      exact j_sub [0, 1, 2] rfl (wX8_called_52 hC hG hnl fu kn23 hk23 M49 x3 x4)
set_option linter.unusedVariables false in
set_option maxRecDepth 100000 in
theorem wX8_called_23 {X : JX} (hC : JC X cX8_called RX8 (some .int) 8 174 0 0) (hG : dmI dmM (XG X)) (hnl : nLof X = 5) (fu : Nat) (kn14 : Mem × Int32 → Option (Int32 × Mem)) (hk14 : ∀ (M : Mem) (x3 : Int32), J X (ZN X foI) (kn14 (M, x3)) 14 [(0, .ref (gadr (XG X) (5, 0, 0))), (3, .int x3)] [] M 0 0) (M : Mem) (x3 x4 : Int32) : J X (ZN X foI) (FX8_called_23 fu (XD X) kn14 M x3 x4) 23 [(0, .ref (gadr (XG X) (5, 0, 0))), (3, .int x3), (4, .int x4)] [] M 0 0 := by
  exact j_lp (lvf := fun z => [(0, .ref (gadr (XG X) (5, 0, 0))), (3, .int (z.2.1)), (4, .int (z.2.2))]) (Mf := fun z => z.1) (fun kn hk z => wgX8_called_23 hC hG hnl fu kn (fun M x3 x4 => hk (M, x3, x4)) kn14 hk14 z.1 z.2.1 z.2.2) fu (M, x3, x4)
set_option linter.unusedVariables false in
set_option maxRecDepth 100000 in
theorem wgX8_called_14 {X : JX} (hC : JC X cX8_called RX8 (some .int) 8 174 0 0) (hG : dmI dmM (XG X)) (hnl : nLof X = 5) (fu : Nat) (kn14 : Mem × Int32 → Option (Int32 × Mem)) (hk14 : ∀ (M : Mem) (x3 : Int32), J X (ZN X foI) (kn14 (M, x3)) 14 [(0, .ref (gadr (XG X) (5, 0, 0))), (3, .int x3)] [] M 0 0) (M : Mem) (x3 : Int32) : J X (ZN X foI) (GX8_called_14 fu (XD X) kn14 M x3) 14 [(0, .ref (gadr (XG X) (5, 0, 0))), (3, .int x3)] [] M 0 0 := by
  unfold GX8_called_14
  refine j_iload_n hC 1 dX8_called_14 rfl ?_
  refine j_bipush (v := 8) hC dX8_called_15 (by decide) ?_
  refine j_icmp_ge (tgt := 64) hC dX8_called_17 (by decide) (fun h17 => ?_) (fun h17 => ?_)
  · refine j_aload_n hC 0 dX8_called_64 rfl ?_
    refine j_iconst (v := 0) hC dX8_called_65 (by decide) ?_
    refine j_callV (nA := 1) (rest := []) hC [.int 0] rfl (fun r hr => mX8_goodIn (XL X) (XG X) hG fu (XD X) M 0 r hr) q1992 q1994 qs112 q136 q1995 (dmMo hG rfl) rfl rfl (by decide +kernel) rfl rfl rfl rfl rfl rfl dX8_called_66 (fun v66 => [.int v66]) (fun _ => rfl) (fun v66 M66 => ?_)
    refine j_istore_n hC [(3, .int v66), (0, .ref (gadr (XG X) (5, 0, 0)))] hnl dX8_called_69 rfl rfl ?_
    refine j_aload_n hC 1 dX8_called_70 rfl ?_
    refine j_iconst (v := 1) hC dX8_called_71 (by decide) ?_
    refine j_callV (nA := 1) (rest := []) hC [.int 1] rfl (fun r hr => mX8_goodIn (XL X) (XG X) hG fu (XD X) M66 1 r hr) q1992 q1994 qs112 q136 q1995 (dmMo hG rfl) rfl rfl (by decide +kernel) rfl rfl rfl rfl rfl rfl dX8_called_72 (fun v72 => [.int v72]) (fun _ => rfl) (fun v72 M72 => ?_)
    refine j_istore hC [(4, .int v72), (3, .int v66), (0, .ref (gadr (XG X) (5, 0, 0)))] hnl dX8_called_75 rfl rfl ?_
    refine j_iload_n hC 1 dX8_called_77 rfl ?_
    refine j_if_ne (tgt := 88) hC dX8_called_78 (by decide) (fun h78 => ?_) (fun h78 => ?_)
    · refine j_iload hC 0 dX8_called_81 rfl ?_
      refine j_if_ne (tgt := 88) hC dX8_called_83 (by decide) (fun h83 => ?_) (fun h83 => ?_)
      · refine j_iconst (v := 4) hC dX8_called_86 (by decide) ?_
        exact j_iret hC dX8_called_87
      · exact j_sub [1, 0] rfl (wX8_called_88 hC hG hnl fu M72 v66 v72)
    · exact j_sub [1, 0] rfl (wX8_called_88 hC hG hnl fu M72 v66 v72)
  · refine j_iconst (v := 0) hC dX8_called_20 (by decide) ?_
    refine j_istore hC [(4, .int 0), (0, .ref (gadr (XG X) (5, 0, 0))), (3, .int x3)] hnl dX8_called_21 rfl rfl ?_
    exact j_sub [1, 2, 0] rfl (wX8_called_23 hC hG hnl fu kn14 hk14 M x3 0)
set_option linter.unusedVariables false in
set_option maxRecDepth 100000 in
theorem wX8_called_14 {X : JX} (hC : JC X cX8_called RX8 (some .int) 8 174 0 0) (hG : dmI dmM (XG X)) (hnl : nLof X = 5) (fu : Nat) (M : Mem) (x3 : Int32) : J X (ZN X foI) (FX8_called_14 fu (XD X) M x3) 14 [(0, .ref (gadr (XG X) (5, 0, 0))), (3, .int x3)] [] M 0 0 := by
  exact j_lp (lvf := fun z => [(0, .ref (gadr (XG X) (5, 0, 0))), (3, .int (z.2))]) (Mf := fun z => z.1) (fun kn hk z => wgX8_called_14 hC hG hnl fu kn (fun M x3 => hk (M, x3)) z.1 z.2) fu (M, x3)
set_option linter.unusedVariables false in
set_option maxRecDepth 100000 in
theorem wX8_called {X : JX} (hC : JC X cX8_called RX8 (some .int) 8 174 0 0) (hG : dmI dmM (XG X)) (hnl : nLof X = 5) (fu : Nat) (M : Mem) (x1 x2 : Int32) : J X (ZN X foI) (FX8_called fu (XD X) M x1 x2) 0 [(0, .ref (gadr (XG X) (5, 0, 0))), (1, .int x1), (2, .int x2)] [] M 0 0 := by
  unfold FX8_called
  refine j_aload_n hC 0 dX8_called_0 rfl ?_
  refine j_iconst (v := 0) hC dX8_called_1 (by decide) ?_
  refine j_iload_n hC 1 dX8_called_2 rfl ?_
  refine j_callV (nA := 2) (rest := []) hC [.int 0, .int x1] rfl (fun r hr => mX8_begins (XL X) (XG X) hG fu (XD X) M 0 x1 r hr) q1858 q1860 qs92 q136 q1861 (dmMo hG rfl) rfl rfl (by decide +kernel) rfl rfl rfl rfl rfl rfl dX8_called_3 (fun _ => []) (fun _ => rfl) (fun v3 M3 => ?_)
  refine j_aload_n hC 0 dX8_called_6 rfl ?_
  refine j_iconst (v := 1) hC dX8_called_7 (by decide) ?_
  refine j_iload_n hC 2 dX8_called_8 rfl ?_
  refine j_callV (nA := 2) (rest := []) hC [.int 1, .int x2] rfl (fun r hr => mX8_begins (XL X) (XG X) hG fu (XD X) M3 1 x2 r hr) q1858 q1860 qs92 q136 q1861 (dmMo hG rfl) rfl rfl (by decide +kernel) rfl rfl rfl rfl rfl rfl dX8_called_9 (fun _ => []) (fun _ => rfl) (fun v9 M9 => ?_)
  refine j_iconst (v := 0) hC dX8_called_12 (by decide) ?_
  refine j_istore_n hC [(3, .int 0), (0, .ref (gadr (XG X) (5, 0, 0))), (1, .int x1), (2, .int x2)] hnl dX8_called_13 rfl rfl ?_
  exact j_sub [1, 0] rfl (wX8_called_14 hC hG hnl fu M9 0)
set_option linter.unusedVariables false in
set_option maxRecDepth 100000 in
theorem mX8_called (l : Launch) (Γ : xG) (hG : dmI dmM Γ) (fu : Nat) (D : List LDen) (M : Mem) (x1 x2 : Int32) (r : Int32 × Mem) (hr : FX8_called fu D M x1 x2 = some r) : CN l yX8_called (ws_ yX8_called cX8_called 5 (some .int)) 8 174 Γ D [.ref (gadr Γ (5, 0, 0)), .int x1, .int x2] M (foI r.1) r.2 := by
  refine CN.of (own := RX8) (lv0 := lv_args 0 [.ref (gadr Γ (5, 0, 0)), .int x1, .int x2]) (by decide +kernel) rfl (Nat.le_of_ble_eq_true rfl) rfl (fun X e1 e2 e3 e4 hC => ?_) r hr
  subst e1
  subst e2
  exact wX8_called hC hG e4 fu M x1 x2
set_option linter.unusedVariables false in
set_option maxRecDepth 100000 in
theorem wX8_goodFirst_33 {X : JX} (hC : JC X cX8_goodFirst RX8 (some .int) 2 33 0 0) (hG : dmI dmM (XG X)) (hnl : nLof X = 3) (fu : Nat) (M : Mem) (t0 : Int32) : J X (ZN X foI) (FX8_goodFirst_33 fu (XD X) M t0) 33 [] [.int t0] M 0 0 := by
  unfold FX8_goodFirst_33
  exact j_iret hC dX8_goodFirst_33
set_option linter.unusedVariables false in
set_option maxRecDepth 100000 in
theorem wX8_goodFirst {X : JX} (hC : JC X cX8_goodFirst RX8 (some .int) 2 33 0 0) (hG : dmI dmM (XG X)) (hnl : nLof X = 3) (fu : Nat) (M : Mem) : J X (ZN X foI) (FX8_goodFirst fu (XD X) M) 0 [(0, .ref (gadr (XG X) (5, 0, 0)))] [] M 0 0 := by
  unfold FX8_goodFirst
  refine j_aload_n hC 0 dX8_goodFirst_0 rfl ?_
  refine j_iconst (v := 0) hC dX8_goodFirst_1 (by decide) ?_
  refine j_callV (nA := 1) (rest := []) hC [.int 0] rfl (fun r hr => mX8_goodIn (XL X) (XG X) hG fu (XD X) M 0 r hr) q1992 q1994 qs112 q136 q1995 (dmMo hG rfl) rfl rfl (by decide +kernel) rfl rfl rfl rfl rfl rfl dX8_goodFirst_2 (fun v2 => [.int v2]) (fun _ => rfl) (fun v2 M2 => ?_)
  refine j_istore_n hC [(1, .int v2), (0, .ref (gadr (XG X) (5, 0, 0)))] hnl dX8_goodFirst_5 rfl rfl ?_
  refine j_aload_n hC 1 dX8_goodFirst_6 rfl ?_
  refine j_iconst (v := 1) hC dX8_goodFirst_7 (by decide) ?_
  refine j_callV (nA := 1) (rest := []) hC [.int 1] rfl (fun r hr => mX8_goodIn (XL X) (XG X) hG fu (XD X) M2 1 r hr) q1992 q1994 qs112 q136 q1995 (dmMo hG rfl) rfl rfl (by decide +kernel) rfl rfl rfl rfl rfl rfl dX8_goodFirst_8 (fun v8 => [.int v8]) (fun _ => rfl) (fun v8 M8 => ?_)
  refine j_istore_n hC [(2, .int v8), (1, .int v2), (0, .ref (gadr (XG X) (5, 0, 0)))] hnl dX8_goodFirst_11 rfl rfl ?_
  refine j_iload_n hC 1 dX8_goodFirst_12 rfl ?_
  refine j_if_ne (tgt := 20) hC dX8_goodFirst_13 (by decide) (fun h13 => ?_) (fun h13 => ?_)
  · refine j_iload_n hC 0 dX8_goodFirst_16 rfl ?_
    refine j_goto (tgt := 33) hC dX8_goodFirst_17 (by decide) ?_
    exact j_sub [] rfl (wX8_goodFirst_33 hC hG hnl fu M8 v8)
  · refine j_iload_n hC 0 dX8_goodFirst_20 rfl ?_
    refine j_if_ne (tgt := 28) hC dX8_goodFirst_21 (by decide) (fun h21 => ?_) (fun h21 => ?_)
    · refine j_iload_n hC 1 dX8_goodFirst_24 rfl ?_
      refine j_goto (tgt := 33) hC dX8_goodFirst_25 (by decide) ?_
      exact j_sub [] rfl (wX8_goodFirst_33 hC hG hnl fu M8 v2)
    · refine j_iload_n hC 1 dX8_goodFirst_28 rfl ?_
      refine j_iload_n hC 0 dX8_goodFirst_29 rfl ?_
      refine j_min hC q1802 q640 q155 q641 dX8_goodFirst_30 rfl (Nat.le_of_ble_eq_true rfl) (Nat.le_of_ble_eq_true rfl) (Nat.le_of_ble_eq_true rfl) ?_
      exact j_sub [] rfl (wX8_goodFirst_33 hC hG hnl fu M8 (mn v2 v8))
set_option linter.unusedVariables false in
set_option maxRecDepth 100000 in
theorem mX8_goodFirst (l : Launch) (Γ : xG) (hG : dmI dmM Γ) (fu : Nat) (D : List LDen) (M : Mem) (r : Int32 × Mem) (hr : FX8_goodFirst fu D M = some r) : CN l yX8_goodFirst (ws_ yX8_goodFirst cX8_goodFirst 3 (some .int)) 2 33 Γ D [.ref (gadr Γ (5, 0, 0))] M (foI r.1) r.2 := by
  refine CN.of (own := RX8) (lv0 := lv_args 0 [.ref (gadr Γ (5, 0, 0))]) (by decide +kernel) rfl (Nat.le_of_ble_eq_true rfl) rfl (fun X e1 e2 e3 e4 hC => ?_) r hr
  subst e1
  subst e2
  exact wX8_goodFirst hC hG e4 fu M
set_option linter.unusedVariables false in
set_option maxRecDepth 100000 in
theorem wgX8_tells_5 {X : JX} (hC : JC X cX8_tells RX8 none 3 55 0 0) (hG : dmI dmM (XG X)) (hnl : nLof X = 6) (fu : Nat) (kn5 : Mem × Int32 × Int32 × Int32 × Int32 × Int32 → Option (Int32 × Mem)) (hk5 : ∀ (M : Mem) (x1 x2 x3 x4 x5 : Int32), J X (ZN X foV) (kn5 (M, x1, x2, x3, x4, x5)) 5 [(0, .ref (gadr (XG X) (5, 0, 0))), (1, .int x1), (2, .int x2), (3, .int x3), (4, .int x4), (5, .int x5)] [] M 0 0) (M : Mem) (x1 x2 x3 x4 x5 : Int32) : J X (ZN X foV) (GX8_tells_5 fu (XD X) kn5 M x1 x2 x3 x4 x5) 5 [(0, .ref (gadr (XG X) (5, 0, 0))), (1, .int x1), (2, .int x2), (3, .int x3), (4, .int x4), (5, .int x5)] [] M 0 0 := by
  unfold GX8_tells_5
  refine j_iload hC 5 dX8_tells_5 rfl ?_
  refine j_bipush (v := 6) hC dX8_tells_7 (by decide) ?_
  refine j_icmp_lt (tgt := 41) hC dX8_tells_9 (by decide) (fun h9 => ?_) (fun h9 => ?_)
  · refine j_aload_n hC 0 dX8_tells_41 rfl ?_
    refine j_getR (fk := 1) hC (dmMo hG rfl) rfl rfl in_X8 rfl rfl q1465 rfl dX8_tells_42 ?_
    refine j_bipush (v := 122) hC dX8_tells_45 (by decide) ?_
    refine j_aload_n hC 0 dX8_tells_47 rfl ?_
    refine j_getR (fk := 1) hC (dmMo hG rfl) rfl rfl in_X8 rfl rfl q1465 rfl dX8_tells_48 ?_
    refine j_iconst (v := 5) hC dX8_tells_51 (by decide) ?_
    refine j_iald hC (dmMo hG rfl) rfl dX8_tells_52 (fun h52 => ?_)
    refine j_iast hC (dmMo hG rfl) rfl dX8_tells_53 (fun h53 => ?_)
    refine j_lt (fun M53 => ?_)
    refine j_aload_n hC 0 dX8_tells_54 rfl ?_
    refine j_getR (fk := 1) hC (dmMo hG rfl) rfl rfl in_X8 rfl rfl q1465 rfl dX8_tells_55 ?_
    refine j_bipush (v := 123) hC dX8_tells_58 (by decide) ?_
    refine j_iload_n hC 1 dX8_tells_60 rfl ?_
    refine j_iast hC (dmMo hG rfl) rfl dX8_tells_61 (fun h61 => ?_)
    refine j_lt (fun M61 => ?_)
    refine j_aload_n hC 0 dX8_tells_62 rfl ?_
    refine j_getR (fk := 1) hC (dmMo hG rfl) rfl rfl in_X8 rfl rfl q1465 rfl dX8_tells_63 ?_
    refine j_bipush (v := 124) hC dX8_tells_66 (by decide) ?_
    refine j_iload_n hC 2 dX8_tells_68 rfl ?_
    refine j_iast hC (dmMo hG rfl) rfl dX8_tells_69 (fun h69 => ?_)
    refine j_lt (fun M69 => ?_)
    refine j_aload_n hC 0 dX8_tells_70 rfl ?_
    refine j_getR (fk := 1) hC (dmMo hG rfl) rfl rfl in_X8 rfl rfl q1465 rfl dX8_tells_71 ?_
    refine j_bipush (v := 125) hC dX8_tells_74 (by decide) ?_
    refine j_iload_n hC 3 dX8_tells_76 rfl ?_
    refine j_iast hC (dmMo hG rfl) rfl dX8_tells_77 (fun h77 => ?_)
    refine j_lt (fun M77 => ?_)
    refine j_aload_n hC 0 dX8_tells_78 rfl ?_
    refine j_getR (fk := 1) hC (dmMo hG rfl) rfl rfl in_X8 rfl rfl q1465 rfl dX8_tells_79 ?_
    refine j_bipush (v := 126) hC dX8_tells_82 (by decide) ?_
    refine j_iload hC 4 dX8_tells_84 rfl ?_
    refine j_iast hC (dmMo hG rfl) rfl dX8_tells_86 (fun h86 => ?_)
    refine j_lt (fun M86 => ?_)
    refine j_aload_n hC 0 dX8_tells_87 rfl ?_
    refine j_getR (fk := 1) hC (dmMo hG rfl) rfl rfl in_X8 rfl rfl q1465 rfl dX8_tells_88 ?_
    refine j_bipush (v := 127) hC dX8_tells_91 (by decide) ?_
    refine j_aload_n hC 0 dX8_tells_93 rfl ?_
    refine j_callV (nA := 0) (rest := [.int 127, .ref (gadr (XG X) (5, 0, 1))]) hC [] rfl (fun r hr => mX8_goodFirst (XL X) (XG X) hG fu (XD X) M86 r hr) q2000 q2002 qs114 q136 q2003 (dmMo hG rfl) rfl rfl (by decide +kernel) rfl rfl rfl rfl rfl rfl dX8_tells_94 (fun v94 => [.int v94, .int 127, .ref (gadr (XG X) (5, 0, 1))]) (fun _ => rfl) (fun v94 M94 => ?_)
    refine j_iast hC (dmMo hG rfl) rfl dX8_tells_97 (fun h97 => ?_)
    refine j_lt (fun M97 => ?_)
    refine j_aload_n hC 0 dX8_tells_98 rfl ?_
    refine j_getR (fk := 1) hC (dmMo hG rfl) rfl rfl in_X8 rfl rfl q1465 rfl dX8_tells_99 ?_
    refine j_bipush (v := 11) hC dX8_tells_102 (by decide) ?_
    refine j_bipush (v := 60) hC dX8_tells_104 (by decide) ?_
    refine j_aload_n hC 0 dX8_tells_106 rfl ?_
    refine j_getR (fk := 1) hC (dmMo hG rfl) rfl rfl in_X8 rfl rfl q1465 rfl dX8_tells_107 ?_
    refine j_bipush (v := 11) hC dX8_tells_110 (by decide) ?_
    refine j_iald hC (dmMo hG rfl) rfl dX8_tells_112 (fun h112 => ?_)
    refine j_iconst (v := 1) hC dX8_tells_113 (by decide) ?_
    refine j_iadd hC dX8_tells_114 ?_
    refine j_min hC q1802 q640 q155 q641 dX8_tells_115 rfl (Nat.le_of_ble_eq_true rfl) (Nat.le_of_ble_eq_true rfl) (Nat.le_of_ble_eq_true rfl) ?_
    refine j_iast hC (dmMo hG rfl) rfl dX8_tells_118 (fun h118 => ?_)
    refine j_lt (fun M118 => ?_)
    exact j_vret hC dX8_tells_119
  · refine j_aload_n hC 0 dX8_tells_12 rfl ?_
    refine j_getR (fk := 1) hC (dmMo hG rfl) rfl rfl in_X8 rfl rfl q1465 rfl dX8_tells_13 ?_
    refine j_bipush (v := 122) hC dX8_tells_16 (by decide) ?_
    refine j_iload hC 5 dX8_tells_18 rfl ?_
    refine j_iadd hC dX8_tells_20 ?_
    refine j_aload_n hC 0 dX8_tells_21 rfl ?_
    refine j_getR (fk := 1) hC (dmMo hG rfl) rfl rfl in_X8 rfl rfl q1465 rfl dX8_tells_22 ?_
    refine j_bipush (v := 122) hC dX8_tells_25 (by decide) ?_
    refine j_iload hC 5 dX8_tells_27 rfl ?_
    refine j_iadd hC dX8_tells_29 ?_
    refine j_bipush (v := 6) hC dX8_tells_30 (by decide) ?_
    refine j_isub hC dX8_tells_32 ?_
    refine j_iald hC (dmMo hG rfl) rfl dX8_tells_33 (fun h33 => ?_)
    refine j_iast hC (dmMo hG rfl) rfl dX8_tells_34 (fun h34 => ?_)
    refine j_lt (fun M34 => ?_)
    refine j_iincL hC 5 (fun y35 => [(5, .int y35), (0, .ref (gadr (XG X) (5, 0, 0))), (1, .int x1), (2, .int x2), (3, .int x3), (4, .int x4)]) hnl dX8_tells_35 rfl (by decide) rfl (fun _ => rfl) (fun y35 => ?_)
    refine j_goto (tgt := 5) hC dX8_tells_38 (by decide) ?_
    exact j_sub [1, 2, 3, 4, 5, 0] rfl (hk5 M34 x1 x2 x3 x4 y35)
set_option linter.unusedVariables false in
set_option maxRecDepth 100000 in
theorem wX8_tells_5 {X : JX} (hC : JC X cX8_tells RX8 none 3 55 0 0) (hG : dmI dmM (XG X)) (hnl : nLof X = 6) (fu : Nat) (M : Mem) (x1 x2 x3 x4 x5 : Int32) : J X (ZN X foV) (FX8_tells_5 fu (XD X) M x1 x2 x3 x4 x5) 5 [(0, .ref (gadr (XG X) (5, 0, 0))), (1, .int x1), (2, .int x2), (3, .int x3), (4, .int x4), (5, .int x5)] [] M 0 0 := by
  exact j_lp (lvf := fun z => [(0, .ref (gadr (XG X) (5, 0, 0))), (1, .int (z.2.1)), (2, .int (z.2.2.1)), (3, .int (z.2.2.2.1)), (4, .int (z.2.2.2.2.1)), (5, .int (z.2.2.2.2.2))]) (Mf := fun z => z.1) (fun kn hk z => wgX8_tells_5 hC hG hnl fu kn (fun M x1 x2 x3 x4 x5 => hk (M, x1, x2, x3, x4, x5)) z.1 z.2.1 z.2.2.1 z.2.2.2.1 z.2.2.2.2.1 z.2.2.2.2.2) fu (M, x1, x2, x3, x4, x5)
set_option linter.unusedVariables false in
set_option maxRecDepth 100000 in
theorem wX8_tells {X : JX} (hC : JC X cX8_tells RX8 none 3 55 0 0) (hG : dmI dmM (XG X)) (hnl : nLof X = 6) (fu : Nat) (M : Mem) (x1 x2 x3 x4 : Int32) : J X (ZN X foV) (FX8_tells fu (XD X) M x1 x2 x3 x4) 0 [(0, .ref (gadr (XG X) (5, 0, 0))), (1, .int x1), (2, .int x2), (3, .int x3), (4, .int x4)] [] M 0 0 := by
  unfold FX8_tells
  refine j_sipush (v := 359) hC dX8_tells_0 (by decide) ?_
  refine j_istore hC [(5, .int 359), (0, .ref (gadr (XG X) (5, 0, 0))), (1, .int x1), (2, .int x2), (3, .int x3), (4, .int x4)] hnl dX8_tells_3 rfl rfl ?_
  exact j_sub [1, 2, 3, 4, 5, 0] rfl (wX8_tells_5 hC hG hnl fu M x1 x2 x3 x4 359)
set_option linter.unusedVariables false in
set_option maxRecDepth 100000 in
theorem mX8_tells (l : Launch) (Γ : xG) (hG : dmI dmM Γ) (fu : Nat) (D : List LDen) (M : Mem) (x1 x2 x3 x4 : Int32) (r : Int32 × Mem) (hr : FX8_tells fu D M x1 x2 x3 x4 = some r) : CN l yX8_tells (ws_ yX8_tells cX8_tells 6 none) 3 55 Γ D [.ref (gadr Γ (5, 0, 0)), .int x1, .int x2, .int x3, .int x4] M (foV r.1) r.2 := by
  refine CN.of (own := RX8) (lv0 := lv_args 0 [.ref (gadr Γ (5, 0, 0)), .int x1, .int x2, .int x3, .int x4]) (by decide +kernel) rfl (Nat.le_of_ble_eq_true rfl) rfl (fun X e1 e2 e3 e4 hC => ?_) r hr
  subst e1
  subst e2
  exact wX8_tells hC hG e4 fu M x1 x2 x3 x4
set_option linter.unusedVariables false in
set_option maxRecDepth 100000 in
theorem wX8_call_89 {X : JX} (hC : JC X cX8_call RX8 (some .int) 9 198 0 0) (hG : dmI dmM (XG X)) (hnl : nLof X = 5) (fu : Nat) (M : Mem) : J X (ZN X foI) (FX8_call_89 fu (XD X) M) 89 [] [] M 0 0 := by
  unfold FX8_call_89
  refine j_iconst (v := 0) hC dX8_call_89 (by decide) ?_
  exact j_iret hC dX8_call_90
set_option linter.unusedVariables false in
set_option maxRecDepth 100000 in
theorem wX8_call_82 {X : JX} (hC : JC X cX8_call RX8 (some .int) 9 198 0 0) (hG : dmI dmM (XG X)) (hnl : nLof X = 5) (fu : Nat) (M : Mem) (x1 x2 x3 t0 : Int32) : J X (ZN X foI) (FX8_call_82 fu (XD X) M x1 x2 x3 t0) 82 [(0, .ref (gadr (XG X) (5, 0, 0))), (1, .int x1), (2, .int x2), (3, .int x3)] [.int t0, .ref (gadr (XG X) (5, 0, 0))] M 0 0 := by
  unfold FX8_call_82
  refine j_iconst (v := 2) hC dX8_call_82 (by decide) ?_
  refine j_callV (nA := 2) (rest := []) hC [.int t0, .int 2] rfl (fun r hr => mX8_throwsIf (XL X) (XG X) hG fu (XD X) M t0 2 r hr) q1748 q1750 qs76 q136 q1751 (dmMo hG rfl) rfl rfl (by decide +kernel) rfl rfl rfl rfl rfl rfl dX8_call_83 (fun v83 => [.int v83]) (fun _ => rfl) (fun v83 M83 => ?_)
  refine j_if_eq (tgt := 91) hC dX8_call_86 (by decide) (fun h86 => ?_) (fun h86 => ?_)
  · refine j_aload_n hC 0 dX8_call_91 rfl ?_
    refine j_callV (nA := 0) (rest := []) hC [] rfl (fun r hr => mX8_remembers (XL X) (XG X) hG fu (XD X) M83 r hr) q1979 q1981 qs109 q136 q1982 (dmMo hG rfl) rfl rfl (by decide +kernel) rfl rfl rfl rfl rfl rfl dX8_call_92 (fun _ => []) (fun _ => rfl) (fun v92 M92 => ?_)
    refine j_aload_n hC 0 dX8_call_95 rfl ?_
    refine j_getR (fk := 1) hC (dmMo hG rfl) rfl rfl in_X8 rfl rfl q1465 rfl dX8_call_96 ?_
    refine j_aload_n hC 0 dX8_call_99 rfl ?_
    refine j_iload_n hC 1 dX8_call_100 rfl ?_
    refine j_iconst (v := 0) hC dX8_call_101 (by decide) ?_
    refine j_callV (nA := 2) (rest := [.ref (gadr (XG X) (5, 0, 1))]) hC [.int x1, .int 0] rfl (fun r hr => mX8_ofCase (XL X) (XG X) hG fu (XD X) M92 x1 0 r hr) q1934 q1936 qs104 q136 q1937 (dmMo hG rfl) rfl rfl (by decide +kernel) rfl rfl rfl rfl rfl rfl dX8_call_102 (fun v102 => [.int v102, .ref (gadr (XG X) (5, 0, 1))]) (fun _ => rfl) (fun v102 M102 => ?_)
    refine j_iload_n hC 2 dX8_call_105 rfl ?_
    refine j_callS (nA := 2) (rest := [.ref (gadr (XG X) (5, 0, 1))]) hC [.int v102, .int x2] rfl (fun r hr => mX8_stockAt (XL X) (XG X) hG fu (XD X) M102 v102 x2 r hr) q1648 q1649 q136 q1650 (by decide +kernel) rfl rfl rfl rfl rfl rfl dX8_call_106 (fun v106 => [.int v106, .ref (gadr (XG X) (5, 0, 1))]) (fun _ => rfl) (fun v106 M106 => ?_)
    refine j_dup2 hC dX8_call_109 rfl rfl ?_
    refine j_iald hC (dmMo hG rfl) rfl dX8_call_110 (fun h110 => ?_)
    refine j_iconst (v := 1) hC dX8_call_111 (by decide) ?_
    refine j_isub hC dX8_call_112 ?_
    refine j_iast hC (dmMo hG rfl) rfl dX8_call_113 (fun h113 => ?_)
    refine j_lt (fun M113 => ?_)
    refine j_aload_n hC 0 dX8_call_114 rfl ?_
    refine j_getR (fk := 1) hC (dmMo hG rfl) rfl rfl in_X8 rfl rfl q1465 rfl dX8_call_115 ?_
    refine j_aload_n hC 0 dX8_call_118 rfl ?_
    refine j_iload_n hC 1 dX8_call_119 rfl ?_
    refine j_iconst (v := 1) hC dX8_call_120 (by decide) ?_
    refine j_callV (nA := 2) (rest := [.ref (gadr (XG X) (5, 0, 1))]) hC [.int x1, .int 1] rfl (fun r hr => mX8_ofCase (XL X) (XG X) hG fu (XD X) M113 x1 1 r hr) q1934 q1936 qs104 q136 q1937 (dmMo hG rfl) rfl rfl (by decide +kernel) rfl rfl rfl rfl rfl rfl dX8_call_121 (fun v121 => [.int v121, .ref (gadr (XG X) (5, 0, 1))]) (fun _ => rfl) (fun v121 M121 => ?_)
    refine j_iload_n hC 3 dX8_call_124 rfl ?_
    refine j_callS (nA := 2) (rest := [.ref (gadr (XG X) (5, 0, 1))]) hC [.int v121, .int x3] rfl (fun r hr => mX8_stockAt (XL X) (XG X) hG fu (XD X) M121 v121 x3 r hr) q1648 q1649 q136 q1650 (by decide +kernel) rfl rfl rfl rfl rfl rfl dX8_call_125 (fun v125 => [.int v125, .ref (gadr (XG X) (5, 0, 1))]) (fun _ => rfl) (fun v125 M125 => ?_)
    refine j_dup2 hC dX8_call_128 rfl rfl ?_
    refine j_iald hC (dmMo hG rfl) rfl dX8_call_129 (fun h129 => ?_)
    refine j_iconst (v := 1) hC dX8_call_130 (by decide) ?_
    refine j_isub hC dX8_call_131 ?_
    refine j_iast hC (dmMo hG rfl) rfl dX8_call_132 (fun h132 => ?_)
    refine j_lt (fun M132 => ?_)
    refine j_aload_n hC 0 dX8_call_133 rfl ?_
    refine j_iload_n hC 2 dX8_call_134 rfl ?_
    refine j_iload_n hC 3 dX8_call_135 rfl ?_
    refine j_callV (nA := 2) (rest := []) hC [.int x2, .int x3] rfl (fun r hr => mX8_called (XL X) (XG X) hG fu (XD X) M132 x2 x3 r hr) q1983 q1985 qs110 q136 q1986 (dmMo hG rfl) rfl rfl (by decide +kernel) rfl rfl rfl rfl rfl rfl dX8_call_136 (fun v136 => [.int v136]) (fun _ => rfl) (fun v136 M136 => ?_)
    refine j_istore hC [(4, .int v136), (0, .ref (gadr (XG X) (5, 0, 0))), (1, .int x1), (2, .int x2), (3, .int x3)] hnl dX8_call_139 rfl rfl ?_
    refine j_aload_n hC 1 dX8_call_141 rfl ?_
    refine j_getR (fk := 1) hC (dmMo hG rfl) rfl rfl in_X8 rfl rfl q1465 rfl dX8_call_142 ?_
    refine j_iload_n hC 2 dX8_call_145 rfl ?_
    refine j_iconst (v := 3) hC dX8_call_146 (by decide) ?_
    refine j_callS (nA := 2) (rest := [.ref (gadr (XG X) (5, 0, 1))]) hC [.int x1, .int 3] rfl (fun r hr => mX8_caseAt (XL X) (XG X) hG fu (XD X) M136 x1 3 r hr) q1670 q1671 q136 q1672 (by decide +kernel) rfl rfl rfl rfl rfl rfl dX8_call_147 (fun v147 => [.int v147, .ref (gadr (XG X) (5, 0, 1))]) (fun _ => rfl) (fun v147 M147 => ?_)
    refine j_iload hC 0 dX8_call_150 rfl ?_
    refine j_iast hC (dmMo hG rfl) rfl dX8_call_152 (fun h152 => ?_)
    refine j_lt (fun M152 => ?_)
    refine j_aload_n hC 1 dX8_call_153 rfl ?_
    refine j_iload_n hC 2 dX8_call_154 rfl ?_
    refine j_iload_n hC 3 dX8_call_155 rfl ?_
    refine j_iload_n hC 4 dX8_call_156 rfl ?_
    refine j_iload hC 0 dX8_call_157 rfl ?_
    refine j_callV (nA := 4) (rest := []) hC [.int x1, .int x2, .int x3, .int v136] rfl (fun r hr => mX8_tells (XL X) (XG X) hG fu (XD X) M152 x1 x2 x3 v136 r hr) q1996 q1998 qs113 q136 q1999 (dmMo hG rfl) rfl rfl (by decide +kernel) rfl rfl rfl rfl rfl rfl dX8_call_159 (fun _ => []) (fun _ => rfl) (fun v159 M159 => ?_)
    refine j_iload hC 0 dX8_call_162 rfl ?_
    exact j_iret hC dX8_call_164
  · exact j_sub [] rfl (wX8_call_89 hC hG hnl fu M83)
set_option linter.unusedVariables false in
set_option maxRecDepth 100000 in
theorem wX8_call_77 {X : JX} (hC : JC X cX8_call RX8 (some .int) 9 198 0 0) (hG : dmI dmM (XG X)) (hnl : nLof X = 5) (fu : Nat) (M : Mem) (x1 x2 x3 : Int32) : J X (ZN X foI) (FX8_call_77 fu (XD X) M x1 x2 x3) 77 [(0, .ref (gadr (XG X) (5, 0, 0))), (1, .int x1), (2, .int x2), (3, .int x3)] [.ref (gadr (XG X) (5, 0, 0))] M 0 0 := by
  unfold FX8_call_77
  refine j_iconst (v := 1) hC dX8_call_77 (by decide) ?_
  refine j_goto (tgt := 82) hC dX8_call_78 (by decide) ?_
  exact j_sub [0, 1, 2, 3] rfl (wX8_call_82 hC hG hnl fu M x1 x2 x3 1)
set_option linter.unusedVariables false in
set_option maxRecDepth 100000 in
theorem wX8_call_35 {X : JX} (hC : JC X cX8_call RX8 (some .int) 9 198 0 0) (hG : dmI dmM (XG X)) (hnl : nLof X = 5) (fu : Nat) (M : Mem) (x1 x2 x3 t0 : Int32) : J X (ZN X foI) (FX8_call_35 fu (XD X) M x1 x2 x3 t0) 35 [(0, .ref (gadr (XG X) (5, 0, 0))), (1, .int x1), (2, .int x2), (3, .int x3)] [.int t0, .ref (gadr (XG X) (5, 0, 0))] M 0 0 := by
  unfold FX8_call_35
  refine j_iconst (v := 1) hC dX8_call_35 (by decide) ?_
  refine j_callV (nA := 2) (rest := []) hC [.int t0, .int 1] rfl (fun r hr => mX8_throwsIf (XL X) (XG X) hG fu (XD X) M t0 1 r hr) q1748 q1750 qs76 q136 q1751 (dmMo hG rfl) rfl rfl (by decide +kernel) rfl rfl rfl rfl rfl rfl dX8_call_36 (fun v36 => [.int v36]) (fun _ => rfl) (fun v36 M36 => ?_)
  refine j_if_ne (tgt := 89) hC dX8_call_39 (by decide) (fun h39 => ?_) (fun h39 => ?_)
  · refine j_aload_n hC 0 dX8_call_42 rfl ?_
    refine j_aload_n hC 0 dX8_call_43 rfl ?_
    refine j_iload_n hC 1 dX8_call_44 rfl ?_
    refine j_callV (nA := 1) (rest := [.ref (gadr (XG X) (5, 0, 0))]) hC [.int x1] rfl (fun r hr => mX8_isOpen (XL X) (XG X) hG fu (XD X) M36 x1 r hr) q1950 q1952 qs106 q136 q1953 (dmMo hG rfl) rfl rfl (by decide +kernel) rfl rfl rfl rfl rfl rfl dX8_call_45 (fun v45 => [.int v45, .ref (gadr (XG X) (5, 0, 0))]) (fun _ => rfl) (fun v45 M45 => ?_)
    refine j_if_eq (tgt := 77) hC dX8_call_48 (by decide) (fun h48 => ?_) (fun h48 => ?_)
    · exact j_sub [0, 1, 2, 3] rfl (wX8_call_77 hC hG hnl fu M45 x1 x2 x3)
    · refine j_aload_n hC 0 dX8_call_51 rfl ?_
      refine j_iload_n hC 1 dX8_call_52 rfl ?_
      refine j_iconst (v := 0) hC dX8_call_53 (by decide) ?_
      refine j_callV (nA := 2) (rest := [.ref (gadr (XG X) (5, 0, 0))]) hC [.int x1, .int 0] rfl (fun r hr => mX8_choices (XL X) (XG X) hG fu (XD X) M45 x1 0 r hr) q1938 q1940 qs105 q136 q1941 (dmMo hG rfl) rfl rfl (by decide +kernel) rfl rfl rfl rfl rfl rfl dX8_call_54 (fun v54 => [.int v54, .ref (gadr (XG X) (5, 0, 0))]) (fun _ => rfl) (fun v54 M54 => ?_)
      refine j_iload_n hC 2 dX8_call_57 rfl ?_
      refine j_callS (nA := 2) (rest := [.ref (gadr (XG X) (5, 0, 0))]) hC [.int v54, .int x2] rfl (fun r hr => mX8_has (XL X) (XG X) hG fu (XD X) M54 v54 x2 r hr) q1644 q1645 q136 q1646 (by decide +kernel) rfl rfl rfl rfl rfl rfl dX8_call_58 (fun v58 => [.int v58, .ref (gadr (XG X) (5, 0, 0))]) (fun _ => rfl) (fun v58 M58 => ?_)
      refine j_if_eq (tgt := 77) hC dX8_call_61 (by decide) (fun h61 => ?_) (fun h61 => ?_)
      · exact j_sub [0, 1, 2, 3] rfl (wX8_call_77 hC hG hnl fu M58 x1 x2 x3)
      · refine j_aload_n hC 0 dX8_call_64 rfl ?_
        refine j_iload_n hC 1 dX8_call_65 rfl ?_
        refine j_iconst (v := 1) hC dX8_call_66 (by decide) ?_
        refine j_callV (nA := 2) (rest := [.ref (gadr (XG X) (5, 0, 0))]) hC [.int x1, .int 1] rfl (fun r hr => mX8_choices (XL X) (XG X) hG fu (XD X) M58 x1 1 r hr) q1938 q1940 qs105 q136 q1941 (dmMo hG rfl) rfl rfl (by decide +kernel) rfl rfl rfl rfl rfl rfl dX8_call_67 (fun v67 => [.int v67, .ref (gadr (XG X) (5, 0, 0))]) (fun _ => rfl) (fun v67 M67 => ?_)
        refine j_iload_n hC 3 dX8_call_70 rfl ?_
        refine j_callS (nA := 2) (rest := [.ref (gadr (XG X) (5, 0, 0))]) hC [.int v67, .int x3] rfl (fun r hr => mX8_has (XL X) (XG X) hG fu (XD X) M67 v67 x3 r hr) q1644 q1645 q136 q1646 (by decide +kernel) rfl rfl rfl rfl rfl rfl dX8_call_71 (fun v71 => [.int v71, .ref (gadr (XG X) (5, 0, 0))]) (fun _ => rfl) (fun v71 M71 => ?_)
        refine j_if_ne (tgt := 81) hC dX8_call_74 (by decide) (fun h74 => ?_) (fun h74 => ?_)
        · exact j_sub [0, 1, 2, 3] rfl (wX8_call_77 hC hG hnl fu M71 x1 x2 x3)
        · refine j_iconst (v := 0) hC dX8_call_81 (by decide) ?_
          exact j_sub [0, 1, 2, 3] rfl (wX8_call_82 hC hG hnl fu M71 x1 x2 x3 0)
  · exact j_sub [] rfl (wX8_call_89 hC hG hnl fu M36)
set_option linter.unusedVariables false in
set_option maxRecDepth 100000 in
theorem wX8_call_30 {X : JX} (hC : JC X cX8_call RX8 (some .int) 9 198 0 0) (hG : dmI dmM (XG X)) (hnl : nLof X = 5) (fu : Nat) (M : Mem) (x1 x2 x3 : Int32) : J X (ZN X foI) (FX8_call_30 fu (XD X) M x1 x2 x3) 30 [(0, .ref (gadr (XG X) (5, 0, 0))), (1, .int x1), (2, .int x2), (3, .int x3)] [.ref (gadr (XG X) (5, 0, 0))] M 0 0 := by
  unfold FX8_call_30
  refine j_iconst (v := 1) hC dX8_call_30 (by decide) ?_
  refine j_goto (tgt := 35) hC dX8_call_31 (by decide) ?_
  exact j_sub [0, 1, 2, 3] rfl (wX8_call_35 hC hG hnl fu M x1 x2 x3 1)
set_option linter.unusedVariables false in
set_option maxRecDepth 100000 in
theorem wX8_call {X : JX} (hC : JC X cX8_call RX8 (some .int) 9 198 0 0) (hG : dmI dmM (XG X)) (hnl : nLof X = 5) (fu : Nat) (M : Mem) (x1 x2 x3 : Int32) : J X (ZN X foI) (FX8_call fu (XD X) M x1 x2 x3) 0 [(0, .ref (gadr (XG X) (5, 0, 0))), (1, .int x1), (2, .int x2), (3, .int x3)] [] M 0 0 := by
  unfold FX8_call
  refine j_aload_n hC 0 dX8_call_0 rfl ?_
  refine j_iconst (v := 0) hC dX8_call_1 (by decide) ?_
  refine j_put (fk := 0) (ty := .int) hC (dmMo hG rfl) rfl rfl in_X8 rfl rfl q1464 tyX8 tyX8_ok nmX8 rfl rfl (by decide +kernel) rfl rfl dX8_call_2 ?_
  refine j_lt (fun M2 => ?_)
  refine j_aload_n hC 0 dX8_call_5 rfl ?_
  refine j_aload_n hC 0 dX8_call_6 rfl ?_
  refine j_iload_n hC 1 dX8_call_7 rfl ?_
  refine j_callV (nA := 1) (rest := [.ref (gadr (XG X) (5, 0, 0))]) hC [.int x1] rfl (fun r hr => mX8_noCase (XL X) (XG X) hG fu (XD X) M2 x1 r hr) q1930 q1932 qs103 q136 q1933 (dmMo hG rfl) rfl rfl (by decide +kernel) rfl rfl rfl rfl rfl rfl dX8_call_8 (fun v8 => [.int v8, .ref (gadr (XG X) (5, 0, 0))]) (fun _ => rfl) (fun v8 M8 => ?_)
  refine j_if_ne (tgt := 30) hC dX8_call_11 (by decide) (fun h11 => ?_) (fun h11 => ?_)
  · refine j_aload_n hC 0 dX8_call_14 rfl ?_
    refine j_iload_n hC 2 dX8_call_15 rfl ?_
    refine j_callV (nA := 1) (rest := [.ref (gadr (XG X) (5, 0, 0))]) hC [.int x2] rfl (fun r hr => mX8_noBird (XL X) (XG X) hG fu (XD X) M8 x2 r hr) q1760 q1762 qs77 q136 q1763 (dmMo hG rfl) rfl rfl (by decide +kernel) rfl rfl rfl rfl rfl rfl dX8_call_16 (fun v16 => [.int v16, .ref (gadr (XG X) (5, 0, 0))]) (fun _ => rfl) (fun v16 M16 => ?_)
    refine j_if_ne (tgt := 30) hC dX8_call_19 (by decide) (fun h19 => ?_) (fun h19 => ?_)
    · refine j_aload_n hC 0 dX8_call_22 rfl ?_
      refine j_iload_n hC 3 dX8_call_23 rfl ?_
      refine j_callV (nA := 1) (rest := [.ref (gadr (XG X) (5, 0, 0))]) hC [.int x3] rfl (fun r hr => mX8_noBird (XL X) (XG X) hG fu (XD X) M16 x3 r hr) q1760 q1762 qs77 q136 q1763 (dmMo hG rfl) rfl rfl (by decide +kernel) rfl rfl rfl rfl rfl rfl dX8_call_24 (fun v24 => [.int v24, .ref (gadr (XG X) (5, 0, 0))]) (fun _ => rfl) (fun v24 M24 => ?_)
      refine j_if_eq (tgt := 34) hC dX8_call_27 (by decide) (fun h27 => ?_) (fun h27 => ?_)
      · refine j_iconst (v := 0) hC dX8_call_34 (by decide) ?_
        exact j_sub [0, 1, 2, 3] rfl (wX8_call_35 hC hG hnl fu M24 x1 x2 x3 0)
      · exact j_sub [0, 1, 2, 3] rfl (wX8_call_30 hC hG hnl fu M24 x1 x2 x3)
    · exact j_sub [0, 1, 2, 3] rfl (wX8_call_30 hC hG hnl fu M16 x1 x2 x3)
  · exact j_sub [0, 1, 2, 3] rfl (wX8_call_30 hC hG hnl fu M8 x1 x2 x3)
set_option linter.unusedVariables false in
set_option maxRecDepth 100000 in
theorem mX8_call (l : Launch) (Γ : xG) (hG : dmI dmM Γ) (fu : Nat) (D : List LDen) (M : Mem) (x1 x2 x3 : Int32) (r : Int32 × Mem) (hr : FX8_call fu D M x1 x2 x3 = some r) : CN l yX8_call (ws_ yX8_call cX8_call 5 (some .int)) 9 198 Γ D [.ref (gadr Γ (5, 0, 0)), .int x1, .int x2, .int x3] M (foI r.1) r.2 := by
  refine CN.of (own := RX8) (lv0 := lv_args 0 [.ref (gadr Γ (5, 0, 0)), .int x1, .int x2, .int x3]) (by decide +kernel) rfl (Nat.le_of_ble_eq_true rfl) rfl (fun X e1 e2 e3 e4 hC => ?_) r hr
  subst e1
  subst e2
  exact wX8_call hC hG e4 fu M x1 x2 x3
set_option linter.unusedVariables false in
set_option maxRecDepth 100000 in
theorem wX8_hour_21 {X : JX} (hC : JC X cX8_hour RX8 (some .int) 2 34 0 0) (hG : dmI dmM (XG X)) (hnl : nLof X = 3) (fu : Nat) (M : Mem) (x1 t0 : Int32) : J X (ZN X foI) (FX8_hour_21 fu (XD X) M x1 t0) 21 [(0, .ref (gadr (XG X) (5, 0, 0))), (1, .int x1)] [.int t0, .ref (gadr (XG X) (5, 0, 0))] M 0 0 := by
  unfold FX8_hour_21
  refine j_iconst (v := 1) hC dX8_hour_21 (by decide) ?_
  refine j_callV (nA := 2) (rest := []) hC [.int t0, .int 1] rfl (fun r hr => mX8_throwsIf (XL X) (XG X) hG fu (XD X) M t0 1 r hr) q1748 q1750 qs76 q136 q1751 (dmMo hG rfl) rfl rfl (by decide +kernel) rfl rfl rfl rfl rfl rfl dX8_hour_22 (fun v22 => [.int v22]) (fun _ => rfl) (fun v22 M22 => ?_)
  refine j_if_eq (tgt := 30) hC dX8_hour_25 (by decide) (fun h25 => ?_) (fun h25 => ?_)
  · refine j_aload_n hC 0 dX8_hour_30 rfl ?_
    refine j_callV (nA := 0) (rest := []) hC [] rfl (fun r hr => mX8_remembers (XL X) (XG X) hG fu (XD X) M22 r hr) q1979 q1981 qs109 q136 q1982 (dmMo hG rfl) rfl rfl (by decide +kernel) rfl rfl rfl rfl rfl rfl dX8_hour_31 (fun _ => []) (fun _ => rfl) (fun v31 M31 => ?_)
    refine j_aload_n hC 0 dX8_hour_34 rfl ?_
    refine j_getR (fk := 1) hC (dmMo hG rfl) rfl rfl in_X8 rfl rfl q1465 rfl dX8_hour_35 ?_
    refine j_bipush (v := 6) hC dX8_hour_38 (by decide) ?_
    refine j_iald hC (dmMo hG rfl) rfl dX8_hour_40 (fun h40 => ?_)
    refine j_ltT (fun y41 => ?_)
    refine j_istore_n hC [(2, .int y41), (0, .ref (gadr (XG X) (5, 0, 0))), (1, .int x1)] hnl dX8_hour_41 rfl rfl ?_
    refine j_aload_n hC 1 dX8_hour_42 rfl ?_
    refine j_getR (fk := 1) hC (dmMo hG rfl) rfl rfl in_X8 rfl rfl q1465 rfl dX8_hour_43 ?_
    refine j_bipush (v := 6) hC dX8_hour_46 (by decide) ?_
    refine j_iload_n hC 2 dX8_hour_48 rfl ?_
    refine j_iast hC (dmMo hG rfl) rfl dX8_hour_49 (fun h49 => ?_)
    refine j_lt (fun M49 => ?_)
    refine j_iload_n hC 0 dX8_hour_50 rfl ?_
    exact j_iret hC dX8_hour_51
  · refine j_iconst (v := 0) hC dX8_hour_28 (by decide) ?_
    exact j_iret hC dX8_hour_29
set_option linter.unusedVariables false in
set_option maxRecDepth 100000 in
theorem wX8_hour {X : JX} (hC : JC X cX8_hour RX8 (some .int) 2 34 0 0) (hG : dmI dmM (XG X)) (hnl : nLof X = 3) (fu : Nat) (M : Mem) (x1 : Int32) : J X (ZN X foI) (FX8_hour fu (XD X) M x1) 0 [(0, .ref (gadr (XG X) (5, 0, 0))), (1, .int x1)] [] M 0 0 := by
  unfold FX8_hour
  refine j_aload_n hC 0 dX8_hour_0 rfl ?_
  refine j_iconst (v := 0) hC dX8_hour_1 (by decide) ?_
  refine j_put (fk := 0) (ty := .int) hC (dmMo hG rfl) rfl rfl in_X8 rfl rfl q1464 tyX8 tyX8_ok nmX8 rfl rfl (by decide +kernel) rfl rfl dX8_hour_2 ?_
  refine j_lt (fun M2 => ?_)
  refine j_aload_n hC 0 dX8_hour_5 rfl ?_
  refine j_iload_n hC 1 dX8_hour_6 rfl ?_
  refine j_iconst (v := 0) hC dX8_hour_7 (by decide) ?_
  refine j_bipush (v := 23) hC dX8_hour_8 (by decide) ?_
  refine j_callS (nA := 3) (rest := [.ref (gadr (XG X) (5, 0, 0))]) hC [.int x1, .int 0, .int 23] rfl (fun r hr => mX8_in (XL X) (XG X) hG fu (XD X) M2 x1 0 23 r hr) q1641 q1642 q136 q1643 (by decide +kernel) rfl rfl rfl rfl rfl rfl dX8_hour_10 (fun v10 => [.int v10, .ref (gadr (XG X) (5, 0, 0))]) (fun _ => rfl) (fun v10 M10 => ?_)
  refine j_if_ne (tgt := 20) hC dX8_hour_13 (by decide) (fun h13 => ?_) (fun h13 => ?_)
  · refine j_iconst (v := 1) hC dX8_hour_16 (by decide) ?_
    refine j_goto (tgt := 21) hC dX8_hour_17 (by decide) ?_
    exact j_sub [0, 1] rfl (wX8_hour_21 hC hG hnl fu M10 x1 1)
  · refine j_iconst (v := 0) hC dX8_hour_20 (by decide) ?_
    exact j_sub [0, 1] rfl (wX8_hour_21 hC hG hnl fu M10 x1 0)
set_option linter.unusedVariables false in
set_option maxRecDepth 100000 in
theorem mX8_hour (l : Launch) (Γ : xG) (hG : dmI dmM Γ) (fu : Nat) (D : List LDen) (M : Mem) (x1 : Int32) (r : Int32 × Mem) (hr : FX8_hour fu D M x1 = some r) : CN l yX8_hour (ws_ yX8_hour cX8_hour 3 (some .int)) 2 34 Γ D [.ref (gadr Γ (5, 0, 0)), .int x1] M (foI r.1) r.2 := by
  refine CN.of (own := RX8) (lv0 := lv_args 0 [.ref (gadr Γ (5, 0, 0)), .int x1]) (by decide +kernel) rfl (Nat.le_of_ble_eq_true rfl) rfl (fun X e1 e2 e3 e4 hC => ?_) r hr
  subst e1
  subst e2
  exact wX8_hour hC hG e4 fu M x1
set_option linter.unusedVariables false in
set_option maxRecDepth 100000 in
theorem wX8_blow_40 {X : JX} (hC : JC X cX8_blow RX8 (some .int) 3 54 0 0) (hG : dmI dmM (XG X)) (hnl : nLof X = 4) (fu : Nat) (M : Mem) : J X (ZN X foI) (FX8_blow_40 fu (XD X) M) 40 [] [] M 0 0 := by
  unfold FX8_blow_40
  refine j_iconst (v := 0) hC dX8_blow_40 (by decide) ?_
  exact j_iret hC dX8_blow_41
set_option linter.unusedVariables false in
set_option maxRecDepth 100000 in
theorem wX8_blow_33 {X : JX} (hC : JC X cX8_blow RX8 (some .int) 3 54 0 0) (hG : dmI dmM (XG X)) (hnl : nLof X = 4) (fu : Nat) (M : Mem) (x1 x2 t0 : Int32) : J X (ZN X foI) (FX8_blow_33 fu (XD X) M x1 x2 t0) 33 [(0, .ref (gadr (XG X) (5, 0, 0))), (1, .int x1), (2, .int x2)] [.int t0, .ref (gadr (XG X) (5, 0, 0))] M 0 0 := by
  unfold FX8_blow_33
  refine j_iconst (v := 2) hC dX8_blow_33 (by decide) ?_
  refine j_callV (nA := 2) (rest := []) hC [.int t0, .int 2] rfl (fun r hr => mX8_throwsIf (XL X) (XG X) hG fu (XD X) M t0 2 r hr) q1748 q1750 qs76 q136 q1751 (dmMo hG rfl) rfl rfl (by decide +kernel) rfl rfl rfl rfl rfl rfl dX8_blow_34 (fun v34 => [.int v34]) (fun _ => rfl) (fun v34 M34 => ?_)
  refine j_if_eq (tgt := 42) hC dX8_blow_37 (by decide) (fun h37 => ?_) (fun h37 => ?_)
  · refine j_aload_n hC 0 dX8_blow_42 rfl ?_
    refine j_callV (nA := 0) (rest := []) hC [] rfl (fun r hr => mX8_remembers (XL X) (XG X) hG fu (XD X) M34 r hr) q1979 q1981 qs109 q136 q1982 (dmMo hG rfl) rfl rfl (by decide +kernel) rfl rfl rfl rfl rfl rfl dX8_blow_43 (fun _ => []) (fun _ => rfl) (fun v43 M43 => ?_)
    refine j_aload_n hC 0 dX8_blow_46 rfl ?_
    refine j_getR (fk := 1) hC (dmMo hG rfl) rfl rfl in_X8 rfl rfl q1465 rfl dX8_blow_47 ?_
    refine j_bipush (v := 13) hC dX8_blow_50 (by decide) ?_
    refine j_iload_n hC 1 dX8_blow_52 rfl ?_
    refine j_iadd hC dX8_blow_53 ?_
    refine j_iald hC (dmMo hG rfl) rfl dX8_blow_54 (fun h54 => ?_)
    refine j_ltT (fun y55 => ?_)
    refine j_istore_n hC [(3, .int y55), (0, .ref (gadr (XG X) (5, 0, 0))), (1, .int x1), (2, .int x2)] hnl dX8_blow_55 rfl rfl ?_
    refine j_aload_n hC 1 dX8_blow_56 rfl ?_
    refine j_getR (fk := 1) hC (dmMo hG rfl) rfl rfl in_X8 rfl rfl q1465 rfl dX8_blow_57 ?_
    refine j_bipush (v := 13) hC dX8_blow_60 (by decide) ?_
    refine j_iload_n hC 2 dX8_blow_62 rfl ?_
    refine j_iadd hC dX8_blow_63 ?_
    refine j_iload_n hC 3 dX8_blow_64 rfl ?_
    refine j_iast hC (dmMo hG rfl) rfl dX8_blow_65 (fun h65 => ?_)
    refine j_lt (fun M65 => ?_)
    refine j_iload_n hC 0 dX8_blow_66 rfl ?_
    exact j_iret hC dX8_blow_67
  · exact j_sub [] rfl (wX8_blow_40 hC hG hnl fu M34)
set_option linter.unusedVariables false in
set_option maxRecDepth 100000 in
theorem wX8_blow {X : JX} (hC : JC X cX8_blow RX8 (some .int) 3 54 0 0) (hG : dmI dmM (XG X)) (hnl : nLof X = 4) (fu : Nat) (M : Mem) (x1 x2 : Int32) : J X (ZN X foI) (FX8_blow fu (XD X) M x1 x2) 0 [(0, .ref (gadr (XG X) (5, 0, 0))), (1, .int x1), (2, .int x2)] [] M 0 0 := by
  unfold FX8_blow
  refine j_aload_n hC 0 dX8_blow_0 rfl ?_
  refine j_iconst (v := 0) hC dX8_blow_1 (by decide) ?_
  refine j_put (fk := 0) (ty := .int) hC (dmMo hG rfl) rfl rfl in_X8 rfl rfl q1464 tyX8 tyX8_ok nmX8 rfl rfl (by decide +kernel) rfl rfl dX8_blow_2 ?_
  refine j_lt (fun M2 => ?_)
  refine j_aload_n hC 0 dX8_blow_5 rfl ?_
  refine j_iload_n hC 1 dX8_blow_6 rfl ?_
  refine j_callS (nA := 1) (rest := [.ref (gadr (XG X) (5, 0, 0))]) hC [.int x1] rfl (fun r hr => mX8_noLevel (XL X) (XG X) hG fu (XD X) M2 x1 r hr) q1764 q1765 q136 q1766 (by decide +kernel) rfl rfl rfl rfl rfl rfl dX8_blow_7 (fun v7 => [.int v7, .ref (gadr (XG X) (5, 0, 0))]) (fun _ => rfl) (fun v7 M7 => ?_)
  refine j_iconst (v := 1) hC dX8_blow_10 (by decide) ?_
  refine j_callV (nA := 2) (rest := []) hC [.int v7, .int 1] rfl (fun r hr => mX8_throwsIf (XL X) (XG X) hG fu (XD X) M7 v7 1 r hr) q1748 q1750 qs76 q136 q1751 (dmMo hG rfl) rfl rfl (by decide +kernel) rfl rfl rfl rfl rfl rfl dX8_blow_11 (fun v11 => [.int v11]) (fun _ => rfl) (fun v11 M11 => ?_)
  refine j_if_ne (tgt := 40) hC dX8_blow_14 (by decide) (fun h14 => ?_) (fun h14 => ?_)
  · refine j_aload_n hC 0 dX8_blow_17 rfl ?_
    refine j_iload_n hC 2 dX8_blow_18 rfl ?_
    refine j_bipush (v := (-3)) hC dX8_blow_19 (by decide) ?_
    refine j_iconst (v := 3) hC dX8_blow_21 (by decide) ?_
    refine j_callS (nA := 3) (rest := [.ref (gadr (XG X) (5, 0, 0))]) hC [.int x2, .int ((-3)), .int 3] rfl (fun r hr => mX8_in (XL X) (XG X) hG fu (XD X) M11 x2 (-3) 3 r hr) q1641 q1642 q136 q1643 (by decide +kernel) rfl rfl rfl rfl rfl rfl dX8_blow_22 (fun v22 => [.int v22, .ref (gadr (XG X) (5, 0, 0))]) (fun _ => rfl) (fun v22 M22 => ?_)
    refine j_if_ne (tgt := 32) hC dX8_blow_25 (by decide) (fun h25 => ?_) (fun h25 => ?_)
    · refine j_iconst (v := 1) hC dX8_blow_28 (by decide) ?_
      refine j_goto (tgt := 33) hC dX8_blow_29 (by decide) ?_
      exact j_sub [0, 1, 2] rfl (wX8_blow_33 hC hG hnl fu M22 x1 x2 1)
    · refine j_iconst (v := 0) hC dX8_blow_32 (by decide) ?_
      exact j_sub [0, 1, 2] rfl (wX8_blow_33 hC hG hnl fu M22 x1 x2 0)
  · exact j_sub [] rfl (wX8_blow_40 hC hG hnl fu M11)
set_option linter.unusedVariables false in
set_option maxRecDepth 100000 in
theorem mX8_blow (l : Launch) (Γ : xG) (hG : dmI dmM Γ) (fu : Nat) (D : List LDen) (M : Mem) (x1 x2 : Int32) (r : Int32 × Mem) (hr : FX8_blow fu D M x1 x2 = some r) : CN l yX8_blow (ws_ yX8_blow cX8_blow 4 (some .int)) 3 54 Γ D [.ref (gadr Γ (5, 0, 0)), .int x1, .int x2] M (foI r.1) r.2 := by
  refine CN.of (own := RX8) (lv0 := lv_args 0 [.ref (gadr Γ (5, 0, 0)), .int x1, .int x2]) (by decide +kernel) rfl (Nat.le_of_ble_eq_true rfl) rfl (fun X e1 e2 e3 e4 hC => ?_) r hr
  subst e1
  subst e2
  exact wX8_blow hC hG e4 fu M x1 x2
set_option linter.unusedVariables false in
set_option maxRecDepth 100000 in
theorem wX8_give_75 {X : JX} (hC : JC X cX8_give RX8 (some .int) 3 55 0 0) (hG : dmI dmM (XG X)) (hnl : nLof X = 5) (fu : Nat) (M : Mem) : J X (ZN X foI) (FX8_give_75 fu (XD X) M) 75 [] [] M 0 0 := by
  unfold FX8_give_75
  refine j_iconst (v := 0) hC dX8_give_75 (by decide) ?_
  exact j_iret hC dX8_give_76
set_option linter.unusedVariables false in
set_option maxRecDepth 100000 in
theorem wX8_give_68 {X : JX} (hC : JC X cX8_give RX8 (some .int) 3 55 0 0) (hG : dmI dmM (XG X)) (hnl : nLof X = 5) (fu : Nat) (M : Mem) (x1 x2 x3 x4 t0 : Int32) : J X (ZN X foI) (FX8_give_68 fu (XD X) M x1 x2 x3 x4 t0) 68 [(0, .ref (gadr (XG X) (5, 0, 0))), (1, .int x1), (2, .int x2), (3, .int x3), (4, .int x4)] [.int t0, .ref (gadr (XG X) (5, 0, 0))] M 0 0 := by
  unfold FX8_give_68
  refine j_iconst (v := 2) hC dX8_give_68 (by decide) ?_
  refine j_callV (nA := 2) (rest := []) hC [.int t0, .int 2] rfl (fun r hr => mX8_throwsIf (XL X) (XG X) hG fu (XD X) M t0 2 r hr) q1748 q1750 qs76 q136 q1751 (dmMo hG rfl) rfl rfl (by decide +kernel) rfl rfl rfl rfl rfl rfl dX8_give_69 (fun v69 => [.int v69]) (fun _ => rfl) (fun v69 M69 => ?_)
  refine j_if_eq (tgt := 77) hC dX8_give_72 (by decide) (fun h72 => ?_) (fun h72 => ?_)
  · refine j_aload_n hC 0 dX8_give_77 rfl ?_
    refine j_callV (nA := 0) (rest := []) hC [] rfl (fun r hr => mX8_remembers (XL X) (XG X) hG fu (XD X) M69 r hr) q1979 q1981 qs109 q136 q1982 (dmMo hG rfl) rfl rfl (by decide +kernel) rfl rfl rfl rfl rfl rfl dX8_give_78 (fun _ => []) (fun _ => rfl) (fun v78 M78 => ?_)
    refine j_aload_n hC 0 dX8_give_81 rfl ?_
    refine j_getR (fk := 1) hC (dmMo hG rfl) rfl rfl in_X8 rfl rfl q1465 rfl dX8_give_82 ?_
    refine j_iload_n hC 1 dX8_give_85 rfl ?_
    refine j_iload_n hC 3 dX8_give_86 rfl ?_
    refine j_callS (nA := 2) (rest := [.ref (gadr (XG X) (5, 0, 1))]) hC [.int x1, .int x3] rfl (fun r hr => mX8_stockAt (XL X) (XG X) hG fu (XD X) M78 x1 x3 r hr) q1648 q1649 q136 q1650 (by decide +kernel) rfl rfl rfl rfl rfl rfl dX8_give_87 (fun v87 => [.int v87, .ref (gadr (XG X) (5, 0, 1))]) (fun _ => rfl) (fun v87 M87 => ?_)
    refine j_dup2 hC dX8_give_90 rfl rfl ?_
    refine j_iald hC (dmMo hG rfl) rfl dX8_give_91 (fun h91 => ?_)
    refine j_iload hC 4 dX8_give_92 rfl ?_
    refine j_isub hC dX8_give_94 ?_
    refine j_iast hC (dmMo hG rfl) rfl dX8_give_95 (fun h95 => ?_)
    refine j_lt (fun M95 => ?_)
    refine j_aload_n hC 0 dX8_give_96 rfl ?_
    refine j_getR (fk := 1) hC (dmMo hG rfl) rfl rfl in_X8 rfl rfl q1465 rfl dX8_give_97 ?_
    refine j_iload_n hC 2 dX8_give_100 rfl ?_
    refine j_iload_n hC 3 dX8_give_101 rfl ?_
    refine j_callS (nA := 2) (rest := [.ref (gadr (XG X) (5, 0, 1))]) hC [.int x2, .int x3] rfl (fun r hr => mX8_stockAt (XL X) (XG X) hG fu (XD X) M95 x2 x3 r hr) q1648 q1649 q136 q1650 (by decide +kernel) rfl rfl rfl rfl rfl rfl dX8_give_102 (fun v102 => [.int v102, .ref (gadr (XG X) (5, 0, 1))]) (fun _ => rfl) (fun v102 M102 => ?_)
    refine j_bipush (v := 99) hC dX8_give_105 (by decide) ?_
    refine j_aload_n hC 0 dX8_give_107 rfl ?_
    refine j_iload_n hC 2 dX8_give_108 rfl ?_
    refine j_iload_n hC 3 dX8_give_109 rfl ?_
    refine j_callV (nA := 2) (rest := [.int 99, .int v102, .ref (gadr (XG X) (5, 0, 1))]) hC [.int x2, .int x3] rfl (fun r hr => mX8_stockOf (XL X) (XG X) hG fu (XD X) M102 x2 x3 r hr) q1922 q1924 qs102 q136 q1925 (dmMo hG rfl) rfl rfl (by decide +kernel) rfl rfl rfl rfl rfl rfl dX8_give_110 (fun v110 => [.int v110, .int 99, .int v102, .ref (gadr (XG X) (5, 0, 1))]) (fun _ => rfl) (fun v110 M110 => ?_)
    refine j_iload hC 4 dX8_give_113 rfl ?_
    refine j_iadd hC dX8_give_115 ?_
    refine j_min hC q1802 q640 q155 q641 dX8_give_116 rfl (Nat.le_of_ble_eq_true rfl) (Nat.le_of_ble_eq_true rfl) (Nat.le_of_ble_eq_true rfl) ?_
    refine j_iast hC (dmMo hG rfl) rfl dX8_give_119 (fun h119 => ?_)
    refine j_lt (fun M119 => ?_)
    refine j_aload_n hC 0 dX8_give_120 rfl ?_
    refine j_iload_n hC 2 dX8_give_121 rfl ?_
    refine j_iload_n hC 3 dX8_give_122 rfl ?_
    refine j_callV (nA := 2) (rest := []) hC [.int x2, .int x3] rfl (fun r hr => mX8_stockOf (XL X) (XG X) hG fu (XD X) M119 x2 x3 r hr) q1922 q1924 qs102 q136 q1925 (dmMo hG rfl) rfl rfl (by decide +kernel) rfl rfl rfl rfl rfl rfl dX8_give_123 (fun v123 => [.int v123]) (fun _ => rfl) (fun v123 M123 => ?_)
    exact j_iret hC dX8_give_126
  · exact j_sub [] rfl (wX8_give_75 hC hG hnl fu M69)
set_option linter.unusedVariables false in
set_option maxRecDepth 100000 in
theorem wX8_give_63 {X : JX} (hC : JC X cX8_give RX8 (some .int) 3 55 0 0) (hG : dmI dmM (XG X)) (hnl : nLof X = 5) (fu : Nat) (M : Mem) (x1 x2 x3 x4 : Int32) : J X (ZN X foI) (FX8_give_63 fu (XD X) M x1 x2 x3 x4) 63 [(0, .ref (gadr (XG X) (5, 0, 0))), (1, .int x1), (2, .int x2), (3, .int x3), (4, .int x4)] [.ref (gadr (XG X) (5, 0, 0))] M 0 0 := by
  unfold FX8_give_63
  refine j_iconst (v := 1) hC dX8_give_63 (by decide) ?_
  refine j_goto (tgt := 68) hC dX8_give_64 (by decide) ?_
  exact j_sub [0, 1, 2, 3, 4] rfl (wX8_give_68 hC hG hnl fu M x1 x2 x3 x4 1)
set_option linter.unusedVariables false in
set_option maxRecDepth 100000 in
theorem wX8_give_35 {X : JX} (hC : JC X cX8_give RX8 (some .int) 3 55 0 0) (hG : dmI dmM (XG X)) (hnl : nLof X = 5) (fu : Nat) (M : Mem) (x1 x2 x3 x4 t0 : Int32) : J X (ZN X foI) (FX8_give_35 fu (XD X) M x1 x2 x3 x4 t0) 35 [(0, .ref (gadr (XG X) (5, 0, 0))), (1, .int x1), (2, .int x2), (3, .int x3), (4, .int x4)] [.int t0, .ref (gadr (XG X) (5, 0, 0))] M 0 0 := by
  unfold FX8_give_35
  refine j_iconst (v := 1) hC dX8_give_35 (by decide) ?_
  refine j_callV (nA := 2) (rest := []) hC [.int t0, .int 1] rfl (fun r hr => mX8_throwsIf (XL X) (XG X) hG fu (XD X) M t0 1 r hr) q1748 q1750 qs76 q136 q1751 (dmMo hG rfl) rfl rfl (by decide +kernel) rfl rfl rfl rfl rfl rfl dX8_give_36 (fun v36 => [.int v36]) (fun _ => rfl) (fun v36 M36 => ?_)
  refine j_if_ne (tgt := 75) hC dX8_give_39 (by decide) (fun h39 => ?_) (fun h39 => ?_)
  · refine j_aload_n hC 0 dX8_give_42 rfl ?_
    refine j_iload_n hC 1 dX8_give_43 rfl ?_
    refine j_iload_n hC 2 dX8_give_44 rfl ?_
    refine j_icmp_eq (tgt := 63) hC dX8_give_45 (by decide) (fun h45 => ?_) (fun h45 => ?_)
    · exact j_sub [0, 1, 2, 3, 4] rfl (wX8_give_63 hC hG hnl fu M36 x1 x2 x3 x4)
    · refine j_iload hC 4 dX8_give_48 rfl ?_
      refine j_iconst (v := 1) hC dX8_give_50 (by decide) ?_
      refine j_aload_n hC 0 dX8_give_51 rfl ?_
      refine j_iload_n hC 1 dX8_give_52 rfl ?_
      refine j_iload_n hC 3 dX8_give_53 rfl ?_
      refine j_callV (nA := 2) (rest := [.int 1, .int x4, .ref (gadr (XG X) (5, 0, 0))]) hC [.int x1, .int x3] rfl (fun r hr => mX8_stockOf (XL X) (XG X) hG fu (XD X) M36 x1 x3 r hr) q1922 q1924 qs102 q136 q1925 (dmMo hG rfl) rfl rfl (by decide +kernel) rfl rfl rfl rfl rfl rfl dX8_give_54 (fun v54 => [.int v54, .int 1, .int x4, .ref (gadr (XG X) (5, 0, 0))]) (fun _ => rfl) (fun v54 M54 => ?_)
      refine j_callS (nA := 3) (rest := [.ref (gadr (XG X) (5, 0, 0))]) hC [.int x4, .int 1, .int v54] rfl (fun r hr => mX8_in (XL X) (XG X) hG fu (XD X) M54 x4 1 v54 r hr) q1641 q1642 q136 q1643 (by decide +kernel) rfl rfl rfl rfl rfl rfl dX8_give_57 (fun v57 => [.int v57, .ref (gadr (XG X) (5, 0, 0))]) (fun _ => rfl) (fun v57 M57 => ?_)
      refine j_if_ne (tgt := 67) hC dX8_give_60 (by decide) (fun h60 => ?_) (fun h60 => ?_)
      · exact j_sub [0, 1, 2, 3, 4] rfl (wX8_give_63 hC hG hnl fu M57 x1 x2 x3 x4)
      · refine j_iconst (v := 0) hC dX8_give_67 (by decide) ?_
        exact j_sub [0, 1, 2, 3, 4] rfl (wX8_give_68 hC hG hnl fu M57 x1 x2 x3 x4 0)
  · exact j_sub [] rfl (wX8_give_75 hC hG hnl fu M36)
set_option linter.unusedVariables false in
set_option maxRecDepth 100000 in
theorem wX8_give_30 {X : JX} (hC : JC X cX8_give RX8 (some .int) 3 55 0 0) (hG : dmI dmM (XG X)) (hnl : nLof X = 5) (fu : Nat) (M : Mem) (x1 x2 x3 x4 : Int32) : J X (ZN X foI) (FX8_give_30 fu (XD X) M x1 x2 x3 x4) 30 [(0, .ref (gadr (XG X) (5, 0, 0))), (1, .int x1), (2, .int x2), (3, .int x3), (4, .int x4)] [.ref (gadr (XG X) (5, 0, 0))] M 0 0 := by
  unfold FX8_give_30
  refine j_iconst (v := 1) hC dX8_give_30 (by decide) ?_
  refine j_goto (tgt := 35) hC dX8_give_31 (by decide) ?_
  exact j_sub [0, 1, 2, 3, 4] rfl (wX8_give_35 hC hG hnl fu M x1 x2 x3 x4 1)
set_option linter.unusedVariables false in
set_option maxRecDepth 100000 in
theorem wX8_give {X : JX} (hC : JC X cX8_give RX8 (some .int) 3 55 0 0) (hG : dmI dmM (XG X)) (hnl : nLof X = 5) (fu : Nat) (M : Mem) (x1 x2 x3 x4 : Int32) : J X (ZN X foI) (FX8_give fu (XD X) M x1 x2 x3 x4) 0 [(0, .ref (gadr (XG X) (5, 0, 0))), (1, .int x1), (2, .int x2), (3, .int x3), (4, .int x4)] [] M 0 0 := by
  unfold FX8_give
  refine j_aload_n hC 0 dX8_give_0 rfl ?_
  refine j_iconst (v := 0) hC dX8_give_1 (by decide) ?_
  refine j_put (fk := 0) (ty := .int) hC (dmMo hG rfl) rfl rfl in_X8 rfl rfl q1464 tyX8 tyX8_ok nmX8 rfl rfl (by decide +kernel) rfl rfl dX8_give_2 ?_
  refine j_lt (fun M2 => ?_)
  refine j_aload_n hC 0 dX8_give_5 rfl ?_
  refine j_aload_n hC 0 dX8_give_6 rfl ?_
  refine j_iload_n hC 1 dX8_give_7 rfl ?_
  refine j_callV (nA := 1) (rest := [.ref (gadr (XG X) (5, 0, 0))]) hC [.int x1] rfl (fun r hr => mX8_noCounsel (XL X) (XG X) hG fu (XD X) M2 x1 r hr) q1918 q1920 qs101 q136 q1921 (dmMo hG rfl) rfl rfl (by decide +kernel) rfl rfl rfl rfl rfl rfl dX8_give_8 (fun v8 => [.int v8, .ref (gadr (XG X) (5, 0, 0))]) (fun _ => rfl) (fun v8 M8 => ?_)
  refine j_if_ne (tgt := 30) hC dX8_give_11 (by decide) (fun h11 => ?_) (fun h11 => ?_)
  · refine j_aload_n hC 0 dX8_give_14 rfl ?_
    refine j_iload_n hC 2 dX8_give_15 rfl ?_
    refine j_callV (nA := 1) (rest := [.ref (gadr (XG X) (5, 0, 0))]) hC [.int x2] rfl (fun r hr => mX8_noCounsel (XL X) (XG X) hG fu (XD X) M8 x2 r hr) q1918 q1920 qs101 q136 q1921 (dmMo hG rfl) rfl rfl (by decide +kernel) rfl rfl rfl rfl rfl rfl dX8_give_16 (fun v16 => [.int v16, .ref (gadr (XG X) (5, 0, 0))]) (fun _ => rfl) (fun v16 M16 => ?_)
    refine j_if_ne (tgt := 30) hC dX8_give_19 (by decide) (fun h19 => ?_) (fun h19 => ?_)
    · refine j_aload_n hC 0 dX8_give_22 rfl ?_
      refine j_iload_n hC 3 dX8_give_23 rfl ?_
      refine j_callV (nA := 1) (rest := [.ref (gadr (XG X) (5, 0, 0))]) hC [.int x3] rfl (fun r hr => mX8_noBird (XL X) (XG X) hG fu (XD X) M16 x3 r hr) q1760 q1762 qs77 q136 q1763 (dmMo hG rfl) rfl rfl (by decide +kernel) rfl rfl rfl rfl rfl rfl dX8_give_24 (fun v24 => [.int v24, .ref (gadr (XG X) (5, 0, 0))]) (fun _ => rfl) (fun v24 M24 => ?_)
      refine j_if_eq (tgt := 34) hC dX8_give_27 (by decide) (fun h27 => ?_) (fun h27 => ?_)
      · refine j_iconst (v := 0) hC dX8_give_34 (by decide) ?_
        exact j_sub [0, 1, 2, 3, 4] rfl (wX8_give_35 hC hG hnl fu M24 x1 x2 x3 x4 0)
      · exact j_sub [0, 1, 2, 3, 4] rfl (wX8_give_30 hC hG hnl fu M24 x1 x2 x3 x4)
    · exact j_sub [0, 1, 2, 3, 4] rfl (wX8_give_30 hC hG hnl fu M16 x1 x2 x3 x4)
  · exact j_sub [0, 1, 2, 3, 4] rfl (wX8_give_30 hC hG hnl fu M8 x1 x2 x3 x4)
set_option linter.unusedVariables false in
set_option maxRecDepth 100000 in
theorem mX8_give (l : Launch) (Γ : xG) (hG : dmI dmM Γ) (fu : Nat) (D : List LDen) (M : Mem) (x1 x2 x3 x4 : Int32) (r : Int32 × Mem) (hr : FX8_give fu D M x1 x2 x3 x4 = some r) : CN l yX8_give (ws_ yX8_give cX8_give 5 (some .int)) 3 55 Γ D [.ref (gadr Γ (5, 0, 0)), .int x1, .int x2, .int x3, .int x4] M (foI r.1) r.2 := by
  refine CN.of (own := RX8) (lv0 := lv_args 0 [.ref (gadr Γ (5, 0, 0)), .int x1, .int x2, .int x3, .int x4]) (by decide +kernel) rfl (Nat.le_of_ble_eq_true rfl) rfl (fun X e1 e2 e3 e4 hC => ?_) r hr
  subst e1
  subst e2
  exact wX8_give hC hG e4 fu M x1 x2 x3 x4
set_option linter.unusedVariables false in
set_option maxRecDepth 100000 in
theorem wX8_appeal_31 {X : JX} (hC : JC X cX8_appeal RX8 (some .int) 4 76 0 0) (hG : dmI dmM (XG X)) (hnl : nLof X = 3) (fu : Nat) (M : Mem) : J X (ZN X foI) (FX8_appeal_31 fu (XD X) M) 31 [] [] M 0 0 := by
  unfold FX8_appeal_31
  refine j_iconst (v := 0) hC dX8_appeal_31 (by decide) ?_
  exact j_iret hC dX8_appeal_32
set_option linter.unusedVariables false in
set_option maxRecDepth 100000 in
theorem wX8_appeal {X : JX} (hC : JC X cX8_appeal RX8 (some .int) 4 76 0 0) (hG : dmI dmM (XG X)) (hnl : nLof X = 3) (fu : Nat) (M : Mem) (x1 : Int32) : J X (ZN X foI) (FX8_appeal fu (XD X) M x1) 0 [(0, .ref (gadr (XG X) (5, 0, 0))), (1, .int x1)] [] M 0 0 := by
  unfold FX8_appeal
  refine j_aload_n hC 0 dX8_appeal_0 rfl ?_
  refine j_iconst (v := 0) hC dX8_appeal_1 (by decide) ?_
  refine j_put (fk := 0) (ty := .int) hC (dmMo hG rfl) rfl rfl in_X8 rfl rfl q1464 tyX8 tyX8_ok nmX8 rfl rfl (by decide +kernel) rfl rfl dX8_appeal_2 ?_
  refine j_lt (fun M2 => ?_)
  refine j_aload_n hC 0 dX8_appeal_5 rfl ?_
  refine j_aload_n hC 0 dX8_appeal_6 rfl ?_
  refine j_iload_n hC 1 dX8_appeal_7 rfl ?_
  refine j_callV (nA := 1) (rest := [.ref (gadr (XG X) (5, 0, 0))]) hC [.int x1] rfl (fun r hr => mX8_noCase (XL X) (XG X) hG fu (XD X) M2 x1 r hr) q1930 q1932 qs103 q136 q1933 (dmMo hG rfl) rfl rfl (by decide +kernel) rfl rfl rfl rfl rfl rfl dX8_appeal_8 (fun v8 => [.int v8, .ref (gadr (XG X) (5, 0, 0))]) (fun _ => rfl) (fun v8 M8 => ?_)
  refine j_iconst (v := 1) hC dX8_appeal_11 (by decide) ?_
  refine j_callV (nA := 2) (rest := []) hC [.int v8, .int 1] rfl (fun r hr => mX8_throwsIf (XL X) (XG X) hG fu (XD X) M8 v8 1 r hr) q1748 q1750 qs76 q136 q1751 (dmMo hG rfl) rfl rfl (by decide +kernel) rfl rfl rfl rfl rfl rfl dX8_appeal_12 (fun v12 => [.int v12]) (fun _ => rfl) (fun v12 M12 => ?_)
  refine j_if_ne (tgt := 31) hC dX8_appeal_15 (by decide) (fun h15 => ?_) (fun h15 => ?_)
  · refine j_aload_n hC 0 dX8_appeal_18 rfl ?_
    refine j_aload_n hC 0 dX8_appeal_19 rfl ?_
    refine j_iload_n hC 1 dX8_appeal_20 rfl ?_
    refine j_callV (nA := 1) (rest := [.ref (gadr (XG X) (5, 0, 0))]) hC [.int x1] rfl (fun r hr => mX8_isOpen (XL X) (XG X) hG fu (XD X) M12 x1 r hr) q1950 q1952 qs106 q136 q1953 (dmMo hG rfl) rfl rfl (by decide +kernel) rfl rfl rfl rfl rfl rfl dX8_appeal_21 (fun v21 => [.int v21, .ref (gadr (XG X) (5, 0, 0))]) (fun _ => rfl) (fun v21 M21 => ?_)
    refine j_iconst (v := 2) hC dX8_appeal_24 (by decide) ?_
    refine j_callV (nA := 2) (rest := []) hC [.int v21, .int 2] rfl (fun r hr => mX8_throwsIf (XL X) (XG X) hG fu (XD X) M21 v21 2 r hr) q1748 q1750 qs76 q136 q1751 (dmMo hG rfl) rfl rfl (by decide +kernel) rfl rfl rfl rfl rfl rfl dX8_appeal_25 (fun v25 => [.int v25]) (fun _ => rfl) (fun v25 M25 => ?_)
    refine j_if_eq (tgt := 33) hC dX8_appeal_28 (by decide) (fun h28 => ?_) (fun h28 => ?_)
    · refine j_aload_n hC 0 dX8_appeal_33 rfl ?_
      refine j_callV (nA := 0) (rest := []) hC [] rfl (fun r hr => mX8_remembers (XL X) (XG X) hG fu (XD X) M25 r hr) q1979 q1981 qs109 q136 q1982 (dmMo hG rfl) rfl rfl (by decide +kernel) rfl rfl rfl rfl rfl rfl dX8_appeal_34 (fun _ => []) (fun _ => rfl) (fun v34 M34 => ?_)
      refine j_aload_n hC 0 dX8_appeal_37 rfl ?_
      refine j_iload_n hC 1 dX8_appeal_38 rfl ?_
      refine j_iconst (v := 3) hC dX8_appeal_39 (by decide) ?_
      refine j_callV (nA := 2) (rest := []) hC [.int x1, .int 3] rfl (fun r hr => mX8_ofCase (XL X) (XG X) hG fu (XD X) M34 x1 3 r hr) q1934 q1936 qs104 q136 q1937 (dmMo hG rfl) rfl rfl (by decide +kernel) rfl rfl rfl rfl rfl rfl dX8_appeal_40 (fun v40 => [.int v40]) (fun _ => rfl) (fun v40 M40 => ?_)
      refine j_istore_n hC [(2, .int v40), (0, .ref (gadr (XG X) (5, 0, 0))), (1, .int x1)] hnl dX8_appeal_43 rfl rfl ?_
      refine j_aload_n hC 1 dX8_appeal_44 rfl ?_
      refine j_getR (fk := 1) hC (dmMo hG rfl) rfl rfl in_X8 rfl rfl q1465 rfl dX8_appeal_45 ?_
      refine j_iload_n hC 2 dX8_appeal_48 rfl ?_
      refine j_iconst (v := 3) hC dX8_appeal_49 (by decide) ?_
      refine j_callS (nA := 2) (rest := [.ref (gadr (XG X) (5, 0, 1))]) hC [.int x1, .int 3] rfl (fun r hr => mX8_caseAt (XL X) (XG X) hG fu (XD X) M40 x1 3 r hr) q1670 q1671 q136 q1672 (by decide +kernel) rfl rfl rfl rfl rfl rfl dX8_appeal_50 (fun v50 => [.int v50, .ref (gadr (XG X) (5, 0, 1))]) (fun _ => rfl) (fun v50 M50 => ?_)
      refine j_iconst (v := 0) hC dX8_appeal_53 (by decide) ?_
      refine j_iast hC (dmMo hG rfl) rfl dX8_appeal_54 (fun h54 => ?_)
      refine j_lt (fun M54 => ?_)
      refine j_iload_n hC 0 dX8_appeal_55 rfl ?_
      exact j_iret hC dX8_appeal_56
    · exact j_sub [] rfl (wX8_appeal_31 hC hG hnl fu M25)
  · exact j_sub [] rfl (wX8_appeal_31 hC hG hnl fu M12)
set_option linter.unusedVariables false in
set_option maxRecDepth 100000 in
theorem mX8_appeal (l : Launch) (Γ : xG) (hG : dmI dmM Γ) (fu : Nat) (D : List LDen) (M : Mem) (x1 : Int32) (r : Int32 × Mem) (hr : FX8_appeal fu D M x1 = some r) : CN l yX8_appeal (ws_ yX8_appeal cX8_appeal 3 (some .int)) 4 76 Γ D [.ref (gadr Γ (5, 0, 0)), .int x1] M (foI r.1) r.2 := by
  refine CN.of (own := RX8) (lv0 := lv_args 0 [.ref (gadr Γ (5, 0, 0)), .int x1]) (by decide +kernel) rfl (Nat.le_of_ble_eq_true rfl) rfl (fun X e1 e2 e3 e4 hC => ?_) r hr
  subst e1
  subst e2
  exact wX8_appeal hC hG e4 fu M x1
set_option linter.unusedVariables false in
set_option maxRecDepth 100000 in
theorem wgX8_oneWeek_14 {X : JX} (hC : JC X cX8_oneWeek RX8 (some .int) 3 55 0 0) (hG : dmI dmM (XG X)) (hnl : nLof X = 5) (fu : Nat) (kn14 : Mem × Int32 × Int32 × Int32 → Option (Int32 × Mem)) (hk14 : ∀ (M : Mem) (x1 x2 x3 : Int32), J X (ZN X foI) (kn14 (M, x1, x2, x3)) 14 [(0, .ref (gadr (XG X) (5, 0, 0))), (1, .int x1), (2, .int x2), (3, .int x3)] [] M 0 0) (kn4 : Mem × Int32 × Int32 → Option (Int32 × Mem)) (hk4 : ∀ (M : Mem) (x1 x2 : Int32), J X (ZN X foI) (kn4 (M, x1, x2)) 4 [(0, .ref (gadr (XG X) (5, 0, 0))), (1, .int x1), (2, .int x2)] [] M 0 0) (M : Mem) (x1 x2 x3 : Int32) : J X (ZN X foI) (GX8_oneWeek_14 fu (XD X) kn14 kn4 M x1 x2 x3) 14 [(0, .ref (gadr (XG X) (5, 0, 0))), (1, .int x1), (2, .int x2), (3, .int x3)] [] M 0 0 := by
  unfold GX8_oneWeek_14
  refine j_iload_n hC 3 dX8_oneWeek_14 rfl ?_
  refine j_aload_n hC 0 dX8_oneWeek_15 rfl ?_
  refine j_callV (nA := 0) (rest := [.int x3]) hC [] rfl (fun r hr => mX8_birds (XL X) (XG X) hG fu (XD X) M r hr) q1622 q1624 qs54 q136 q1625 (dmMo hG rfl) rfl rfl (by decide +kernel) rfl rfl rfl rfl rfl rfl dX8_oneWeek_16 (fun v16 => [.int v16, .int x3]) (fun _ => rfl) (fun v16 M16 => ?_)
  refine j_icmp_ge (tgt := 68) hC dX8_oneWeek_19 (by decide) (fun h19 => ?_) (fun h19 => ?_)
  · refine j_iincL hC 2 (fun y68 => [(2, .int y68), (0, .ref (gadr (XG X) (5, 0, 0))), (1, .int x1), (3, .int x3)]) hnl dX8_oneWeek_68 rfl (by decide) rfl (fun _ => rfl) (fun y68 => ?_)
    refine j_goto (tgt := 4) hC dX8_oneWeek_71 (by decide) ?_
    exact j_sub [1, 2, 0] rfl (hk4 M16 x1 y68)
  · refine j_aload_n hC 0 dX8_oneWeek_22 rfl ?_
    refine j_iload_n hC 3 dX8_oneWeek_23 rfl ?_
    refine j_iconst (v := 3) hC dX8_oneWeek_24 (by decide) ?_
    refine j_callV (nA := 2) (rest := []) hC [.int x3, .int 3] rfl (fun r hr => mX8_ofBird (XL X) (XG X) hG fu (XD X) M16 x3 3 r hr) q1778 q1780 qs80 q136 q1781 (dmMo hG rfl) rfl rfl (by decide +kernel) rfl rfl rfl rfl rfl rfl dX8_oneWeek_25 (fun v25 => [.int v25]) (fun _ => rfl) (fun v25 M25 => ?_)
    refine j_bipush (v := 99) hC dX8_oneWeek_28 (by decide) ?_
    refine j_aload_n hC 0 dX8_oneWeek_30 rfl ?_
    refine j_iload_n hC 2 dX8_oneWeek_31 rfl ?_
    refine j_iload_n hC 3 dX8_oneWeek_32 rfl ?_
    refine j_callV (nA := 2) (rest := [.int 99, .int v25]) hC [.int x2, .int x3] rfl (fun r hr => mX8_stockOf (XL X) (XG X) hG fu (XD X) M25 x2 x3 r hr) q1922 q1924 qs102 q136 q1925 (dmMo hG rfl) rfl rfl (by decide +kernel) rfl rfl rfl rfl rfl rfl dX8_oneWeek_33 (fun v33 => [.int v33, .int 99, .int v25]) (fun _ => rfl) (fun v33 M33 => ?_)
    refine j_isub hC dX8_oneWeek_36 ?_
    refine j_min hC q1802 q640 q155 q641 dX8_oneWeek_37 rfl (Nat.le_of_ble_eq_true rfl) (Nat.le_of_ble_eq_true rfl) (Nat.le_of_ble_eq_true rfl) ?_
    refine j_ltT (fun y40 => ?_)
    refine j_istore hC [(4, .int y40), (0, .ref (gadr (XG X) (5, 0, 0))), (1, .int x1), (2, .int x2), (3, .int x3)] hnl dX8_oneWeek_40 rfl rfl ?_
    refine j_aload_n hC 1 dX8_oneWeek_42 rfl ?_
    refine j_getR (fk := 1) hC (dmMo hG rfl) rfl rfl in_X8 rfl rfl q1465 rfl dX8_oneWeek_43 ?_
    refine j_iload_n hC 3 dX8_oneWeek_46 rfl ?_
    refine j_iload_n hC 4 dX8_oneWeek_47 rfl ?_
    refine j_callS (nA := 2) (rest := [.ref (gadr (XG X) (5, 0, 1))]) hC [.int x2, .int x3] rfl (fun r hr => mX8_stockAt (XL X) (XG X) hG fu (XD X) M33 x2 x3 r hr) q1648 q1649 q136 q1650 (by decide +kernel) rfl rfl rfl rfl rfl rfl dX8_oneWeek_48 (fun v48 => [.int v48, .ref (gadr (XG X) (5, 0, 1))]) (fun _ => rfl) (fun v48 M48 => ?_)
    refine j_dup2 hC dX8_oneWeek_51 rfl rfl ?_
    refine j_iald hC (dmMo hG rfl) rfl dX8_oneWeek_52 (fun h52 => ?_)
    refine j_iload hC 0 dX8_oneWeek_53 rfl ?_
    refine j_iadd hC dX8_oneWeek_55 ?_
    refine j_iast hC (dmMo hG rfl) rfl dX8_oneWeek_56 (fun h56 => ?_)
    refine j_lt (fun M56 => ?_)
    refine j_iload_n hC 2 dX8_oneWeek_57 rfl ?_
    refine j_iload hC 0 dX8_oneWeek_58 rfl ?_
    refine j_iadd hC dX8_oneWeek_60 ?_
    refine j_ltT (fun y61 => ?_)
    refine j_istore_n hC [(1, .int y61), (4, .int y40), (0, .ref (gadr (XG X) (5, 0, 0))), (2, .int x2), (3, .int x3)] hnl dX8_oneWeek_61 rfl rfl ?_
    refine j_iincL hC 4 (fun y62 => [(3, .int y62), (1, .int y61), (4, .int y40), (0, .ref (gadr (XG X) (5, 0, 0))), (2, .int x2)]) hnl dX8_oneWeek_62 rfl (by decide) rfl (fun _ => rfl) (fun y62 => ?_)
    refine j_goto (tgt := 14) hC dX8_oneWeek_65 (by decide) ?_
    exact j_sub [3, 1, 4, 0] rfl (hk14 M56 y61 x2 y62)
set_option linter.unusedVariables false in
set_option maxRecDepth 100000 in
theorem wX8_oneWeek_14 {X : JX} (hC : JC X cX8_oneWeek RX8 (some .int) 3 55 0 0) (hG : dmI dmM (XG X)) (hnl : nLof X = 5) (fu : Nat) (kn4 : Mem × Int32 × Int32 → Option (Int32 × Mem)) (hk4 : ∀ (M : Mem) (x1 x2 : Int32), J X (ZN X foI) (kn4 (M, x1, x2)) 4 [(0, .ref (gadr (XG X) (5, 0, 0))), (1, .int x1), (2, .int x2)] [] M 0 0) (M : Mem) (x1 x2 x3 : Int32) : J X (ZN X foI) (FX8_oneWeek_14 fu (XD X) kn4 M x1 x2 x3) 14 [(0, .ref (gadr (XG X) (5, 0, 0))), (1, .int x1), (2, .int x2), (3, .int x3)] [] M 0 0 := by
  exact j_lp (lvf := fun z => [(0, .ref (gadr (XG X) (5, 0, 0))), (1, .int (z.2.1)), (2, .int (z.2.2.1)), (3, .int (z.2.2.2))]) (Mf := fun z => z.1) (fun kn hk z => wgX8_oneWeek_14 hC hG hnl fu kn (fun M x1 x2 x3 => hk (M, x1, x2, x3)) kn4 hk4 z.1 z.2.1 z.2.2.1 z.2.2.2) fu (M, x1, x2, x3)
set_option linter.unusedVariables false in
set_option maxRecDepth 100000 in
theorem wgX8_oneWeek_4 {X : JX} (hC : JC X cX8_oneWeek RX8 (some .int) 3 55 0 0) (hG : dmI dmM (XG X)) (hnl : nLof X = 5) (fu : Nat) (kn4 : Mem × Int32 × Int32 → Option (Int32 × Mem)) (hk4 : ∀ (M : Mem) (x1 x2 : Int32), J X (ZN X foI) (kn4 (M, x1, x2)) 4 [(0, .ref (gadr (XG X) (5, 0, 0))), (1, .int x1), (2, .int x2)] [] M 0 0) (M : Mem) (x1 x2 : Int32) : J X (ZN X foI) (GX8_oneWeek_4 fu (XD X) kn4 M x1 x2) 4 [(0, .ref (gadr (XG X) (5, 0, 0))), (1, .int x1), (2, .int x2)] [] M 0 0 := by
  unfold GX8_oneWeek_4
  refine j_iload_n hC 2 dX8_oneWeek_4 rfl ?_
  refine j_aload_n hC 0 dX8_oneWeek_5 rfl ?_
  refine j_callV (nA := 0) (rest := [.int x2]) hC [] rfl (fun r hr => mX8_counsel (XL X) (XG X) hG fu (XD X) M r hr) q1656 q1658 qs59 q136 q1659 (dmMo hG rfl) rfl rfl (by decide +kernel) rfl rfl rfl rfl rfl rfl dX8_oneWeek_6 (fun v6 => [.int v6, .int x2]) (fun _ => rfl) (fun v6 M6 => ?_)
  refine j_icmp_ge (tgt := 74) hC dX8_oneWeek_9 (by decide) (fun h9 => ?_) (fun h9 => ?_)
  · refine j_aload_n hC 0 dX8_oneWeek_74 rfl ?_
    refine j_getR (fk := 1) hC (dmMo hG rfl) rfl rfl in_X8 rfl rfl q1465 rfl dX8_oneWeek_75 ?_
    refine j_iconst (v := 5) hC dX8_oneWeek_78 (by decide) ?_
    refine j_sipush (v := 9999) hC dX8_oneWeek_79 (by decide) ?_
    refine j_aload_n hC 0 dX8_oneWeek_82 rfl ?_
    refine j_getR (fk := 1) hC (dmMo hG rfl) rfl rfl in_X8 rfl rfl q1465 rfl dX8_oneWeek_83 ?_
    refine j_iconst (v := 5) hC dX8_oneWeek_86 (by decide) ?_
    refine j_iald hC (dmMo hG rfl) rfl dX8_oneWeek_87 (fun h87 => ?_)
    refine j_iconst (v := 1) hC dX8_oneWeek_88 (by decide) ?_
    refine j_iadd hC dX8_oneWeek_89 ?_
    refine j_min hC q1802 q640 q155 q641 dX8_oneWeek_90 rfl (Nat.le_of_ble_eq_true rfl) (Nat.le_of_ble_eq_true rfl) (Nat.le_of_ble_eq_true rfl) ?_
    refine j_iast hC (dmMo hG rfl) rfl dX8_oneWeek_93 (fun h93 => ?_)
    refine j_lt (fun M93 => ?_)
    refine j_iload_n hC 1 dX8_oneWeek_94 rfl ?_
    exact j_iret hC dX8_oneWeek_95
  · refine j_iconst (v := 0) hC dX8_oneWeek_12 (by decide) ?_
    refine j_istore_n hC [(3, .int 0), (0, .ref (gadr (XG X) (5, 0, 0))), (1, .int x1), (2, .int x2)] hnl dX8_oneWeek_13 rfl rfl ?_
    exact j_sub [1, 2, 3, 0] rfl (wX8_oneWeek_14 hC hG hnl fu kn4 hk4 M6 x1 x2 0)
set_option linter.unusedVariables false in
set_option maxRecDepth 100000 in
theorem wX8_oneWeek_4 {X : JX} (hC : JC X cX8_oneWeek RX8 (some .int) 3 55 0 0) (hG : dmI dmM (XG X)) (hnl : nLof X = 5) (fu : Nat) (M : Mem) (x1 x2 : Int32) : J X (ZN X foI) (FX8_oneWeek_4 fu (XD X) M x1 x2) 4 [(0, .ref (gadr (XG X) (5, 0, 0))), (1, .int x1), (2, .int x2)] [] M 0 0 := by
  exact j_lp (lvf := fun z => [(0, .ref (gadr (XG X) (5, 0, 0))), (1, .int (z.2.1)), (2, .int (z.2.2))]) (Mf := fun z => z.1) (fun kn hk z => wgX8_oneWeek_4 hC hG hnl fu kn (fun M x1 x2 => hk (M, x1, x2)) z.1 z.2.1 z.2.2) fu (M, x1, x2)
set_option linter.unusedVariables false in
set_option maxRecDepth 100000 in
theorem wX8_oneWeek {X : JX} (hC : JC X cX8_oneWeek RX8 (some .int) 3 55 0 0) (hG : dmI dmM (XG X)) (hnl : nLof X = 5) (fu : Nat) (M : Mem) : J X (ZN X foI) (FX8_oneWeek fu (XD X) M) 0 [(0, .ref (gadr (XG X) (5, 0, 0)))] [] M 0 0 := by
  unfold FX8_oneWeek
  refine j_iconst (v := 0) hC dX8_oneWeek_0 (by decide) ?_
  refine j_istore_n hC [(1, .int 0), (0, .ref (gadr (XG X) (5, 0, 0)))] hnl dX8_oneWeek_1 rfl rfl ?_
  refine j_iconst (v := 0) hC dX8_oneWeek_2 (by decide) ?_
  refine j_istore_n hC [(2, .int 0), (1, .int 0), (0, .ref (gadr (XG X) (5, 0, 0)))] hnl dX8_oneWeek_3 rfl rfl ?_
  exact j_sub [2, 1, 0] rfl (wX8_oneWeek_4 hC hG hnl fu M 0 0)
set_option linter.unusedVariables false in
set_option maxRecDepth 100000 in
theorem mX8_oneWeek (l : Launch) (Γ : xG) (hG : dmI dmM Γ) (fu : Nat) (D : List LDen) (M : Mem) (r : Int32 × Mem) (hr : FX8_oneWeek fu D M = some r) : CN l yX8_oneWeek (ws_ yX8_oneWeek cX8_oneWeek 5 (some .int)) 3 55 Γ D [.ref (gadr Γ (5, 0, 0))] M (foI r.1) r.2 := by
  refine CN.of (own := RX8) (lv0 := lv_args 0 [.ref (gadr Γ (5, 0, 0))]) (by decide +kernel) rfl (Nat.le_of_ble_eq_true rfl) rfl (fun X e1 e2 e3 e4 hC => ?_) r hr
  subst e1
  subst e2
  exact wX8_oneWeek hC hG e4 fu M
set_option linter.unusedVariables false in
set_option maxRecDepth 100000 in
theorem wgX8_weeks_38 {X : JX} (hC : JC X cX8_weeks RX8 (some .int) 4 79 0 0) (hG : dmI dmM (XG X)) (hnl : nLof X = 4) (fu : Nat) (kn38 : Mem × Int32 × Int32 × Int32 → Option (Int32 × Mem)) (hk38 : ∀ (M : Mem) (x1 x2 x3 : Int32), J X (ZN X foI) (kn38 (M, x1, x2, x3)) 38 [(0, .ref (gadr (XG X) (5, 0, 0))), (1, .int x1), (2, .int x2), (3, .int x3)] [] M 0 0) (M : Mem) (x1 x2 x3 : Int32) : J X (ZN X foI) (GX8_weeks_38 fu (XD X) kn38 M x1 x2 x3) 38 [(0, .ref (gadr (XG X) (5, 0, 0))), (1, .int x1), (2, .int x2), (3, .int x3)] [] M 0 0 := by
  unfold GX8_weeks_38
  refine j_iload_n hC 3 dX8_weeks_38 rfl ?_
  refine j_iload_n hC 1 dX8_weeks_39 rfl ?_
  refine j_icmp_ge (tgt := 56) hC dX8_weeks_40 (by decide) (fun h40 => ?_) (fun h40 => ?_)
  · refine j_iload_n hC 2 dX8_weeks_56 rfl ?_
    exact j_iret hC dX8_weeks_57
  · refine j_iload_n hC 2 dX8_weeks_43 rfl ?_
    refine j_aload_n hC 0 dX8_weeks_44 rfl ?_
    refine j_callV (nA := 0) (rest := [.int x2]) hC [] rfl (fun r hr => mX8_oneWeek (XL X) (XG X) hG fu (XD X) M r hr) q2024 q2026 qs115 q136 q2027 (dmMo hG rfl) rfl rfl (by decide +kernel) rfl rfl rfl rfl rfl rfl dX8_weeks_45 (fun v45 => [.int v45, .int x2]) (fun _ => rfl) (fun v45 M45 => ?_)
    refine j_iadd hC dX8_weeks_48 ?_
    refine j_ltT (fun y49 => ?_)
    refine j_istore_n hC [(2, .int y49), (0, .ref (gadr (XG X) (5, 0, 0))), (1, .int x1), (3, .int x3)] hnl dX8_weeks_49 rfl rfl ?_
    refine j_iincL hC 3 (fun y50 => [(3, .int y50), (2, .int y49), (0, .ref (gadr (XG X) (5, 0, 0))), (1, .int x1)]) hnl dX8_weeks_50 rfl (by decide) rfl (fun _ => rfl) (fun y50 => ?_)
    refine j_goto (tgt := 38) hC dX8_weeks_53 (by decide) ?_
    exact j_sub [2, 3, 1, 0] rfl (hk38 M45 x1 y49 y50)
set_option linter.unusedVariables false in
set_option maxRecDepth 100000 in
theorem wX8_weeks_38 {X : JX} (hC : JC X cX8_weeks RX8 (some .int) 4 79 0 0) (hG : dmI dmM (XG X)) (hnl : nLof X = 4) (fu : Nat) (M : Mem) (x1 x2 x3 : Int32) : J X (ZN X foI) (FX8_weeks_38 fu (XD X) M x1 x2 x3) 38 [(0, .ref (gadr (XG X) (5, 0, 0))), (1, .int x1), (2, .int x2), (3, .int x3)] [] M 0 0 := by
  exact j_lp (lvf := fun z => [(0, .ref (gadr (XG X) (5, 0, 0))), (1, .int (z.2.1)), (2, .int (z.2.2.1)), (3, .int (z.2.2.2))]) (Mf := fun z => z.1) (fun kn hk z => wgX8_weeks_38 hC hG hnl fu kn (fun M x1 x2 x3 => hk (M, x1, x2, x3)) z.1 z.2.1 z.2.2.1 z.2.2.2) fu (M, x1, x2, x3)
set_option linter.unusedVariables false in
set_option maxRecDepth 100000 in
theorem wX8_weeks_21 {X : JX} (hC : JC X cX8_weeks RX8 (some .int) 4 79 0 0) (hG : dmI dmM (XG X)) (hnl : nLof X = 4) (fu : Nat) (M : Mem) (x1 t0 : Int32) : J X (ZN X foI) (FX8_weeks_21 fu (XD X) M x1 t0) 21 [(0, .ref (gadr (XG X) (5, 0, 0))), (1, .int x1)] [.int t0, .ref (gadr (XG X) (5, 0, 0))] M 0 0 := by
  unfold FX8_weeks_21
  refine j_iconst (v := 1) hC dX8_weeks_21 (by decide) ?_
  refine j_callV (nA := 2) (rest := []) hC [.int t0, .int 1] rfl (fun r hr => mX8_throwsIf (XL X) (XG X) hG fu (XD X) M t0 1 r hr) q1748 q1750 qs76 q136 q1751 (dmMo hG rfl) rfl rfl (by decide +kernel) rfl rfl rfl rfl rfl rfl dX8_weeks_22 (fun v22 => [.int v22]) (fun _ => rfl) (fun v22 M22 => ?_)
  refine j_if_eq (tgt := 30) hC dX8_weeks_25 (by decide) (fun h25 => ?_) (fun h25 => ?_)
  · refine j_aload_n hC 0 dX8_weeks_30 rfl ?_
    refine j_callV (nA := 0) (rest := []) hC [] rfl (fun r hr => mX8_remembers (XL X) (XG X) hG fu (XD X) M22 r hr) q1979 q1981 qs109 q136 q1982 (dmMo hG rfl) rfl rfl (by decide +kernel) rfl rfl rfl rfl rfl rfl dX8_weeks_31 (fun _ => []) (fun _ => rfl) (fun v31 M31 => ?_)
    refine j_iconst (v := 0) hC dX8_weeks_34 (by decide) ?_
    refine j_istore_n hC [(2, .int 0), (0, .ref (gadr (XG X) (5, 0, 0))), (1, .int x1)] hnl dX8_weeks_35 rfl rfl ?_
    refine j_iconst (v := 0) hC dX8_weeks_36 (by decide) ?_
    refine j_istore_n hC [(3, .int 0), (2, .int 0), (0, .ref (gadr (XG X) (5, 0, 0))), (1, .int x1)] hnl dX8_weeks_37 rfl rfl ?_
    exact j_sub [2, 3, 1, 0] rfl (wX8_weeks_38 hC hG hnl fu M31 x1 0 0)
  · refine j_iconst (v := 0) hC dX8_weeks_28 (by decide) ?_
    exact j_iret hC dX8_weeks_29
set_option linter.unusedVariables false in
set_option maxRecDepth 100000 in
theorem wX8_weeks {X : JX} (hC : JC X cX8_weeks RX8 (some .int) 4 79 0 0) (hG : dmI dmM (XG X)) (hnl : nLof X = 4) (fu : Nat) (M : Mem) (x1 : Int32) : J X (ZN X foI) (FX8_weeks fu (XD X) M x1) 0 [(0, .ref (gadr (XG X) (5, 0, 0))), (1, .int x1)] [] M 0 0 := by
  unfold FX8_weeks
  refine j_aload_n hC 0 dX8_weeks_0 rfl ?_
  refine j_iconst (v := 0) hC dX8_weeks_1 (by decide) ?_
  refine j_put (fk := 0) (ty := .int) hC (dmMo hG rfl) rfl rfl in_X8 rfl rfl q1464 tyX8 tyX8_ok nmX8 rfl rfl (by decide +kernel) rfl rfl dX8_weeks_2 ?_
  refine j_lt (fun M2 => ?_)
  refine j_aload_n hC 0 dX8_weeks_5 rfl ?_
  refine j_iload_n hC 1 dX8_weeks_6 rfl ?_
  refine j_iconst (v := 1) hC dX8_weeks_7 (by decide) ?_
  refine j_bipush (v := 60) hC dX8_weeks_8 (by decide) ?_
  refine j_callS (nA := 3) (rest := [.ref (gadr (XG X) (5, 0, 0))]) hC [.int x1, .int 1, .int 60] rfl (fun r hr => mX8_in (XL X) (XG X) hG fu (XD X) M2 x1 1 60 r hr) q1641 q1642 q136 q1643 (by decide +kernel) rfl rfl rfl rfl rfl rfl dX8_weeks_10 (fun v10 => [.int v10, .ref (gadr (XG X) (5, 0, 0))]) (fun _ => rfl) (fun v10 M10 => ?_)
  refine j_if_ne (tgt := 20) hC dX8_weeks_13 (by decide) (fun h13 => ?_) (fun h13 => ?_)
  · refine j_iconst (v := 1) hC dX8_weeks_16 (by decide) ?_
    refine j_goto (tgt := 21) hC dX8_weeks_17 (by decide) ?_
    exact j_sub [0, 1] rfl (wX8_weeks_21 hC hG hnl fu M10 x1 1)
  · refine j_iconst (v := 0) hC dX8_weeks_20 (by decide) ?_
    exact j_sub [0, 1] rfl (wX8_weeks_21 hC hG hnl fu M10 x1 0)
set_option linter.unusedVariables false in
set_option maxRecDepth 100000 in
theorem mX8_weeks (l : Launch) (Γ : xG) (hG : dmI dmM Γ) (fu : Nat) (D : List LDen) (M : Mem) (x1 : Int32) (r : Int32 × Mem) (hr : FX8_weeks fu D M x1 = some r) : CN l yX8_weeks (ws_ yX8_weeks cX8_weeks 4 (some .int)) 4 79 Γ D [.ref (gadr Γ (5, 0, 0)), .int x1] M (foI r.1) r.2 := by
  refine CN.of (own := RX8) (lv0 := lv_args 0 [.ref (gadr Γ (5, 0, 0)), .int x1]) (by decide +kernel) rfl (Nat.le_of_ble_eq_true rfl) rfl (fun X e1 e2 e3 e4 hC => ?_) r hr
  subst e1
  subst e2
  exact wX8_weeks hC hG e4 fu M x1
set_option linter.unusedVariables false in
set_option maxRecDepth 100000 in
theorem wX8_isTold_80 {X : JX} (hC : JC X cX8_isTold RX8 (some .boolean) 2 34 0 0) (hG : dmI dmM (XG X)) (hnl : nLof X = 3) (fu : Nat) (M : Mem) (x1 : Int32) : J X (ZN X foI) (FX8_isTold_80 fu (XD X) M x1) 80 [(1, .int x1)] [] M 0 0 := by
  unfold FX8_isTold_80
  refine j_iload_n hC 0 dX8_isTold_80 rfl ?_
  exact j_zret hC rfl dX8_isTold_81
set_option linter.unusedVariables false in
set_option maxRecDepth 100000 in
theorem wX8_isTold_73 {X : JX} (hC : JC X cX8_isTold RX8 (some .boolean) 2 34 0 0) (hG : dmI dmM (XG X)) (hnl : nLof X = 3) (fu : Nat) (kn26 : Mem × Int32 × Int32 → Option (Int32 × Mem)) (hk26 : ∀ (M : Mem) (x1 x2 : Int32), J X (ZN X foI) (kn26 (M, x1, x2)) 26 [(0, .ref (gadr (XG X) (5, 0, 0))), (1, .int x1), (2, .int x2)] [] M 0 0) (M : Mem) (x2 t0 : Int32) : J X (ZN X foI) (FX8_isTold_73 fu (XD X) kn26 M x2 t0) 73 [(0, .ref (gadr (XG X) (5, 0, 0))), (2, .int x2)] [.int t0] M 0 0 := by
  unfold FX8_isTold_73
  refine j_istore_n hC [(1, .int t0), (0, .ref (gadr (XG X) (5, 0, 0))), (2, .int x2)] hnl dX8_isTold_73 rfl rfl ?_
  refine j_iincL hC 2 (fun y74 => [(2, .int y74), (1, .int t0), (0, .ref (gadr (XG X) (5, 0, 0)))]) hnl dX8_isTold_74 rfl (by decide) rfl (fun _ => rfl) (fun y74 => ?_)
  refine j_goto (tgt := 26) hC dX8_isTold_77 (by decide) ?_
  exact j_sub [2, 1, 0] rfl (hk26 M t0 y74)
set_option linter.unusedVariables false in
set_option maxRecDepth 100000 in
theorem wX8_isTold_72 {X : JX} (hC : JC X cX8_isTold RX8 (some .boolean) 2 34 0 0) (hG : dmI dmM (XG X)) (hnl : nLof X = 3) (fu : Nat) (kn26 : Mem × Int32 × Int32 → Option (Int32 × Mem)) (hk26 : ∀ (M : Mem) (x1 x2 : Int32), J X (ZN X foI) (kn26 (M, x1, x2)) 26 [(0, .ref (gadr (XG X) (5, 0, 0))), (1, .int x1), (2, .int x2)] [] M 0 0) (M : Mem) (x2 : Int32) : J X (ZN X foI) (FX8_isTold_72 fu (XD X) kn26 M x2) 72 [(0, .ref (gadr (XG X) (5, 0, 0))), (2, .int x2)] [] M 0 0 := by
  unfold FX8_isTold_72
  refine j_iconst (v := 0) hC dX8_isTold_72 (by decide) ?_
  exact j_sub [0, 1] rfl (wX8_isTold_73 hC hG hnl fu kn26 hk26 M x2 0)
set_option linter.unusedVariables false in
set_option maxRecDepth 100000 in
theorem wgX8_isTold_26 {X : JX} (hC : JC X cX8_isTold RX8 (some .boolean) 2 34 0 0) (hG : dmI dmM (XG X)) (hnl : nLof X = 3) (fu : Nat) (kn26 : Mem × Int32 × Int32 → Option (Int32 × Mem)) (hk26 : ∀ (M : Mem) (x1 x2 : Int32), J X (ZN X foI) (kn26 (M, x1, x2)) 26 [(0, .ref (gadr (XG X) (5, 0, 0))), (1, .int x1), (2, .int x2)] [] M 0 0) (M : Mem) (x1 x2 : Int32) : J X (ZN X foI) (GX8_isTold_26 fu (XD X) kn26 M x1 x2) 26 [(0, .ref (gadr (XG X) (5, 0, 0))), (1, .int x1), (2, .int x2)] [] M 0 0 := by
  unfold GX8_isTold_26
  refine j_iload_n hC 2 dX8_isTold_26 rfl ?_
  refine j_aload_n hC 0 dX8_isTold_27 rfl ?_
  refine j_getI (fk := 11) hC (dmMo hG rfl) rfl rfl in_X8 rfl rfl q1475 rfl dX8_isTold_28 ?_
  refine j_icmp_ge (tgt := 80) hC dX8_isTold_31 (by decide) (fun h31 => ?_) (fun h31 => ?_)
  · exact j_sub [1] rfl (wX8_isTold_80 hC hG hnl fu M x1)
  · refine j_iload_n hC 1 dX8_isTold_34 rfl ?_
    refine j_if_eq (tgt := 80) hC dX8_isTold_35 (by decide) (fun h35 => ?_) (fun h35 => ?_)
    · exact j_sub [1] rfl (wX8_isTold_80 hC hG hnl fu M x1)
    · refine j_aload_n hC 0 dX8_isTold_38 rfl ?_
      refine j_getR (fk := 8) hC (dmMo hG rfl) rfl rfl in_X8 rfl rfl q1472 rfl dX8_isTold_39 ?_
      refine j_iload_n hC 2 dX8_isTold_42 rfl ?_
      refine j_bald hC (dmMo hG rfl) rfl dX8_isTold_43 (fun h43 => ?_)
      refine j_iconst (v := 0) hC dX8_isTold_44 (by decide) ?_
      refine j_iconst (v := 5) hC dX8_isTold_45 (by decide) ?_
      refine j_callS (nA := 3) (rest := []) hC [.int (M (5, 0, 6) x2.toNatClampNeg), .int 0, .int 5] rfl (fun r hr => mX8_in (XL X) (XG X) hG fu (XD X) M (M (5, 0, 6) x2.toNatClampNeg) 0 5 r hr) q1641 q1642 q136 q1643 (by decide +kernel) rfl rfl rfl rfl rfl rfl dX8_isTold_46 (fun v46 => [.int v46]) (fun _ => rfl) (fun v46 M46 => ?_)
      refine j_if_eq (tgt := 72) hC dX8_isTold_49 (by decide) (fun h49 => ?_) (fun h49 => ?_)
      · exact j_sub [0, 2] rfl (wX8_isTold_72 hC hG hnl fu kn26 hk26 M46 x2)
      · refine j_aload_n hC 0 dX8_isTold_52 rfl ?_
        refine j_getR (fk := 8) hC (dmMo hG rfl) rfl rfl in_X8 rfl rfl q1472 rfl dX8_isTold_53 ?_
        refine j_iload_n hC 2 dX8_isTold_56 rfl ?_
        refine j_iconst (v := 1) hC dX8_isTold_57 (by decide) ?_
        refine j_iadd hC dX8_isTold_58 ?_
        refine j_bald hC (dmMo hG rfl) rfl dX8_isTold_59 (fun h59 => ?_)
        refine j_iconst (v := 0) hC dX8_isTold_60 (by decide) ?_
        refine j_iconst (v := 1) hC dX8_isTold_61 (by decide) ?_
        refine j_callS (nA := 3) (rest := []) hC [.int (M46 (5, 0, 6) ((x2 + 1).toNatClampNeg)), .int 0, .int 1] rfl (fun r hr => mX8_in (XL X) (XG X) hG fu (XD X) M46 (M46 (5, 0, 6) ((x2 + 1).toNatClampNeg)) 0 1 r hr) q1641 q1642 q136 q1643 (by decide +kernel) rfl rfl rfl rfl rfl rfl dX8_isTold_62 (fun v62 => [.int v62]) (fun _ => rfl) (fun v62 M62 => ?_)
        refine j_if_eq (tgt := 72) hC dX8_isTold_65 (by decide) (fun h65 => ?_) (fun h65 => ?_)
        · exact j_sub [0, 2] rfl (wX8_isTold_72 hC hG hnl fu kn26 hk26 M62 x2)
        · refine j_iconst (v := 1) hC dX8_isTold_68 (by decide) ?_
          refine j_goto (tgt := 73) hC dX8_isTold_69 (by decide) ?_
          exact j_sub [0, 2] rfl (wX8_isTold_73 hC hG hnl fu kn26 hk26 M62 x2 1)
set_option linter.unusedVariables false in
set_option maxRecDepth 100000 in
theorem wX8_isTold_26 {X : JX} (hC : JC X cX8_isTold RX8 (some .boolean) 2 34 0 0) (hG : dmI dmM (XG X)) (hnl : nLof X = 3) (fu : Nat) (M : Mem) (x1 x2 : Int32) : J X (ZN X foI) (FX8_isTold_26 fu (XD X) M x1 x2) 26 [(0, .ref (gadr (XG X) (5, 0, 0))), (1, .int x1), (2, .int x2)] [] M 0 0 := by
  exact j_lp (lvf := fun z => [(0, .ref (gadr (XG X) (5, 0, 0))), (1, .int (z.2.1)), (2, .int (z.2.2))]) (Mf := fun z => z.1) (fun kn hk z => wgX8_isTold_26 hC hG hnl fu kn (fun M x1 x2 => hk (M, x1, x2)) z.1 z.2.1 z.2.2) fu (M, x1, x2)
set_option linter.unusedVariables false in
set_option maxRecDepth 100000 in
theorem wX8_isTold_23 {X : JX} (hC : JC X cX8_isTold RX8 (some .boolean) 2 34 0 0) (hG : dmI dmM (XG X)) (hnl : nLof X = 3) (fu : Nat) (M : Mem) (t0 : Int32) : J X (ZN X foI) (FX8_isTold_23 fu (XD X) M t0) 23 [(0, .ref (gadr (XG X) (5, 0, 0)))] [.int t0] M 0 0 := by
  unfold FX8_isTold_23
  refine j_istore_n hC [(1, .int t0), (0, .ref (gadr (XG X) (5, 0, 0)))] hnl dX8_isTold_23 rfl rfl ?_
  refine j_iconst (v := 0) hC dX8_isTold_24 (by decide) ?_
  refine j_istore_n hC [(2, .int 0), (1, .int t0), (0, .ref (gadr (XG X) (5, 0, 0)))] hnl dX8_isTold_25 rfl rfl ?_
  exact j_sub [2, 1, 0] rfl (wX8_isTold_26 hC hG hnl fu M t0 0)
set_option linter.unusedVariables false in
set_option maxRecDepth 100000 in
theorem wX8_isTold_22 {X : JX} (hC : JC X cX8_isTold RX8 (some .boolean) 2 34 0 0) (hG : dmI dmM (XG X)) (hnl : nLof X = 3) (fu : Nat) (M : Mem) : J X (ZN X foI) (FX8_isTold_22 fu (XD X) M) 22 [(0, .ref (gadr (XG X) (5, 0, 0)))] [] M 0 0 := by
  unfold FX8_isTold_22
  refine j_iconst (v := 0) hC dX8_isTold_22 (by decide) ?_
  exact j_sub [0] rfl (wX8_isTold_23 hC hG hnl fu M 0)
set_option linter.unusedVariables false in
set_option maxRecDepth 100000 in
theorem wX8_isTold {X : JX} (hC : JC X cX8_isTold RX8 (some .boolean) 2 34 0 0) (hG : dmI dmM (XG X)) (hnl : nLof X = 3) (fu : Nat) (M : Mem) : J X (ZN X foI) (FX8_isTold fu (XD X) M) 0 [(0, .ref (gadr (XG X) (5, 0, 0)))] [] M 0 0 := by
  unfold FX8_isTold
  refine j_aload_n hC 0 dX8_isTold_0 rfl ?_
  refine j_getI (fk := 11) hC (dmMo hG rfl) rfl rfl in_X8 rfl rfl q1475 rfl dX8_isTold_1 ?_
  refine j_iconst (v := 2) hC dX8_isTold_4 (by decide) ?_
  refine j_iremL hC dX8_isTold_5 (by decide) ?_
  refine j_if_ne (tgt := 22) hC dX8_isTold_6 (by decide) (fun h6 => ?_) (fun h6 => ?_)
  · refine j_aload_n hC 0 dX8_isTold_9 rfl ?_
    refine j_getI (fk := 11) hC (dmMo hG rfl) rfl rfl in_X8 rfl rfl q1475 rfl dX8_isTold_10 ?_
    refine j_bipush (v := 40) hC dX8_isTold_13 (by decide) ?_
    refine j_icmp_gt (tgt := 22) hC dX8_isTold_15 (by decide) (fun h15 => ?_) (fun h15 => ?_)
    · exact j_sub [0] rfl (wX8_isTold_22 hC hG hnl fu M)
    · refine j_iconst (v := 1) hC dX8_isTold_18 (by decide) ?_
      refine j_goto (tgt := 23) hC dX8_isTold_19 (by decide) ?_
      exact j_sub [0] rfl (wX8_isTold_23 hC hG hnl fu M 1)
  · exact j_sub [0] rfl (wX8_isTold_22 hC hG hnl fu M)
set_option linter.unusedVariables false in
set_option maxRecDepth 100000 in
theorem mX8_isTold (l : Launch) (Γ : xG) (hG : dmI dmM Γ) (fu : Nat) (D : List LDen) (M : Mem) (r : Int32 × Mem) (hr : FX8_isTold fu D M = some r) : CN l yX8_isTold (ws_ yX8_isTold cX8_isTold 3 (some .boolean)) 2 34 Γ D [.ref (gadr Γ (5, 0, 0))] M (foI r.1) r.2 := by
  refine CN.of (own := RX8) (lv0 := lv_args 0 [.ref (gadr Γ (5, 0, 0))]) (by decide +kernel) rfl (Nat.le_of_ble_eq_true rfl) rfl (fun X e1 e2 e3 e4 hC => ?_) r hr
  subst e1
  subst e2
  exact wX8_isTold hC hG e4 fu M
set_option linter.unusedVariables false in
set_option maxRecDepth 100000 in
theorem wX8_songsOf_31 {X : JX} (hC : JC X cX8_songsOf RX8 (some .int) 2 34 0 0) (hG : dmI dmM (XG X)) (hnl : nLof X = 4) (fu : Nat) (kn4 : Mem × Int32 × Int32 × Int32 → Option (Int32 × Mem)) (hk4 : ∀ (M : Mem) (x1 x2 x3 : Int32), J X (ZN X foI) (kn4 (M, x1, x2, x3)) 4 [(0, .ref (gadr (XG X) (5, 0, 0))), (1, .int x1), (2, .int x2), (3, .int x3)] [] M 0 0) (M : Mem) (x1 x3 t0 t1 : Int32) : J X (ZN X foI) (FX8_songsOf_31 fu (XD X) kn4 M x1 x3 t0 t1) 31 [(0, .ref (gadr (XG X) (5, 0, 0))), (1, .int x1), (3, .int x3)] [.int t0, .int t1] M 0 0 := by
  unfold FX8_songsOf_31
  refine j_ior hC dX8_songsOf_31 ?_
  refine j_ltT (fun y32 => ?_)
  refine j_istore_n hC [(2, .int y32), (0, .ref (gadr (XG X) (5, 0, 0))), (1, .int x1), (3, .int x3)] hnl dX8_songsOf_32 rfl rfl ?_
  refine j_iincL hC 3 (fun y33 => [(3, .int y33), (2, .int y32), (0, .ref (gadr (XG X) (5, 0, 0))), (1, .int x1)]) hnl dX8_songsOf_33 rfl (by decide) rfl (fun _ => rfl) (fun y33 => ?_)
  refine j_goto (tgt := 4) hC dX8_songsOf_36 (by decide) ?_
  exact j_sub [2, 3, 1, 0] rfl (hk4 M x1 y32 y33)
set_option linter.unusedVariables false in
set_option maxRecDepth 100000 in
theorem wgX8_songsOf_4 {X : JX} (hC : JC X cX8_songsOf RX8 (some .int) 2 34 0 0) (hG : dmI dmM (XG X)) (hnl : nLof X = 4) (fu : Nat) (kn4 : Mem × Int32 × Int32 × Int32 → Option (Int32 × Mem)) (hk4 : ∀ (M : Mem) (x1 x2 x3 : Int32), J X (ZN X foI) (kn4 (M, x1, x2, x3)) 4 [(0, .ref (gadr (XG X) (5, 0, 0))), (1, .int x1), (2, .int x2), (3, .int x3)] [] M 0 0) (M : Mem) (x1 x2 x3 : Int32) : J X (ZN X foI) (GX8_songsOf_4 fu (XD X) kn4 M x1 x2 x3) 4 [(0, .ref (gadr (XG X) (5, 0, 0))), (1, .int x1), (2, .int x2), (3, .int x3)] [] M 0 0 := by
  unfold GX8_songsOf_4
  refine j_iload_n hC 3 dX8_songsOf_4 rfl ?_
  refine j_aload_n hC 0 dX8_songsOf_5 rfl ?_
  refine j_callV (nA := 0) (rest := [.int x3]) hC [] rfl (fun r hr => mX8_birds (XL X) (XG X) hG fu (XD X) M r hr) q1622 q1624 qs54 q136 q1625 (dmMo hG rfl) rfl rfl (by decide +kernel) rfl rfl rfl rfl rfl rfl dX8_songsOf_6 (fun v6 => [.int v6, .int x3]) (fun _ => rfl) (fun v6 M6 => ?_)
  refine j_icmp_ge (tgt := 39) hC dX8_songsOf_9 (by decide) (fun h9 => ?_) (fun h9 => ?_)
  · refine j_iload_n hC 2 dX8_songsOf_39 rfl ?_
    exact j_iret hC dX8_songsOf_40
  · refine j_iload_n hC 2 dX8_songsOf_12 rfl ?_
    refine j_iload_n hC 1 dX8_songsOf_13 rfl ?_
    refine j_iload_n hC 3 dX8_songsOf_14 rfl ?_
    refine j_callS (nA := 2) (rest := [.int x2]) hC [.int x1, .int x3] rfl (fun r hr => mX8_has (XL X) (XG X) hG fu (XD X) M6 x1 x3 r hr) q1644 q1645 q136 q1646 (by decide +kernel) rfl rfl rfl rfl rfl rfl dX8_songsOf_15 (fun v15 => [.int v15, .int x2]) (fun _ => rfl) (fun v15 M15 => ?_)
    refine j_if_eq (tgt := 30) hC dX8_songsOf_18 (by decide) (fun h18 => ?_) (fun h18 => ?_)
    · refine j_iconst (v := 0) hC dX8_songsOf_30 (by decide) ?_
      exact j_sub [0, 1, 3] rfl (wX8_songsOf_31 hC hG hnl fu kn4 hk4 M15 x1 x3 0 x2)
    · refine j_aload_n hC 0 dX8_songsOf_21 rfl ?_
      refine j_iload_n hC 3 dX8_songsOf_22 rfl ?_
      refine j_iconst (v := 2) hC dX8_songsOf_23 (by decide) ?_
      refine j_callV (nA := 2) (rest := [.int x2]) hC [.int x3, .int 2] rfl (fun r hr => mX8_ofBird (XL X) (XG X) hG fu (XD X) M15 x3 2 r hr) q1778 q1780 qs80 q136 q1781 (dmMo hG rfl) rfl rfl (by decide +kernel) rfl rfl rfl rfl rfl rfl dX8_songsOf_24 (fun v24 => [.int v24, .int x2]) (fun _ => rfl) (fun v24 M24 => ?_)
      refine j_goto (tgt := 31) hC dX8_songsOf_27 (by decide) ?_
      exact j_sub [0, 1, 3] rfl (wX8_songsOf_31 hC hG hnl fu kn4 hk4 M24 x1 x3 v24 x2)
set_option linter.unusedVariables false in
set_option maxRecDepth 100000 in
theorem wX8_songsOf_4 {X : JX} (hC : JC X cX8_songsOf RX8 (some .int) 2 34 0 0) (hG : dmI dmM (XG X)) (hnl : nLof X = 4) (fu : Nat) (M : Mem) (x1 x2 x3 : Int32) : J X (ZN X foI) (FX8_songsOf_4 fu (XD X) M x1 x2 x3) 4 [(0, .ref (gadr (XG X) (5, 0, 0))), (1, .int x1), (2, .int x2), (3, .int x3)] [] M 0 0 := by
  exact j_lp (lvf := fun z => [(0, .ref (gadr (XG X) (5, 0, 0))), (1, .int (z.2.1)), (2, .int (z.2.2.1)), (3, .int (z.2.2.2))]) (Mf := fun z => z.1) (fun kn hk z => wgX8_songsOf_4 hC hG hnl fu kn (fun M x1 x2 x3 => hk (M, x1, x2, x3)) z.1 z.2.1 z.2.2.1 z.2.2.2) fu (M, x1, x2, x3)
set_option linter.unusedVariables false in
set_option maxRecDepth 100000 in
theorem wX8_songsOf {X : JX} (hC : JC X cX8_songsOf RX8 (some .int) 2 34 0 0) (hG : dmI dmM (XG X)) (hnl : nLof X = 4) (fu : Nat) (M : Mem) (x1 : Int32) : J X (ZN X foI) (FX8_songsOf fu (XD X) M x1) 0 [(0, .ref (gadr (XG X) (5, 0, 0))), (1, .int x1)] [] M 0 0 := by
  unfold FX8_songsOf
  refine j_iconst (v := 0) hC dX8_songsOf_0 (by decide) ?_
  refine j_istore_n hC [(2, .int 0), (0, .ref (gadr (XG X) (5, 0, 0))), (1, .int x1)] hnl dX8_songsOf_1 rfl rfl ?_
  refine j_iconst (v := 0) hC dX8_songsOf_2 (by decide) ?_
  refine j_istore_n hC [(3, .int 0), (2, .int 0), (0, .ref (gadr (XG X) (5, 0, 0))), (1, .int x1)] hnl dX8_songsOf_3 rfl rfl ?_
  exact j_sub [2, 3, 1, 0] rfl (wX8_songsOf_4 hC hG hnl fu M x1 0 0)
set_option linter.unusedVariables false in
set_option maxRecDepth 100000 in
theorem mX8_songsOf (l : Launch) (Γ : xG) (hG : dmI dmM Γ) (fu : Nat) (D : List LDen) (M : Mem) (x1 : Int32) (r : Int32 × Mem) (hr : FX8_songsOf fu D M x1 = some r) : CN l yX8_songsOf (ws_ yX8_songsOf cX8_songsOf 4 (some .int)) 2 34 Γ D [.ref (gadr Γ (5, 0, 0)), .int x1] M (foI r.1) r.2 := by
  refine CN.of (own := RX8) (lv0 := lv_args 0 [.ref (gadr Γ (5, 0, 0)), .int x1]) (by decide +kernel) rfl (Nat.le_of_ble_eq_true rfl) rfl (fun X e1 e2 e3 e4 hC => ?_) r hr
  subst e1
  subst e2
  exact wX8_songsOf hC hG e4 fu M x1
set_option linter.unusedVariables false in
set_option maxRecDepth 100000 in
theorem wX8_fits_61 {X : JX} (hC : JC X cX8_fits RX8 (some .boolean) 3 57 0 0) (hG : dmI dmM (XG X)) (hnl : nLof X = 5) (fu : Nat) (kn11 : Mem × Int32 × Int32 × Int32 → Option (Int32 × Mem)) (hk11 : ∀ (M : Mem) (x2 x3 x4 : Int32), J X (ZN X foI) (kn11 (M, x2, x3, x4)) 11 [(0, .ref (gadr (XG X) (5, 0, 0))), (2, .int x2), (3, .int x3), (4, .int x4)] [] M 0 0) (M : Mem) (x2 x4 t0 : Int32) : J X (ZN X foI) (FX8_fits_61 fu (XD X) kn11 M x2 x4 t0) 61 [(0, .ref (gadr (XG X) (5, 0, 0))), (2, .int x2), (4, .int x4)] [.int t0] M 0 0 := by
  unfold FX8_fits_61
  refine j_istore_n hC [(3, .int t0), (0, .ref (gadr (XG X) (5, 0, 0))), (2, .int x2), (4, .int x4)] hnl dX8_fits_61 rfl rfl ?_
  refine j_iincL hC 3 (fun y62 => [(4, .int y62), (3, .int t0), (0, .ref (gadr (XG X) (5, 0, 0))), (2, .int x2)]) hnl dX8_fits_62 rfl (by decide) rfl (fun _ => rfl) (fun y62 => ?_)
  refine j_goto (tgt := 11) hC dX8_fits_65 (by decide) ?_
  exact j_sub [2, 3, 1, 0] rfl (hk11 M x2 t0 y62)
set_option linter.unusedVariables false in
set_option maxRecDepth 100000 in
theorem wX8_fits_60 {X : JX} (hC : JC X cX8_fits RX8 (some .boolean) 3 57 0 0) (hG : dmI dmM (XG X)) (hnl : nLof X = 5) (fu : Nat) (kn11 : Mem × Int32 × Int32 × Int32 → Option (Int32 × Mem)) (hk11 : ∀ (M : Mem) (x2 x3 x4 : Int32), J X (ZN X foI) (kn11 (M, x2, x3, x4)) 11 [(0, .ref (gadr (XG X) (5, 0, 0))), (2, .int x2), (3, .int x3), (4, .int x4)] [] M 0 0) (M : Mem) (x2 x4 : Int32) : J X (ZN X foI) (FX8_fits_60 fu (XD X) kn11 M x2 x4) 60 [(0, .ref (gadr (XG X) (5, 0, 0))), (2, .int x2), (4, .int x4)] [] M 0 0 := by
  unfold FX8_fits_60
  refine j_iconst (v := 0) hC dX8_fits_60 (by decide) ?_
  exact j_sub [0, 1, 2] rfl (wX8_fits_61 hC hG hnl fu kn11 hk11 M x2 x4 0)
set_option linter.unusedVariables false in
set_option maxRecDepth 100000 in
theorem wX8_fits_53 {X : JX} (hC : JC X cX8_fits RX8 (some .boolean) 3 57 0 0) (hG : dmI dmM (XG X)) (hnl : nLof X = 5) (fu : Nat) (kn11 : Mem × Int32 × Int32 × Int32 → Option (Int32 × Mem)) (hk11 : ∀ (M : Mem) (x2 x3 x4 : Int32), J X (ZN X foI) (kn11 (M, x2, x3, x4)) 11 [(0, .ref (gadr (XG X) (5, 0, 0))), (2, .int x2), (3, .int x3), (4, .int x4)] [] M 0 0) (M : Mem) (x2 x4 t0 t1 : Int32) : J X (ZN X foI) (FX8_fits_53 fu (XD X) kn11 M x2 x4 t0 t1) 53 [(0, .ref (gadr (XG X) (5, 0, 0))), (2, .int x2), (4, .int x4)] [.int t0, .int t1] M 0 0 := by
  unfold FX8_fits_53
  refine j_icmp_ne (tgt := 60) hC dX8_fits_53 (by decide) (fun h53 => ?_) (fun h53 => ?_)
  · refine j_iconst (v := 1) hC dX8_fits_56 (by decide) ?_
    refine j_goto (tgt := 61) hC dX8_fits_57 (by decide) ?_
    exact j_sub [0, 1, 2] rfl (wX8_fits_61 hC hG hnl fu kn11 hk11 M x2 x4 1)
  · exact j_sub [0, 1, 2] rfl (wX8_fits_60 hC hG hnl fu kn11 hk11 M x2 x4)
set_option linter.unusedVariables false in
set_option maxRecDepth 100000 in
theorem wgX8_fits_11 {X : JX} (hC : JC X cX8_fits RX8 (some .boolean) 3 57 0 0) (hG : dmI dmM (XG X)) (hnl : nLof X = 5) (fu : Nat) (kn11 : Mem × Int32 × Int32 × Int32 → Option (Int32 × Mem)) (hk11 : ∀ (M : Mem) (x2 x3 x4 : Int32), J X (ZN X foI) (kn11 (M, x2, x3, x4)) 11 [(0, .ref (gadr (XG X) (5, 0, 0))), (2, .int x2), (3, .int x3), (4, .int x4)] [] M 0 0) (M : Mem) (x2 x3 x4 : Int32) : J X (ZN X foI) (GX8_fits_11 fu (XD X) kn11 M x2 x3 x4) 11 [(0, .ref (gadr (XG X) (5, 0, 0))), (2, .int x2), (3, .int x3), (4, .int x4)] [] M 0 0 := by
  unfold GX8_fits_11
  refine j_iload hC 3 dX8_fits_11 rfl ?_
  refine j_aload_n hC 0 dX8_fits_13 rfl ?_
  refine j_getI (fk := 11) hC (dmMo hG rfl) rfl rfl in_X8 rfl rfl q1475 rfl dX8_fits_14 ?_
  refine j_icmp_ge (tgt := 68) hC dX8_fits_17 (by decide) (fun h17 => ?_) (fun h17 => ?_)
  · refine j_iload_n hC 2 dX8_fits_68 rfl ?_
    exact j_zret hC rfl dX8_fits_69
  · refine j_iload_n hC 2 dX8_fits_20 rfl ?_
    refine j_if_eq (tgt := 60) hC dX8_fits_21 (by decide) (fun h21 => ?_) (fun h21 => ?_)
    · exact j_sub [0, 1, 3] rfl (wX8_fits_60 hC hG hnl fu kn11 hk11 M x2 x4)
    · refine j_iload_n hC 1 dX8_fits_24 rfl ?_
      refine j_aload_n hC 0 dX8_fits_25 rfl ?_
      refine j_getR (fk := 8) hC (dmMo hG rfl) rfl rfl in_X8 rfl rfl q1472 rfl dX8_fits_26 ?_
      refine j_iload hC 3 dX8_fits_29 rfl ?_
      refine j_bald hC (dmMo hG rfl) rfl dX8_fits_31 (fun h31 => ?_)
      refine j_callS (nA := 2) (rest := []) hC [.int x2, .int (M (5, 0, 6) x4.toNatClampNeg)] rfl (fun r hr => mX8_has (XL X) (XG X) hG fu (XD X) M x2 (M (5, 0, 6) x4.toNatClampNeg) r hr) q1644 q1645 q136 q1646 (by decide +kernel) rfl rfl rfl rfl rfl rfl dX8_fits_32 (fun v32 => [.int v32]) (fun _ => rfl) (fun v32 M32 => ?_)
      refine j_aload_n hC 0 dX8_fits_35 rfl ?_
      refine j_getR (fk := 8) hC (dmMo hG rfl) rfl rfl in_X8 rfl rfl q1472 rfl dX8_fits_36 ?_
      refine j_iload hC 3 dX8_fits_39 rfl ?_
      refine j_iconst (v := 1) hC dX8_fits_41 (by decide) ?_
      refine j_iadd hC dX8_fits_42 ?_
      refine j_bald hC (dmMo hG rfl) rfl dX8_fits_43 (fun h43 => ?_)
      refine j_iconst (v := 1) hC dX8_fits_44 (by decide) ?_
      refine j_icmp_ne (tgt := 52) hC dX8_fits_45 (by decide) (fun h45 => ?_) (fun h45 => ?_)
      · refine j_iconst (v := 1) hC dX8_fits_48 (by decide) ?_
        refine j_goto (tgt := 53) hC dX8_fits_49 (by decide) ?_
        exact j_sub [0, 1, 3] rfl (wX8_fits_53 hC hG hnl fu kn11 hk11 M32 x2 x4 1 v32)
      · refine j_iconst (v := 0) hC dX8_fits_52 (by decide) ?_
        exact j_sub [0, 1, 3] rfl (wX8_fits_53 hC hG hnl fu kn11 hk11 M32 x2 x4 0 v32)
set_option linter.unusedVariables false in
set_option maxRecDepth 100000 in
theorem wX8_fits_11 {X : JX} (hC : JC X cX8_fits RX8 (some .boolean) 3 57 0 0) (hG : dmI dmM (XG X)) (hnl : nLof X = 5) (fu : Nat) (M : Mem) (x2 x3 x4 : Int32) : J X (ZN X foI) (FX8_fits_11 fu (XD X) M x2 x3 x4) 11 [(0, .ref (gadr (XG X) (5, 0, 0))), (2, .int x2), (3, .int x3), (4, .int x4)] [] M 0 0 := by
  exact j_lp (lvf := fun z => [(0, .ref (gadr (XG X) (5, 0, 0))), (2, .int (z.2.1)), (3, .int (z.2.2.1)), (4, .int (z.2.2.2))]) (Mf := fun z => z.1) (fun kn hk z => wgX8_fits_11 hC hG hnl fu kn (fun M x2 x3 x4 => hk (M, x2, x3, x4)) z.1 z.2.1 z.2.2.1 z.2.2.2) fu (M, x2, x3, x4)
set_option linter.unusedVariables false in
set_option maxRecDepth 100000 in
theorem wX8_fits {X : JX} (hC : JC X cX8_fits RX8 (some .boolean) 3 57 0 0) (hG : dmI dmM (XG X)) (hnl : nLof X = 5) (fu : Nat) (M : Mem) (x1 : Int32) : J X (ZN X foI) (FX8_fits fu (XD X) M x1) 0 [(0, .ref (gadr (XG X) (5, 0, 0))), (1, .int x1)] [] M 0 0 := by
  unfold FX8_fits
  refine j_aload_n hC 0 dX8_fits_0 rfl ?_
  refine j_iload_n hC 1 dX8_fits_1 rfl ?_
  refine j_callV (nA := 1) (rest := []) hC [.int x1] rfl (fun r hr => mX8_songsOf (XL X) (XG X) hG fu (XD X) M x1 r hr) q2040 q2042 qs118 q136 q2043 (dmMo hG rfl) rfl rfl (by decide +kernel) rfl rfl rfl rfl rfl rfl dX8_fits_2 (fun v2 => [.int v2]) (fun _ => rfl) (fun v2 M2 => ?_)
  refine j_istore_n hC [(2, .int v2), (0, .ref (gadr (XG X) (5, 0, 0))), (1, .int x1)] hnl dX8_fits_5 rfl rfl ?_
  refine j_iconst (v := 1) hC dX8_fits_6 (by decide) ?_
  refine j_istore_n hC [(3, .int 1), (2, .int v2), (0, .ref (gadr (XG X) (5, 0, 0))), (1, .int x1)] hnl dX8_fits_7 rfl rfl ?_
  refine j_iconst (v := 0) hC dX8_fits_8 (by decide) ?_
  refine j_istore hC [(4, .int 0), (3, .int 1), (2, .int v2), (0, .ref (gadr (XG X) (5, 0, 0))), (1, .int x1)] hnl dX8_fits_9 rfl rfl ?_
  exact j_sub [3, 2, 1, 0] rfl (wX8_fits_11 hC hG hnl fu M2 v2 1 0)
set_option linter.unusedVariables false in
set_option maxRecDepth 100000 in
theorem mX8_fits (l : Launch) (Γ : xG) (hG : dmI dmM Γ) (fu : Nat) (D : List LDen) (M : Mem) (x1 : Int32) (r : Int32 × Mem) (hr : FX8_fits fu D M x1 = some r) : CN l yX8_fits (ws_ yX8_fits cX8_fits 5 (some .boolean)) 3 57 Γ D [.ref (gadr Γ (5, 0, 0)), .int x1] M (foI r.1) r.2 := by
  refine CN.of (own := RX8) (lv0 := lv_args 0 [.ref (gadr Γ (5, 0, 0)), .int x1]) (by decide +kernel) rfl (Nat.le_of_ble_eq_true rfl) rfl (fun X e1 e2 e3 e4 hC => ?_) r hr
  subst e1
  subst e2
  exact wX8_fits hC hG e4 fu M x1
set_option linter.unusedVariables false in
set_option maxRecDepth 100000 in
theorem wX8_songs_94 {X : JX} (hC : JC X cX8_songs RX8 (some .int) 4 81 0 0) (hG : dmI dmM (XG X)) (hnl : nLof X = 5) (fu : Nat) (M : Mem) (t0 : Int32) : J X (ZN X foI) (FX8_songs_94 fu (XD X) M t0) 94 [] [.int t0] M 0 0 := by
  unfold FX8_songs_94
  exact j_iret hC dX8_songs_94
set_option linter.unusedVariables false in
set_option maxRecDepth 100000 in
theorem wX8_songs_71 {X : JX} (hC : JC X cX8_songs RX8 (some .int) 4 81 0 0) (hG : dmI dmM (XG X)) (hnl : nLof X = 5) (fu : Nat) (kn40 : Mem × Int32 × Int32 × Int32 × Int32 → Option (Int32 × Mem)) (hk40 : ∀ (M : Mem) (x1 x2 x3 x4 : Int32), J X (ZN X foI) (kn40 (M, x1, x2, x3, x4)) 40 [(0, .ref (gadr (XG X) (5, 0, 0))), (1, .int x1), (2, .int x2), (3, .int x3), (4, .int x4)] [] M 0 0) (M : Mem) (x1 x2 x3 x4 : Int32) : J X (ZN X foI) (FX8_songs_71 fu (XD X) kn40 M x1 x2 x3 x4) 71 [(0, .ref (gadr (XG X) (5, 0, 0))), (1, .int x1), (2, .int x2), (3, .int x3), (4, .int x4)] [] M 0 0 := by
  unfold FX8_songs_71
  refine j_iincL hC 4 (fun y71 => [(4, .int y71), (0, .ref (gadr (XG X) (5, 0, 0))), (1, .int x1), (2, .int x2), (3, .int x3)]) hnl dX8_songs_71 rfl (by decide) rfl (fun _ => rfl) (fun y71 => ?_)
  refine j_goto (tgt := 40) hC dX8_songs_74 (by decide) ?_
  exact j_sub [1, 2, 3, 4, 0] rfl (hk40 M x1 x2 x3 y71)
set_option linter.unusedVariables false in
set_option maxRecDepth 100000 in
theorem wgX8_songs_40 {X : JX} (hC : JC X cX8_songs RX8 (some .int) 4 81 0 0) (hG : dmI dmM (XG X)) (hnl : nLof X = 5) (fu : Nat) (kn40 : Mem × Int32 × Int32 × Int32 × Int32 → Option (Int32 × Mem)) (hk40 : ∀ (M : Mem) (x1 x2 x3 x4 : Int32), J X (ZN X foI) (kn40 (M, x1, x2, x3, x4)) 40 [(0, .ref (gadr (XG X) (5, 0, 0))), (1, .int x1), (2, .int x2), (3, .int x3), (4, .int x4)] [] M 0 0) (M : Mem) (x1 x2 x3 x4 : Int32) : J X (ZN X foI) (GX8_songs_40 fu (XD X) kn40 M x1 x2 x3 x4) 40 [(0, .ref (gadr (XG X) (5, 0, 0))), (1, .int x1), (2, .int x2), (3, .int x3), (4, .int x4)] [] M 0 0 := by
  unfold GX8_songs_40
  refine j_iload hC 4 dX8_songs_40 rfl ?_
  refine j_iconst (v := 1) hC dX8_songs_42 (by decide) ?_
  refine j_aload_n hC 0 dX8_songs_43 rfl ?_
  refine j_callV (nA := 0) (rest := [.int 1, .int x4]) hC [] rfl (fun r hr => mX8_birds (XL X) (XG X) hG fu (XD X) M r hr) q1622 q1624 qs54 q136 q1625 (dmMo hG rfl) rfl rfl (by decide +kernel) rfl rfl rfl rfl rfl rfl dX8_songs_44 (fun v44 => [.int v44, .int 1, .int x4]) (fun _ => rfl) (fun v44 M44 => ?_)
  refine j_ishl hC dX8_songs_47 ?_
  refine j_icmp_ge (tgt := 77) hC dX8_songs_48 (by decide) (fun h48 => ?_) (fun h48 => ?_)
  · refine j_iload_n hC 1 dX8_songs_77 rfl ?_
    refine j_if_ne (tgt := 85) hC dX8_songs_78 (by decide) (fun h78 => ?_) (fun h78 => ?_)
    · refine j_iload_n hC 2 dX8_songs_81 rfl ?_
      refine j_goto (tgt := 94) hC dX8_songs_82 (by decide) ?_
      exact j_sub [] rfl (wX8_songs_94 hC hG hnl fu M44 x2)
    · refine j_iload_n hC 2 dX8_songs_85 rfl ?_
      refine j_if_ne (tgt := 93) hC dX8_songs_86 (by decide) (fun h86 => ?_) (fun h86 => ?_)
      · refine j_iconst (v := 0) hC dX8_songs_89 (by decide) ?_
        refine j_goto (tgt := 94) hC dX8_songs_90 (by decide) ?_
        exact j_sub [] rfl (wX8_songs_94 hC hG hnl fu M44 0)
      · refine j_iload_n hC 3 dX8_songs_93 rfl ?_
        exact j_sub [] rfl (wX8_songs_94 hC hG hnl fu M44 x3)
  · refine j_aload_n hC 0 dX8_songs_51 rfl ?_
    refine j_iload hC 4 dX8_songs_52 rfl ?_
    refine j_callV (nA := 1) (rest := []) hC [.int x4] rfl (fun r hr => mX8_fits (XL X) (XG X) hG fu (XD X) M44 x4 r hr) q2036 q2038 qs117 q136 q2039 (dmMo hG rfl) rfl rfl (by decide +kernel) rfl rfl rfl rfl rfl rfl dX8_songs_54 (fun v54 => [.int v54]) (fun _ => rfl) (fun v54 M54 => ?_)
    refine j_if_ne (tgt := 63) hC dX8_songs_57 (by decide) (fun h57 => ?_) (fun h57 => ?_)
    · refine j_goto (tgt := 71) hC dX8_songs_60 (by decide) ?_
      exact j_sub [0, 1, 2, 3, 4] rfl (wX8_songs_71 hC hG hnl fu kn40 hk40 M54 x1 x2 x3 x4)
    · refine j_iincL hC 2 (fun y63 => [(2, .int y63), (0, .ref (gadr (XG X) (5, 0, 0))), (1, .int x1), (3, .int x3), (4, .int x4)]) hnl dX8_songs_63 rfl (by decide) rfl (fun _ => rfl) (fun y63 => ?_)
      refine j_iload_n hC 3 dX8_songs_66 rfl ?_
      refine j_iload hC 4 dX8_songs_67 rfl ?_
      refine j_iand hC dX8_songs_69 ?_
      refine j_ltT (fun y70 => ?_)
      refine j_istore_n hC [(3, .int y70), (2, .int y63), (0, .ref (gadr (XG X) (5, 0, 0))), (1, .int x1), (4, .int x4)] hnl dX8_songs_70 rfl rfl ?_
      exact j_sub [2, 3, 1, 0, 4] rfl (wX8_songs_71 hC hG hnl fu kn40 hk40 M54 x1 y63 y70 x4)
set_option linter.unusedVariables false in
set_option maxRecDepth 100000 in
theorem wX8_songs_40 {X : JX} (hC : JC X cX8_songs RX8 (some .int) 4 81 0 0) (hG : dmI dmM (XG X)) (hnl : nLof X = 5) (fu : Nat) (M : Mem) (x1 x2 x3 x4 : Int32) : J X (ZN X foI) (FX8_songs_40 fu (XD X) M x1 x2 x3 x4) 40 [(0, .ref (gadr (XG X) (5, 0, 0))), (1, .int x1), (2, .int x2), (3, .int x3), (4, .int x4)] [] M 0 0 := by
  exact j_lp (lvf := fun z => [(0, .ref (gadr (XG X) (5, 0, 0))), (1, .int (z.2.1)), (2, .int (z.2.2.1)), (3, .int (z.2.2.2.1)), (4, .int (z.2.2.2.2))]) (Mf := fun z => z.1) (fun kn hk z => wgX8_songs_40 hC hG hnl fu kn (fun M x1 x2 x3 x4 => hk (M, x1, x2, x3, x4)) z.1 z.2.1 z.2.2.1 z.2.2.2.1 z.2.2.2.2) fu (M, x1, x2, x3, x4)
set_option linter.unusedVariables false in
set_option maxRecDepth 100000 in
theorem wX8_songs_17 {X : JX} (hC : JC X cX8_songs RX8 (some .int) 4 81 0 0) (hG : dmI dmM (XG X)) (hnl : nLof X = 5) (fu : Nat) (M : Mem) (x1 t0 : Int32) : J X (ZN X foI) (FX8_songs_17 fu (XD X) M x1 t0) 17 [(0, .ref (gadr (XG X) (5, 0, 0))), (1, .int x1)] [.int t0, .ref (gadr (XG X) (5, 0, 0))] M 0 0 := by
  unfold FX8_songs_17
  refine j_iconst (v := 1) hC dX8_songs_17 (by decide) ?_
  refine j_callV (nA := 2) (rest := []) hC [.int t0, .int 1] rfl (fun r hr => mX8_throwsIf (XL X) (XG X) hG fu (XD X) M t0 1 r hr) q1748 q1750 qs76 q136 q1751 (dmMo hG rfl) rfl rfl (by decide +kernel) rfl rfl rfl rfl rfl rfl dX8_songs_18 (fun v18 => [.int v18]) (fun _ => rfl) (fun v18 M18 => ?_)
  refine j_if_eq (tgt := 26) hC dX8_songs_21 (by decide) (fun h21 => ?_) (fun h21 => ?_)
  · refine j_iconst (v := 0) hC dX8_songs_26 (by decide) ?_
    refine j_istore_n hC [(2, .int 0), (0, .ref (gadr (XG X) (5, 0, 0))), (1, .int x1)] hnl dX8_songs_27 rfl rfl ?_
    refine j_iconst (v := 1) hC dX8_songs_28 (by decide) ?_
    refine j_aload_n hC 1 dX8_songs_29 rfl ?_
    refine j_callV (nA := 0) (rest := [.int 1]) hC [] rfl (fun r hr => mX8_birds (XL X) (XG X) hG fu (XD X) M18 r hr) q1622 q1624 qs54 q136 q1625 (dmMo hG rfl) rfl rfl (by decide +kernel) rfl rfl rfl rfl rfl rfl dX8_songs_30 (fun v30 => [.int v30, .int 1]) (fun _ => rfl) (fun v30 M30 => ?_)
    refine j_ishl hC dX8_songs_33 ?_
    refine j_iconst (v := 1) hC dX8_songs_34 (by decide) ?_
    refine j_isub hC dX8_songs_35 ?_
    refine j_ltT (fun y36 => ?_)
    refine j_istore_n hC [(3, .int y36), (2, .int 0), (0, .ref (gadr (XG X) (5, 0, 0))), (1, .int x1)] hnl dX8_songs_36 rfl rfl ?_
    refine j_iconst (v := 0) hC dX8_songs_37 (by decide) ?_
    refine j_istore hC [(4, .int 0), (3, .int y36), (2, .int 0), (0, .ref (gadr (XG X) (5, 0, 0))), (1, .int x1)] hnl dX8_songs_38 rfl rfl ?_
    exact j_sub [3, 4, 2, 1, 0] rfl (wX8_songs_40 hC hG hnl fu M30 x1 0 y36 0)
  · refine j_iconst (v := 0) hC dX8_songs_24 (by decide) ?_
    exact j_iret hC dX8_songs_25
set_option linter.unusedVariables false in
set_option maxRecDepth 100000 in
theorem wX8_songs {X : JX} (hC : JC X cX8_songs RX8 (some .int) 4 81 0 0) (hG : dmI dmM (XG X)) (hnl : nLof X = 5) (fu : Nat) (M : Mem) (x1 : Int32) : J X (ZN X foI) (FX8_songs fu (XD X) M x1) 0 [(0, .ref (gadr (XG X) (5, 0, 0))), (1, .int x1)] [] M 0 0 := by
  unfold FX8_songs
  refine j_aload_n hC 0 dX8_songs_0 rfl ?_
  refine j_callV (nA := 0) (rest := []) hC [] rfl (fun r hr => mX8_uses (XL X) (XG X) hG fu (XD X) M r hr) q1587 q1589 qs46 q136 q1590 (dmMo hG rfl) rfl rfl (by decide +kernel) rfl rfl rfl rfl rfl rfl dX8_songs_1 (fun _ => []) (fun _ => rfl) (fun v1 M1 => ?_)
  refine j_aload_n hC 0 dX8_songs_4 rfl ?_
  refine j_aload_n hC 0 dX8_songs_5 rfl ?_
  refine j_callV (nA := 0) (rest := [.ref (gadr (XG X) (5, 0, 0))]) hC [] rfl (fun r hr => mX8_isTold (XL X) (XG X) hG fu (XD X) M1 r hr) q2032 q2034 qs116 q136 q2035 (dmMo hG rfl) rfl rfl (by decide +kernel) rfl rfl rfl rfl rfl rfl dX8_songs_6 (fun v6 => [.int v6, .ref (gadr (XG X) (5, 0, 0))]) (fun _ => rfl) (fun v6 M6 => ?_)
  refine j_if_ne (tgt := 16) hC dX8_songs_9 (by decide) (fun h9 => ?_) (fun h9 => ?_)
  · refine j_iconst (v := 1) hC dX8_songs_12 (by decide) ?_
    refine j_goto (tgt := 17) hC dX8_songs_13 (by decide) ?_
    exact j_sub [0, 1] rfl (wX8_songs_17 hC hG hnl fu M6 x1 1)
  · refine j_iconst (v := 0) hC dX8_songs_16 (by decide) ?_
    exact j_sub [0, 1] rfl (wX8_songs_17 hC hG hnl fu M6 x1 0)
set_option linter.unusedVariables false in
set_option maxRecDepth 100000 in
theorem mX8_songs (l : Launch) (Γ : xG) (hG : dmI dmM Γ) (fu : Nat) (D : List LDen) (M : Mem) (x1 : Int32) (r : Int32 × Mem) (hr : FX8_songs fu D M x1 = some r) : CN l yX8_songs (ws_ yX8_songs cX8_songs 5 (some .int)) 4 81 Γ D [.ref (gadr Γ (5, 0, 0)), .int x1] M (foI r.1) r.2 := by
  refine CN.of (own := RX8) (lv0 := lv_args 0 [.ref (gadr Γ (5, 0, 0)), .int x1]) (by decide +kernel) rfl (Nat.le_of_ble_eq_true rfl) rfl (fun X e1 e2 e3 e4 hC => ?_) r hr
  subst e1
  subst e2
  exact wX8_songs hC hG e4 fu M x1
set_option linter.unusedVariables false in
set_option maxRecDepth 100000 in
theorem wX8_ask_128 {X : JX} (hC : JC X cX8_ask RX8 (some .int) 4 81 0 0) (hG : dmI dmM (XG X)) (hnl : nLof X = 7) (fu : Nat) (kn34 : Mem × Int32 × Int32 × Int32 → Option (Int32 × Mem)) (hk34 : ∀ (M : Mem) (x1 x2 x3 : Int32), J X (ZN X foI) (kn34 (M, x1, x2, x3)) 34 [(0, .ref (gadr (XG X) (5, 0, 0))), (1, .int x1), (2, .int x2), (3, .int x3)] [] M 0 0) (M : Mem) (x1 x2 x3 : Int32) : J X (ZN X foI) (FX8_ask_128 fu (XD X) kn34 M x1 x2 x3) 128 [(0, .ref (gadr (XG X) (5, 0, 0))), (1, .int x1), (2, .int x2), (3, .int x3)] [] M 0 0 := by
  unfold FX8_ask_128
  refine j_iincL hC 3 (fun y128 => [(3, .int y128), (0, .ref (gadr (XG X) (5, 0, 0))), (1, .int x1), (2, .int x2)]) hnl dX8_ask_128 rfl (by decide) rfl (fun _ => rfl) (fun y128 => ?_)
  refine j_goto (tgt := 34) hC dX8_ask_131 (by decide) ?_
  exact j_sub [1, 2, 3, 0] rfl (hk34 M x1 x2 y128)
set_option linter.unusedVariables false in
set_option maxRecDepth 100000 in
theorem wX8_ask_90 {X : JX} (hC : JC X cX8_ask RX8 (some .int) 4 81 0 0) (hG : dmI dmM (XG X)) (hnl : nLof X = 7) (fu : Nat) (kn49 : Mem × Int32 × Int32 × Int32 × Int32 × Int32 × Int32 → Option (Int32 × Mem)) (hk49 : ∀ (M : Mem) (x1 x2 x3 x4 x5 x6 : Int32), J X (ZN X foI) (kn49 (M, x1, x2, x3, x4, x5, x6)) 49 [(0, .ref (gadr (XG X) (5, 0, 0))), (1, .int x1), (2, .int x2), (3, .int x3), (4, .int x4), (5, .int x5), (6, .int x6)] [] M 0 0) (M : Mem) (x1 x2 x3 x4 x5 x6 : Int32) : J X (ZN X foI) (FX8_ask_90 fu (XD X) kn49 M x1 x2 x3 x4 x5 x6) 90 [(0, .ref (gadr (XG X) (5, 0, 0))), (1, .int x1), (2, .int x2), (3, .int x3), (4, .int x4), (5, .int x5), (6, .int x6)] [] M 0 0 := by
  unfold FX8_ask_90
  refine j_iincL hC 6 (fun y90 => [(6, .int y90), (0, .ref (gadr (XG X) (5, 0, 0))), (1, .int x1), (2, .int x2), (3, .int x3), (4, .int x4), (5, .int x5)]) hnl dX8_ask_90 rfl (by decide) rfl (fun _ => rfl) (fun y90 => ?_)
  refine j_goto (tgt := 49) hC dX8_ask_93 (by decide) ?_
  exact j_sub [1, 2, 3, 4, 5, 6, 0] rfl (hk49 M x1 x2 x3 x4 x5 y90)
set_option linter.unusedVariables false in
set_option maxRecDepth 100000 in
theorem wgX8_ask_49 {X : JX} (hC : JC X cX8_ask RX8 (some .int) 4 81 0 0) (hG : dmI dmM (XG X)) (hnl : nLof X = 7) (fu : Nat) (kn49 : Mem × Int32 × Int32 × Int32 × Int32 × Int32 × Int32 → Option (Int32 × Mem)) (hk49 : ∀ (M : Mem) (x1 x2 x3 x4 x5 x6 : Int32), J X (ZN X foI) (kn49 (M, x1, x2, x3, x4, x5, x6)) 49 [(0, .ref (gadr (XG X) (5, 0, 0))), (1, .int x1), (2, .int x2), (3, .int x3), (4, .int x4), (5, .int x5), (6, .int x6)] [] M 0 0) (kn34 : Mem × Int32 × Int32 × Int32 → Option (Int32 × Mem)) (hk34 : ∀ (M : Mem) (x1 x2 x3 : Int32), J X (ZN X foI) (kn34 (M, x1, x2, x3)) 34 [(0, .ref (gadr (XG X) (5, 0, 0))), (1, .int x1), (2, .int x2), (3, .int x3)] [] M 0 0) (M : Mem) (x1 x2 x3 x4 x5 x6 : Int32) : J X (ZN X foI) (GX8_ask_49 fu (XD X) kn49 kn34 M x1 x2 x3 x4 x5 x6) 49 [(0, .ref (gadr (XG X) (5, 0, 0))), (1, .int x1), (2, .int x2), (3, .int x3), (4, .int x4), (5, .int x5), (6, .int x6)] [] M 0 0 := by
  unfold GX8_ask_49
  refine j_iload hC 6 dX8_ask_49 rfl ?_
  refine j_iconst (v := 1) hC dX8_ask_51 (by decide) ?_
  refine j_aload_n hC 0 dX8_ask_52 rfl ?_
  refine j_callV (nA := 0) (rest := [.int 1, .int x6]) hC [] rfl (fun r hr => mX8_birds (XL X) (XG X) hG fu (XD X) M r hr) q1622 q1624 qs54 q136 q1625 (dmMo hG rfl) rfl rfl (by decide +kernel) rfl rfl rfl rfl rfl rfl dX8_ask_53 (fun v53 => [.int v53, .int 1, .int x6]) (fun _ => rfl) (fun v53 M53 => ?_)
  refine j_ishl hC dX8_ask_56 ?_
  refine j_icmp_ge (tgt := 96) hC dX8_ask_57 (by decide) (fun h57 => ?_) (fun h57 => ?_)
  · refine j_iload hC 5 dX8_ask_96 rfl ?_
    refine j_iload hC 4 dX8_ask_98 rfl ?_
    refine j_iload hC 5 dX8_ask_100 rfl ?_
    refine j_isub hC dX8_ask_102 ?_
    refine j_max hC q1803 q643 q155 q644 dX8_ask_103 rfl (Nat.le_of_ble_eq_true rfl) (Nat.le_of_ble_eq_true rfl) (Nat.le_of_ble_eq_true rfl) ?_
    refine j_ltT (fun y106 => ?_)
    refine j_istore hC [(6, .int y106), (0, .ref (gadr (XG X) (5, 0, 0))), (1, .int x1), (2, .int x2), (3, .int x3), (4, .int x4), (5, .int x5)] hnl dX8_ask_106 rfl rfl ?_
    refine j_iload hC 5 dX8_ask_108 rfl ?_
    refine j_iconst (v := 2) hC dX8_ask_110 (by decide) ?_
    refine j_icmp_lt (tgt := 128) hC dX8_ask_111 (by decide) (fun h111 => ?_) (fun h111 => ?_)
    · exact j_sub [1, 2, 3, 4] rfl (wX8_ask_128 hC hG hnl fu kn34 hk34 M53 x1 x2 x3)
    · refine j_iload hC 0 dX8_ask_114 rfl ?_
      refine j_iload_n hC 3 dX8_ask_116 rfl ?_
      refine j_icmp_lt (tgt := 123) hC dX8_ask_117 (by decide) (fun h117 => ?_) (fun h117 => ?_)
      · refine j_iload_n hC 4 dX8_ask_123 rfl ?_
        refine j_istore_n hC [(1, .int x3), (6, .int y106), (0, .ref (gadr (XG X) (5, 0, 0))), (2, .int x2), (3, .int x3), (4, .int x4), (5, .int x5)] hnl dX8_ask_124 rfl rfl ?_
        refine j_iload hC 1 dX8_ask_125 rfl ?_
        refine j_istore_n hC [(2, .int y106), (1, .int x3), (6, .int y106), (0, .ref (gadr (XG X) (5, 0, 0))), (3, .int x3), (4, .int x4), (5, .int x5)] hnl dX8_ask_127 rfl rfl ?_
        exact j_sub [3, 1, 0, 4] rfl (wX8_ask_128 hC hG hnl fu kn34 hk34 M53 x3 y106 x3)
      · refine j_goto (tgt := 128) hC dX8_ask_120 (by decide) ?_
        exact j_sub [1, 2, 3, 4] rfl (wX8_ask_128 hC hG hnl fu kn34 hk34 M53 x1 x2 x3)
  · refine j_aload_n hC 0 dX8_ask_60 rfl ?_
    refine j_iload hC 6 dX8_ask_61 rfl ?_
    refine j_callV (nA := 1) (rest := []) hC [.int x6] rfl (fun r hr => mX8_fits (XL X) (XG X) hG fu (XD X) M53 x6 r hr) q2036 q2038 qs117 q136 q2039 (dmMo hG rfl) rfl rfl (by decide +kernel) rfl rfl rfl rfl rfl rfl dX8_ask_63 (fun v63 => [.int v63]) (fun _ => rfl) (fun v63 M63 => ?_)
    refine j_if_ne (tgt := 72) hC dX8_ask_66 (by decide) (fun h66 => ?_) (fun h66 => ?_)
    · refine j_goto (tgt := 90) hC dX8_ask_69 (by decide) ?_
      exact j_sub [0, 1, 2, 3, 4, 5, 6] rfl (wX8_ask_90 hC hG hnl fu kn49 hk49 M63 x1 x2 x3 x4 x5 x6)
    · refine j_iincL hC 4 (fun y72 => [(4, .int y72), (0, .ref (gadr (XG X) (5, 0, 0))), (1, .int x1), (2, .int x2), (3, .int x3), (5, .int x5), (6, .int x6)]) hnl dX8_ask_72 rfl (by decide) rfl (fun _ => rfl) (fun y72 => ?_)
      refine j_iload hC 5 dX8_ask_75 rfl ?_
      refine j_aload_n hC 1 dX8_ask_77 rfl ?_
      refine j_iload hC 6 dX8_ask_78 rfl ?_
      refine j_callV (nA := 1) (rest := [.int x5]) hC [.int x6] rfl (fun r hr => mX8_songsOf (XL X) (XG X) hG fu (XD X) M63 x6 r hr) q2040 q2042 qs118 q136 q2043 (dmMo hG rfl) rfl rfl (by decide +kernel) rfl rfl rfl rfl rfl rfl dX8_ask_80 (fun v80 => [.int v80, .int x5]) (fun _ => rfl) (fun v80 M80 => ?_)
      refine j_iload_n hC 4 dX8_ask_83 rfl ?_
      refine j_ishr hC dX8_ask_84 ?_
      refine j_iconst (v := 1) hC dX8_ask_85 (by decide) ?_
      refine j_iand hC dX8_ask_86 ?_
      refine j_iadd hC dX8_ask_87 ?_
      refine j_ltT (fun y88 => ?_)
      refine j_istore hC [(5, .int y88), (4, .int y72), (0, .ref (gadr (XG X) (5, 0, 0))), (1, .int x1), (2, .int x2), (3, .int x3), (6, .int x6)] hnl dX8_ask_88 rfl rfl ?_
      exact j_sub [2, 3, 4, 5, 1, 0, 6] rfl (wX8_ask_90 hC hG hnl fu kn49 hk49 M80 x1 x2 x3 y72 y88 x6)
set_option linter.unusedVariables false in
set_option maxRecDepth 100000 in
theorem wX8_ask_49 {X : JX} (hC : JC X cX8_ask RX8 (some .int) 4 81 0 0) (hG : dmI dmM (XG X)) (hnl : nLof X = 7) (fu : Nat) (kn34 : Mem × Int32 × Int32 × Int32 → Option (Int32 × Mem)) (hk34 : ∀ (M : Mem) (x1 x2 x3 : Int32), J X (ZN X foI) (kn34 (M, x1, x2, x3)) 34 [(0, .ref (gadr (XG X) (5, 0, 0))), (1, .int x1), (2, .int x2), (3, .int x3)] [] M 0 0) (M : Mem) (x1 x2 x3 x4 x5 x6 : Int32) : J X (ZN X foI) (FX8_ask_49 fu (XD X) kn34 M x1 x2 x3 x4 x5 x6) 49 [(0, .ref (gadr (XG X) (5, 0, 0))), (1, .int x1), (2, .int x2), (3, .int x3), (4, .int x4), (5, .int x5), (6, .int x6)] [] M 0 0 := by
  exact j_lp (lvf := fun z => [(0, .ref (gadr (XG X) (5, 0, 0))), (1, .int (z.2.1)), (2, .int (z.2.2.1)), (3, .int (z.2.2.2.1)), (4, .int (z.2.2.2.2.1)), (5, .int (z.2.2.2.2.2.1)), (6, .int (z.2.2.2.2.2.2))]) (Mf := fun z => z.1) (fun kn hk z => wgX8_ask_49 hC hG hnl fu kn (fun M x1 x2 x3 x4 x5 x6 => hk (M, x1, x2, x3, x4, x5, x6)) kn34 hk34 z.1 z.2.1 z.2.2.1 z.2.2.2.1 z.2.2.2.2.1 z.2.2.2.2.2.1 z.2.2.2.2.2.2) fu (M, x1, x2, x3, x4, x5, x6)
set_option linter.unusedVariables false in
set_option maxRecDepth 100000 in
theorem wgX8_ask_34 {X : JX} (hC : JC X cX8_ask RX8 (some .int) 4 81 0 0) (hG : dmI dmM (XG X)) (hnl : nLof X = 7) (fu : Nat) (kn34 : Mem × Int32 × Int32 × Int32 → Option (Int32 × Mem)) (hk34 : ∀ (M : Mem) (x1 x2 x3 : Int32), J X (ZN X foI) (kn34 (M, x1, x2, x3)) 34 [(0, .ref (gadr (XG X) (5, 0, 0))), (1, .int x1), (2, .int x2), (3, .int x3)] [] M 0 0) (M : Mem) (x1 x2 x3 : Int32) : J X (ZN X foI) (GX8_ask_34 fu (XD X) kn34 M x1 x2 x3) 34 [(0, .ref (gadr (XG X) (5, 0, 0))), (1, .int x1), (2, .int x2), (3, .int x3)] [] M 0 0 := by
  unfold GX8_ask_34
  refine j_iload_n hC 3 dX8_ask_34 rfl ?_
  refine j_bipush (v := 6) hC dX8_ask_35 (by decide) ?_
  refine j_icmp_ge (tgt := 134) hC dX8_ask_37 (by decide) (fun h37 => ?_) (fun h37 => ?_)
  · refine j_iload_n hC 1 dX8_ask_134 rfl ?_
    exact j_iret hC dX8_ask_135
  · refine j_iconst (v := 0) hC dX8_ask_40 (by decide) ?_
    refine j_istore hC [(4, .int 0), (0, .ref (gadr (XG X) (5, 0, 0))), (1, .int x1), (2, .int x2), (3, .int x3)] hnl dX8_ask_41 rfl rfl ?_
    refine j_iconst (v := 0) hC dX8_ask_43 (by decide) ?_
    refine j_istore hC [(5, .int 0), (4, .int 0), (0, .ref (gadr (XG X) (5, 0, 0))), (1, .int x1), (2, .int x2), (3, .int x3)] hnl dX8_ask_44 rfl rfl ?_
    refine j_iconst (v := 0) hC dX8_ask_46 (by decide) ?_
    refine j_istore hC [(6, .int 0), (5, .int 0), (4, .int 0), (0, .ref (gadr (XG X) (5, 0, 0))), (1, .int x1), (2, .int x2), (3, .int x3)] hnl dX8_ask_47 rfl rfl ?_
    exact j_sub [3, 4, 5, 6, 2, 1, 0] rfl (wX8_ask_49 hC hG hnl fu kn34 hk34 M x1 x2 x3 0 0 0)
set_option linter.unusedVariables false in
set_option maxRecDepth 100000 in
theorem wX8_ask_34 {X : JX} (hC : JC X cX8_ask RX8 (some .int) 4 81 0 0) (hG : dmI dmM (XG X)) (hnl : nLof X = 7) (fu : Nat) (M : Mem) (x1 x2 x3 : Int32) : J X (ZN X foI) (FX8_ask_34 fu (XD X) M x1 x2 x3) 34 [(0, .ref (gadr (XG X) (5, 0, 0))), (1, .int x1), (2, .int x2), (3, .int x3)] [] M 0 0 := by
  exact j_lp (lvf := fun z => [(0, .ref (gadr (XG X) (5, 0, 0))), (1, .int (z.2.1)), (2, .int (z.2.2.1)), (3, .int (z.2.2.2))]) (Mf := fun z => z.1) (fun kn hk z => wgX8_ask_34 hC hG hnl fu kn (fun M x1 x2 x3 => hk (M, x1, x2, x3)) z.1 z.2.1 z.2.2.1 z.2.2.2) fu (M, x1, x2, x3)
set_option linter.unusedVariables false in
set_option maxRecDepth 100000 in
theorem wX8_ask_17 {X : JX} (hC : JC X cX8_ask RX8 (some .int) 4 81 0 0) (hG : dmI dmM (XG X)) (hnl : nLof X = 7) (fu : Nat) (M : Mem) (t0 : Int32) : J X (ZN X foI) (FX8_ask_17 fu (XD X) M t0) 17 [(0, .ref (gadr (XG X) (5, 0, 0)))] [.int t0, .ref (gadr (XG X) (5, 0, 0))] M 0 0 := by
  unfold FX8_ask_17
  refine j_iconst (v := 1) hC dX8_ask_17 (by decide) ?_
  refine j_callV (nA := 2) (rest := []) hC [.int t0, .int 1] rfl (fun r hr => mX8_throwsIf (XL X) (XG X) hG fu (XD X) M t0 1 r hr) q1748 q1750 qs76 q136 q1751 (dmMo hG rfl) rfl rfl (by decide +kernel) rfl rfl rfl rfl rfl rfl dX8_ask_18 (fun v18 => [.int v18]) (fun _ => rfl) (fun v18 M18 => ?_)
  refine j_if_eq (tgt := 26) hC dX8_ask_21 (by decide) (fun h21 => ?_) (fun h21 => ?_)
  · refine j_iconst (v := (-1)) hC dX8_ask_26 (by decide) ?_
    refine j_istore_n hC [(1, .int ((-1))), (0, .ref (gadr (XG X) (5, 0, 0)))] hnl dX8_ask_27 rfl rfl ?_
    refine j_sipush (v := 999) hC dX8_ask_28 (by decide) ?_
    refine j_istore_n hC [(2, .int 999), (1, .int ((-1))), (0, .ref (gadr (XG X) (5, 0, 0)))] hnl dX8_ask_31 rfl rfl ?_
    refine j_iconst (v := 0) hC dX8_ask_32 (by decide) ?_
    refine j_istore_n hC [(3, .int 0), (2, .int 999), (1, .int ((-1))), (0, .ref (gadr (XG X) (5, 0, 0)))] hnl dX8_ask_33 rfl rfl ?_
    exact j_sub [3, 2, 1, 0] rfl (wX8_ask_34 hC hG hnl fu M18 (-1) 999 0)
  · refine j_iconst (v := 0) hC dX8_ask_24 (by decide) ?_
    exact j_iret hC dX8_ask_25
set_option linter.unusedVariables false in
set_option maxRecDepth 100000 in
theorem wX8_ask {X : JX} (hC : JC X cX8_ask RX8 (some .int) 4 81 0 0) (hG : dmI dmM (XG X)) (hnl : nLof X = 7) (fu : Nat) (M : Mem) : J X (ZN X foI) (FX8_ask fu (XD X) M) 0 [(0, .ref (gadr (XG X) (5, 0, 0)))] [] M 0 0 := by
  unfold FX8_ask
  refine j_aload_n hC 0 dX8_ask_0 rfl ?_
  refine j_callV (nA := 0) (rest := []) hC [] rfl (fun r hr => mX8_uses (XL X) (XG X) hG fu (XD X) M r hr) q1587 q1589 qs46 q136 q1590 (dmMo hG rfl) rfl rfl (by decide +kernel) rfl rfl rfl rfl rfl rfl dX8_ask_1 (fun _ => []) (fun _ => rfl) (fun v1 M1 => ?_)
  refine j_aload_n hC 0 dX8_ask_4 rfl ?_
  refine j_aload_n hC 0 dX8_ask_5 rfl ?_
  refine j_callV (nA := 0) (rest := [.ref (gadr (XG X) (5, 0, 0))]) hC [] rfl (fun r hr => mX8_isTold (XL X) (XG X) hG fu (XD X) M1 r hr) q2032 q2034 qs116 q136 q2035 (dmMo hG rfl) rfl rfl (by decide +kernel) rfl rfl rfl rfl rfl rfl dX8_ask_6 (fun v6 => [.int v6, .ref (gadr (XG X) (5, 0, 0))]) (fun _ => rfl) (fun v6 M6 => ?_)
  refine j_if_ne (tgt := 16) hC dX8_ask_9 (by decide) (fun h9 => ?_) (fun h9 => ?_)
  · refine j_iconst (v := 1) hC dX8_ask_12 (by decide) ?_
    refine j_goto (tgt := 17) hC dX8_ask_13 (by decide) ?_
    exact j_sub [0] rfl (wX8_ask_17 hC hG hnl fu M6 1)
  · refine j_iconst (v := 0) hC dX8_ask_16 (by decide) ?_
    exact j_sub [0] rfl (wX8_ask_17 hC hG hnl fu M6 0)
set_option linter.unusedVariables false in
set_option maxRecDepth 100000 in
theorem mX8_ask (l : Launch) (Γ : xG) (hG : dmI dmM Γ) (fu : Nat) (D : List LDen) (M : Mem) (r : Int32 × Mem) (hr : FX8_ask fu D M = some r) : CN l yX8_ask (ws_ yX8_ask cX8_ask 7 (some .int)) 4 81 Γ D [.ref (gadr Γ (5, 0, 0))] M (foI r.1) r.2 := by
  refine CN.of (own := RX8) (lv0 := lv_args 0 [.ref (gadr Γ (5, 0, 0))]) (by decide +kernel) rfl (Nat.le_of_ble_eq_true rfl) rfl (fun X e1 e2 e3 e4 hC => ?_) r hr
  subst e1
  subst e2
  exact wX8_ask hC hG e4 fu M
set_option linter.unusedVariables false in
set_option maxRecDepth 100000 in
theorem wX8_lasts_57 {X : JX} (hC : JC X cX8_lasts RX8 (some .int) 3 55 0 0) (hG : dmI dmM (XG X)) (hnl : nLof X = 6) (fu : Nat) (M : Mem) : J X (ZN X foI) (FX8_lasts_57 fu (XD X) M) 57 [] [] M 0 0 := by
  unfold FX8_lasts_57
  refine j_iconst (v := 0) hC dX8_lasts_57 (by decide) ?_
  exact j_iret hC dX8_lasts_58
set_option linter.unusedVariables false in
set_option maxRecDepth 100000 in
theorem wX8_lasts_105 {X : JX} (hC : JC X cX8_lasts RX8 (some .int) 3 55 0 0) (hG : dmI dmM (XG X)) (hnl : nLof X = 6) (fu : Nat) (M : Mem) (t0 : Int32) : J X (ZN X foI) (FX8_lasts_105 fu (XD X) M t0) 105 [] [.int t0] M 0 0 := by
  unfold FX8_lasts_105
  exact j_iret hC dX8_lasts_105
set_option linter.unusedVariables false in
set_option maxRecDepth 100000 in
theorem wX8_lasts_50 {X : JX} (hC : JC X cX8_lasts RX8 (some .int) 3 55 0 0) (hG : dmI dmM (XG X)) (hnl : nLof X = 6) (fu : Nat) (M : Mem) (x1 x2 x3 t0 : Int32) : J X (ZN X foI) (FX8_lasts_50 fu (XD X) M x1 x2 x3 t0) 50 [(0, .ref (gadr (XG X) (5, 0, 0))), (1, .int x1), (2, .int x2), (3, .int x3)] [.int t0, .ref (gadr (XG X) (5, 0, 0))] M 0 0 := by
  unfold FX8_lasts_50
  refine j_iconst (v := 2) hC dX8_lasts_50 (by decide) ?_
  refine j_callV (nA := 2) (rest := []) hC [.int t0, .int 2] rfl (fun r hr => mX8_throwsIf (XL X) (XG X) hG fu (XD X) M t0 2 r hr) q1748 q1750 qs76 q136 q1751 (dmMo hG rfl) rfl rfl (by decide +kernel) rfl rfl rfl rfl rfl rfl dX8_lasts_51 (fun v51 => [.int v51]) (fun _ => rfl) (fun v51 M51 => ?_)
  refine j_if_eq (tgt := 59) hC dX8_lasts_54 (by decide) (fun h54 => ?_) (fun h54 => ?_)
  · refine j_iload_n hC 3 dX8_lasts_59 rfl ?_
    refine j_aload_n hC 0 dX8_lasts_60 rfl ?_
    refine j_iload_n hC 1 dX8_lasts_61 rfl ?_
    refine j_iload_n hC 2 dX8_lasts_62 rfl ?_
    refine j_callV (nA := 2) (rest := [.int x3]) hC [.int x1, .int x2] rfl (fun r hr => mX8_stockOf (XL X) (XG X) hG fu (XD X) M51 x1 x2 r hr) q1922 q1924 qs102 q136 q1925 (dmMo hG rfl) rfl rfl (by decide +kernel) rfl rfl rfl rfl rfl rfl dX8_lasts_63 (fun v63 => [.int v63, .int x3]) (fun _ => rfl) (fun v63 M63 => ?_)
    refine j_isub hC dX8_lasts_66 ?_
    refine j_ltT (fun y67 => ?_)
    refine j_istore hC [(4, .int y67), (0, .ref (gadr (XG X) (5, 0, 0))), (1, .int x1), (2, .int x2), (3, .int x3)] hnl dX8_lasts_67 rfl rfl ?_
    refine j_aload_n hC 1 dX8_lasts_69 rfl ?_
    refine j_iload_n hC 3 dX8_lasts_70 rfl ?_
    refine j_iconst (v := 3) hC dX8_lasts_71 (by decide) ?_
    refine j_callV (nA := 2) (rest := []) hC [.int x2, .int 3] rfl (fun r hr => mX8_ofBird (XL X) (XG X) hG fu (XD X) M63 x2 3 r hr) q1778 q1780 qs80 q136 q1781 (dmMo hG rfl) rfl rfl (by decide +kernel) rfl rfl rfl rfl rfl rfl dX8_lasts_72 (fun v72 => [.int v72]) (fun _ => rfl) (fun v72 M72 => ?_)
    refine j_istore hC [(5, .int v72), (4, .int y67), (0, .ref (gadr (XG X) (5, 0, 0))), (1, .int x1), (2, .int x2), (3, .int x3)] hnl dX8_lasts_75 rfl rfl ?_
    refine j_iload hC 1 dX8_lasts_77 rfl ?_
    refine j_if_gt (tgt := 86) hC dX8_lasts_79 (by decide) (fun h79 => ?_) (fun h79 => ?_)
    · refine j_iload hC 0 dX8_lasts_86 rfl ?_
      refine j_if_ne (tgt := 95) hC dX8_lasts_88 (by decide) (fun h88 => ?_) (fun h88 => ?_)
      · refine j_iconst (v := (-1)) hC dX8_lasts_91 (by decide) ?_
        refine j_goto (tgt := 105) hC dX8_lasts_92 (by decide) ?_
        exact j_sub [] rfl (wX8_lasts_105 hC hG hnl fu M72 (-1))
      · refine j_iload hC 1 dX8_lasts_95 rfl ?_
        refine j_iload hC 0 dX8_lasts_97 rfl ?_
        refine j_iadd hC dX8_lasts_99 ?_
        refine j_iconst (v := 1) hC dX8_lasts_100 (by decide) ?_
        refine j_isub hC dX8_lasts_101 ?_
        refine j_iload hC 0 dX8_lasts_102 rfl ?_
        refine j_idiv hC dX8_lasts_104 ?_
        exact j_sub [] rfl (wX8_lasts_105 hC hG hnl fu M72 (((y67 + v72) - 1) / v72))
    · refine j_iconst (v := 0) hC dX8_lasts_82 (by decide) ?_
      refine j_goto (tgt := 105) hC dX8_lasts_83 (by decide) ?_
      exact j_sub [] rfl (wX8_lasts_105 hC hG hnl fu M72 0)
  · exact j_sub [] rfl (wX8_lasts_57 hC hG hnl fu M51)
set_option linter.unusedVariables false in
set_option maxRecDepth 100000 in
theorem wX8_lasts_27 {X : JX} (hC : JC X cX8_lasts RX8 (some .int) 3 55 0 0) (hG : dmI dmM (XG X)) (hnl : nLof X = 6) (fu : Nat) (M : Mem) (x1 x2 x3 t0 : Int32) : J X (ZN X foI) (FX8_lasts_27 fu (XD X) M x1 x2 x3 t0) 27 [(0, .ref (gadr (XG X) (5, 0, 0))), (1, .int x1), (2, .int x2), (3, .int x3)] [.int t0, .ref (gadr (XG X) (5, 0, 0))] M 0 0 := by
  unfold FX8_lasts_27
  refine j_iconst (v := 1) hC dX8_lasts_27 (by decide) ?_
  refine j_callV (nA := 2) (rest := []) hC [.int t0, .int 1] rfl (fun r hr => mX8_throwsIf (XL X) (XG X) hG fu (XD X) M t0 1 r hr) q1748 q1750 qs76 q136 q1751 (dmMo hG rfl) rfl rfl (by decide +kernel) rfl rfl rfl rfl rfl rfl dX8_lasts_28 (fun v28 => [.int v28]) (fun _ => rfl) (fun v28 M28 => ?_)
  refine j_if_ne (tgt := 57) hC dX8_lasts_31 (by decide) (fun h31 => ?_) (fun h31 => ?_)
  · refine j_aload_n hC 0 dX8_lasts_34 rfl ?_
    refine j_iload_n hC 3 dX8_lasts_35 rfl ?_
    refine j_iconst (v := 1) hC dX8_lasts_36 (by decide) ?_
    refine j_bipush (v := 99) hC dX8_lasts_37 (by decide) ?_
    refine j_callS (nA := 3) (rest := [.ref (gadr (XG X) (5, 0, 0))]) hC [.int x3, .int 1, .int 99] rfl (fun r hr => mX8_in (XL X) (XG X) hG fu (XD X) M28 x3 1 99 r hr) q1641 q1642 q136 q1643 (by decide +kernel) rfl rfl rfl rfl rfl rfl dX8_lasts_39 (fun v39 => [.int v39, .ref (gadr (XG X) (5, 0, 0))]) (fun _ => rfl) (fun v39 M39 => ?_)
    refine j_if_ne (tgt := 49) hC dX8_lasts_42 (by decide) (fun h42 => ?_) (fun h42 => ?_)
    · refine j_iconst (v := 1) hC dX8_lasts_45 (by decide) ?_
      refine j_goto (tgt := 50) hC dX8_lasts_46 (by decide) ?_
      exact j_sub [0, 1, 2, 3] rfl (wX8_lasts_50 hC hG hnl fu M39 x1 x2 x3 1)
    · refine j_iconst (v := 0) hC dX8_lasts_49 (by decide) ?_
      exact j_sub [0, 1, 2, 3] rfl (wX8_lasts_50 hC hG hnl fu M39 x1 x2 x3 0)
  · exact j_sub [] rfl (wX8_lasts_57 hC hG hnl fu M28)
set_option linter.unusedVariables false in
set_option maxRecDepth 100000 in
theorem wX8_lasts_22 {X : JX} (hC : JC X cX8_lasts RX8 (some .int) 3 55 0 0) (hG : dmI dmM (XG X)) (hnl : nLof X = 6) (fu : Nat) (M : Mem) (x1 x2 x3 : Int32) : J X (ZN X foI) (FX8_lasts_22 fu (XD X) M x1 x2 x3) 22 [(0, .ref (gadr (XG X) (5, 0, 0))), (1, .int x1), (2, .int x2), (3, .int x3)] [.ref (gadr (XG X) (5, 0, 0))] M 0 0 := by
  unfold FX8_lasts_22
  refine j_iconst (v := 1) hC dX8_lasts_22 (by decide) ?_
  refine j_goto (tgt := 27) hC dX8_lasts_23 (by decide) ?_
  exact j_sub [0, 1, 2, 3] rfl (wX8_lasts_27 hC hG hnl fu M x1 x2 x3 1)
set_option linter.unusedVariables false in
set_option maxRecDepth 100000 in
theorem wX8_lasts {X : JX} (hC : JC X cX8_lasts RX8 (some .int) 3 55 0 0) (hG : dmI dmM (XG X)) (hnl : nLof X = 6) (fu : Nat) (M : Mem) (x1 x2 x3 : Int32) : J X (ZN X foI) (FX8_lasts fu (XD X) M x1 x2 x3) 0 [(0, .ref (gadr (XG X) (5, 0, 0))), (1, .int x1), (2, .int x2), (3, .int x3)] [] M 0 0 := by
  unfold FX8_lasts
  refine j_aload_n hC 0 dX8_lasts_0 rfl ?_
  refine j_iconst (v := 0) hC dX8_lasts_1 (by decide) ?_
  refine j_put (fk := 0) (ty := .int) hC (dmMo hG rfl) rfl rfl in_X8 rfl rfl q1464 tyX8 tyX8_ok nmX8 rfl rfl (by decide +kernel) rfl rfl dX8_lasts_2 ?_
  refine j_lt (fun M2 => ?_)
  refine j_aload_n hC 0 dX8_lasts_5 rfl ?_
  refine j_aload_n hC 0 dX8_lasts_6 rfl ?_
  refine j_iload_n hC 1 dX8_lasts_7 rfl ?_
  refine j_callV (nA := 1) (rest := [.ref (gadr (XG X) (5, 0, 0))]) hC [.int x1] rfl (fun r hr => mX8_noCounsel (XL X) (XG X) hG fu (XD X) M2 x1 r hr) q1918 q1920 qs101 q136 q1921 (dmMo hG rfl) rfl rfl (by decide +kernel) rfl rfl rfl rfl rfl rfl dX8_lasts_8 (fun v8 => [.int v8, .ref (gadr (XG X) (5, 0, 0))]) (fun _ => rfl) (fun v8 M8 => ?_)
  refine j_if_ne (tgt := 22) hC dX8_lasts_11 (by decide) (fun h11 => ?_) (fun h11 => ?_)
  · refine j_aload_n hC 0 dX8_lasts_14 rfl ?_
    refine j_iload_n hC 2 dX8_lasts_15 rfl ?_
    refine j_callV (nA := 1) (rest := [.ref (gadr (XG X) (5, 0, 0))]) hC [.int x2] rfl (fun r hr => mX8_noBird (XL X) (XG X) hG fu (XD X) M8 x2 r hr) q1760 q1762 qs77 q136 q1763 (dmMo hG rfl) rfl rfl (by decide +kernel) rfl rfl rfl rfl rfl rfl dX8_lasts_16 (fun v16 => [.int v16, .ref (gadr (XG X) (5, 0, 0))]) (fun _ => rfl) (fun v16 M16 => ?_)
    refine j_if_eq (tgt := 26) hC dX8_lasts_19 (by decide) (fun h19 => ?_) (fun h19 => ?_)
    · refine j_iconst (v := 0) hC dX8_lasts_26 (by decide) ?_
      exact j_sub [0, 1, 2, 3] rfl (wX8_lasts_27 hC hG hnl fu M16 x1 x2 x3 0)
    · exact j_sub [0, 1, 2, 3] rfl (wX8_lasts_22 hC hG hnl fu M16 x1 x2 x3)
  · exact j_sub [0, 1, 2, 3] rfl (wX8_lasts_22 hC hG hnl fu M8 x1 x2 x3)
set_option linter.unusedVariables false in
set_option maxRecDepth 100000 in
theorem mX8_lasts (l : Launch) (Γ : xG) (hG : dmI dmM Γ) (fu : Nat) (D : List LDen) (M : Mem) (x1 x2 x3 : Int32) (r : Int32 × Mem) (hr : FX8_lasts fu D M x1 x2 x3 = some r) : CN l yX8_lasts (ws_ yX8_lasts cX8_lasts 6 (some .int)) 3 55 Γ D [.ref (gadr Γ (5, 0, 0)), .int x1, .int x2, .int x3] M (foI r.1) r.2 := by
  refine CN.of (own := RX8) (lv0 := lv_args 0 [.ref (gadr Γ (5, 0, 0)), .int x1, .int x2, .int x3]) (by decide +kernel) rfl (Nat.le_of_ble_eq_true rfl) rfl (fun X e1 e2 e3 e4 hC => ?_) r hr
  subst e1
  subst e2
  exact wX8_lasts hC hG e4 fu M x1 x2 x3
set_option linter.unusedVariables false in
set_option maxRecDepth 100000 in
theorem wgX8_allOf_4 {X : JX} (hC : JC X cX8_allOf RX8 (some .int) 3 55 0 0) (hG : dmI dmM (XG X)) (hnl : nLof X = 4) (fu : Nat) (kn4 : Mem × Int32 × Int32 × Int32 → Option (Int32 × Mem)) (hk4 : ∀ (M : Mem) (x1 x2 x3 : Int32), J X (ZN X foI) (kn4 (M, x1, x2, x3)) 4 [(0, .ref (gadr (XG X) (5, 0, 0))), (1, .int x1), (2, .int x2), (3, .int x3)] [] M 0 0) (M : Mem) (x1 x2 x3 : Int32) : J X (ZN X foI) (GX8_allOf_4 fu (XD X) kn4 M x1 x2 x3) 4 [(0, .ref (gadr (XG X) (5, 0, 0))), (1, .int x1), (2, .int x2), (3, .int x3)] [] M 0 0 := by
  unfold GX8_allOf_4
  refine j_iload_n hC 3 dX8_allOf_4 rfl ?_
  refine j_aload_n hC 0 dX8_allOf_5 rfl ?_
  refine j_callV (nA := 0) (rest := [.int x3]) hC [] rfl (fun r hr => mX8_birds (XL X) (XG X) hG fu (XD X) M r hr) q1622 q1624 qs54 q136 q1625 (dmMo hG rfl) rfl rfl (by decide +kernel) rfl rfl rfl rfl rfl rfl dX8_allOf_6 (fun v6 => [.int v6, .int x3]) (fun _ => rfl) (fun v6 M6 => ?_)
  refine j_icmp_ge (tgt := 27) hC dX8_allOf_9 (by decide) (fun h9 => ?_) (fun h9 => ?_)
  · refine j_iload_n hC 2 dX8_allOf_27 rfl ?_
    exact j_iret hC dX8_allOf_28
  · refine j_iload_n hC 2 dX8_allOf_12 rfl ?_
    refine j_aload_n hC 0 dX8_allOf_13 rfl ?_
    refine j_iload_n hC 1 dX8_allOf_14 rfl ?_
    refine j_iload_n hC 3 dX8_allOf_15 rfl ?_
    refine j_callV (nA := 2) (rest := [.int x2]) hC [.int x1, .int x3] rfl (fun r hr => mX8_stockOf (XL X) (XG X) hG fu (XD X) M6 x1 x3 r hr) q1922 q1924 qs102 q136 q1925 (dmMo hG rfl) rfl rfl (by decide +kernel) rfl rfl rfl rfl rfl rfl dX8_allOf_16 (fun v16 => [.int v16, .int x2]) (fun _ => rfl) (fun v16 M16 => ?_)
    refine j_iadd hC dX8_allOf_19 ?_
    refine j_ltT (fun y20 => ?_)
    refine j_istore_n hC [(2, .int y20), (0, .ref (gadr (XG X) (5, 0, 0))), (1, .int x1), (3, .int x3)] hnl dX8_allOf_20 rfl rfl ?_
    refine j_iincL hC 3 (fun y21 => [(3, .int y21), (2, .int y20), (0, .ref (gadr (XG X) (5, 0, 0))), (1, .int x1)]) hnl dX8_allOf_21 rfl (by decide) rfl (fun _ => rfl) (fun y21 => ?_)
    refine j_goto (tgt := 4) hC dX8_allOf_24 (by decide) ?_
    exact j_sub [2, 3, 1, 0] rfl (hk4 M16 x1 y20 y21)
set_option linter.unusedVariables false in
set_option maxRecDepth 100000 in
theorem wX8_allOf_4 {X : JX} (hC : JC X cX8_allOf RX8 (some .int) 3 55 0 0) (hG : dmI dmM (XG X)) (hnl : nLof X = 4) (fu : Nat) (M : Mem) (x1 x2 x3 : Int32) : J X (ZN X foI) (FX8_allOf_4 fu (XD X) M x1 x2 x3) 4 [(0, .ref (gadr (XG X) (5, 0, 0))), (1, .int x1), (2, .int x2), (3, .int x3)] [] M 0 0 := by
  exact j_lp (lvf := fun z => [(0, .ref (gadr (XG X) (5, 0, 0))), (1, .int (z.2.1)), (2, .int (z.2.2.1)), (3, .int (z.2.2.2))]) (Mf := fun z => z.1) (fun kn hk z => wgX8_allOf_4 hC hG hnl fu kn (fun M x1 x2 x3 => hk (M, x1, x2, x3)) z.1 z.2.1 z.2.2.1 z.2.2.2) fu (M, x1, x2, x3)
set_option linter.unusedVariables false in
set_option maxRecDepth 100000 in
theorem wX8_allOf {X : JX} (hC : JC X cX8_allOf RX8 (some .int) 3 55 0 0) (hG : dmI dmM (XG X)) (hnl : nLof X = 4) (fu : Nat) (M : Mem) (x1 : Int32) : J X (ZN X foI) (FX8_allOf fu (XD X) M x1) 0 [(0, .ref (gadr (XG X) (5, 0, 0))), (1, .int x1)] [] M 0 0 := by
  unfold FX8_allOf
  refine j_iconst (v := 0) hC dX8_allOf_0 (by decide) ?_
  refine j_istore_n hC [(2, .int 0), (0, .ref (gadr (XG X) (5, 0, 0))), (1, .int x1)] hnl dX8_allOf_1 rfl rfl ?_
  refine j_iconst (v := 0) hC dX8_allOf_2 (by decide) ?_
  refine j_istore_n hC [(3, .int 0), (2, .int 0), (0, .ref (gadr (XG X) (5, 0, 0))), (1, .int x1)] hnl dX8_allOf_3 rfl rfl ?_
  exact j_sub [2, 3, 1, 0] rfl (wX8_allOf_4 hC hG hnl fu M x1 0 0)
set_option linter.unusedVariables false in
set_option maxRecDepth 100000 in
theorem mX8_allOf (l : Launch) (Γ : xG) (hG : dmI dmM Γ) (fu : Nat) (D : List LDen) (M : Mem) (x1 : Int32) (r : Int32 × Mem) (hr : FX8_allOf fu D M x1 = some r) : CN l yX8_allOf (ws_ yX8_allOf cX8_allOf 4 (some .int)) 3 55 Γ D [.ref (gadr Γ (5, 0, 0)), .int x1] M (foI r.1) r.2 := by
  refine CN.of (own := RX8) (lv0 := lv_args 0 [.ref (gadr Γ (5, 0, 0)), .int x1]) (by decide +kernel) rfl (Nat.le_of_ble_eq_true rfl) rfl (fun X e1 e2 e3 e4 hC => ?_) r hr
  subst e1
  subst e2
  exact wX8_allOf hC hG e4 fu M x1
set_option linter.unusedVariables false in
set_option maxRecDepth 100000 in
theorem wX8_rich_36 {X : JX} (hC : JC X cX8_rich RX8 (some .int) 4 78 0 0) (hG : dmI dmM (XG X)) (hnl : nLof X = 3) (fu : Nat) (kn9 : Mem × Int32 × Int32 → Option (Int32 × Mem)) (hk9 : ∀ (M : Mem) (x1 x2 : Int32), J X (ZN X foI) (kn9 (M, x1, x2)) 9 [(0, .ref (gadr (XG X) (5, 0, 0))), (1, .int x1), (2, .int x2)] [] M 0 0) (M : Mem) (x1 x2 : Int32) : J X (ZN X foI) (FX8_rich_36 fu (XD X) kn9 M x1 x2) 36 [(0, .ref (gadr (XG X) (5, 0, 0))), (1, .int x1), (2, .int x2)] [] M 0 0 := by
  unfold FX8_rich_36
  refine j_iincL hC 2 (fun y36 => [(2, .int y36), (0, .ref (gadr (XG X) (5, 0, 0))), (1, .int x1)]) hnl dX8_rich_36 rfl (by decide) rfl (fun _ => rfl) (fun y36 => ?_)
  refine j_goto (tgt := 9) hC dX8_rich_39 (by decide) ?_
  exact j_sub [1, 2, 0] rfl (hk9 M x1 y36)
set_option linter.unusedVariables false in
set_option maxRecDepth 100000 in
theorem wX8_rich_34 {X : JX} (hC : JC X cX8_rich RX8 (some .int) 4 78 0 0) (hG : dmI dmM (XG X)) (hnl : nLof X = 3) (fu : Nat) (kn9 : Mem × Int32 × Int32 → Option (Int32 × Mem)) (hk9 : ∀ (M : Mem) (x1 x2 : Int32), J X (ZN X foI) (kn9 (M, x1, x2)) 9 [(0, .ref (gadr (XG X) (5, 0, 0))), (1, .int x1), (2, .int x2)] [] M 0 0) (M : Mem) (x2 : Int32) : J X (ZN X foI) (FX8_rich_34 fu (XD X) kn9 M x2) 34 [(0, .ref (gadr (XG X) (5, 0, 0))), (2, .int x2)] [] M 0 0 := by
  unfold FX8_rich_34
  refine j_iload_n hC 1 dX8_rich_34 rfl ?_
  refine j_istore_n hC [(1, .int x2), (0, .ref (gadr (XG X) (5, 0, 0))), (2, .int x2)] hnl dX8_rich_35 rfl rfl ?_
  exact j_sub [1, 0, 2] rfl (wX8_rich_36 hC hG hnl fu kn9 hk9 M x2 x2)
set_option linter.unusedVariables false in
set_option maxRecDepth 100000 in
theorem wgX8_rich_9 {X : JX} (hC : JC X cX8_rich RX8 (some .int) 4 78 0 0) (hG : dmI dmM (XG X)) (hnl : nLof X = 3) (fu : Nat) (kn9 : Mem × Int32 × Int32 → Option (Int32 × Mem)) (hk9 : ∀ (M : Mem) (x1 x2 : Int32), J X (ZN X foI) (kn9 (M, x1, x2)) 9 [(0, .ref (gadr (XG X) (5, 0, 0))), (1, .int x1), (2, .int x2)] [] M 0 0) (M : Mem) (x1 x2 : Int32) : J X (ZN X foI) (GX8_rich_9 fu (XD X) kn9 M x1 x2) 9 [(0, .ref (gadr (XG X) (5, 0, 0))), (1, .int x1), (2, .int x2)] [] M 0 0 := by
  unfold GX8_rich_9
  refine j_iload_n hC 2 dX8_rich_9 rfl ?_
  refine j_aload_n hC 0 dX8_rich_10 rfl ?_
  refine j_callV (nA := 0) (rest := [.int x2]) hC [] rfl (fun r hr => mX8_counsel (XL X) (XG X) hG fu (XD X) M r hr) q1656 q1658 qs59 q136 q1659 (dmMo hG rfl) rfl rfl (by decide +kernel) rfl rfl rfl rfl rfl rfl dX8_rich_11 (fun v11 => [.int v11, .int x2]) (fun _ => rfl) (fun v11 M11 => ?_)
  refine j_icmp_ge (tgt := 42) hC dX8_rich_14 (by decide) (fun h14 => ?_) (fun h14 => ?_)
  · refine j_iload_n hC 1 dX8_rich_42 rfl ?_
    exact j_iret hC dX8_rich_43
  · refine j_iload_n hC 1 dX8_rich_17 rfl ?_
    refine j_if_lt (tgt := 34) hC dX8_rich_18 (by decide) (fun h18 => ?_) (fun h18 => ?_)
    · exact j_sub [0, 2] rfl (wX8_rich_34 hC hG hnl fu kn9 hk9 M11 x2)
    · refine j_aload_n hC 0 dX8_rich_21 rfl ?_
      refine j_iload_n hC 2 dX8_rich_22 rfl ?_
      refine j_callV (nA := 1) (rest := []) hC [.int x2] rfl (fun r hr => mX8_allOf (XL X) (XG X) hG fu (XD X) M11 x2 r hr) q2056 q2058 qs119 q136 q2059 (dmMo hG rfl) rfl rfl (by decide +kernel) rfl rfl rfl rfl rfl rfl dX8_rich_23 (fun v23 => [.int v23]) (fun _ => rfl) (fun v23 M23 => ?_)
      refine j_aload_n hC 0 dX8_rich_26 rfl ?_
      refine j_iload_n hC 1 dX8_rich_27 rfl ?_
      refine j_callV (nA := 1) (rest := [.int v23]) hC [.int x1] rfl (fun r hr => mX8_allOf (XL X) (XG X) hG fu (XD X) M23 x1 r hr) q2056 q2058 qs119 q136 q2059 (dmMo hG rfl) rfl rfl (by decide +kernel) rfl rfl rfl rfl rfl rfl dX8_rich_28 (fun v28 => [.int v28, .int v23]) (fun _ => rfl) (fun v28 M28 => ?_)
      refine j_icmp_le (tgt := 36) hC dX8_rich_31 (by decide) (fun h31 => ?_) (fun h31 => ?_)
      · exact j_sub [0, 1, 2] rfl (wX8_rich_36 hC hG hnl fu kn9 hk9 M28 x1 x2)
      · exact j_sub [0, 2] rfl (wX8_rich_34 hC hG hnl fu kn9 hk9 M28 x2)
set_option linter.unusedVariables false in
set_option maxRecDepth 100000 in
theorem wX8_rich_9 {X : JX} (hC : JC X cX8_rich RX8 (some .int) 4 78 0 0) (hG : dmI dmM (XG X)) (hnl : nLof X = 3) (fu : Nat) (M : Mem) (x1 x2 : Int32) : J X (ZN X foI) (FX8_rich_9 fu (XD X) M x1 x2) 9 [(0, .ref (gadr (XG X) (5, 0, 0))), (1, .int x1), (2, .int x2)] [] M 0 0 := by
  exact j_lp (lvf := fun z => [(0, .ref (gadr (XG X) (5, 0, 0))), (1, .int (z.2.1)), (2, .int (z.2.2))]) (Mf := fun z => z.1) (fun kn hk z => wgX8_rich_9 hC hG hnl fu kn (fun M x1 x2 => hk (M, x1, x2)) z.1 z.2.1 z.2.2) fu (M, x1, x2)
set_option linter.unusedVariables false in
set_option maxRecDepth 100000 in
theorem wX8_rich {X : JX} (hC : JC X cX8_rich RX8 (some .int) 4 78 0 0) (hG : dmI dmM (XG X)) (hnl : nLof X = 3) (fu : Nat) (M : Mem) : J X (ZN X foI) (FX8_rich fu (XD X) M) 0 [(0, .ref (gadr (XG X) (5, 0, 0)))] [] M 0 0 := by
  unfold FX8_rich
  refine j_aload_n hC 0 dX8_rich_0 rfl ?_
  refine j_iconst (v := 0) hC dX8_rich_1 (by decide) ?_
  refine j_put (fk := 0) (ty := .int) hC (dmMo hG rfl) rfl rfl in_X8 rfl rfl q1464 tyX8 tyX8_ok nmX8 rfl rfl (by decide +kernel) rfl rfl dX8_rich_2 ?_
  refine j_lt (fun M2 => ?_)
  refine j_iconst (v := (-1)) hC dX8_rich_5 (by decide) ?_
  refine j_istore_n hC [(1, .int ((-1))), (0, .ref (gadr (XG X) (5, 0, 0)))] hnl dX8_rich_6 rfl rfl ?_
  refine j_iconst (v := 0) hC dX8_rich_7 (by decide) ?_
  refine j_istore_n hC [(2, .int 0), (1, .int ((-1))), (0, .ref (gadr (XG X) (5, 0, 0)))] hnl dX8_rich_8 rfl rfl ?_
  exact j_sub [2, 1, 0] rfl (wX8_rich_9 hC hG hnl fu M2 (-1) 0)
set_option linter.unusedVariables false in
set_option maxRecDepth 100000 in
theorem mX8_rich (l : Launch) (Γ : xG) (hG : dmI dmM Γ) (fu : Nat) (D : List LDen) (M : Mem) (r : Int32 × Mem) (hr : FX8_rich fu D M = some r) : CN l yX8_rich (ws_ yX8_rich cX8_rich 3 (some .int)) 4 78 Γ D [.ref (gadr Γ (5, 0, 0))] M (foI r.1) r.2 := by
  refine CN.of (own := RX8) (lv0 := lv_args 0 [.ref (gadr Γ (5, 0, 0))]) (by decide +kernel) rfl (Nat.le_of_ble_eq_true rfl) rfl (fun X e1 e2 e3 e4 hC => ?_) r hr
  subst e1
  subst e2
  exact wX8_rich hC hG e4 fu M
set_option linter.unusedVariables false in
set_option maxRecDepth 100000 in
theorem wX8_won_109 {X : JX} (hC : JC X cX8_won RX8 (some .int) 3 55 0 0) (hG : dmI dmM (XG X)) (hnl : nLof X = 6) (fu : Nat) (kn25 : Mem × Int32 × Int32 × Int32 × Int32 → Option (Int32 × Mem)) (hk25 : ∀ (M : Mem) (x1 x2 x3 x4 : Int32), J X (ZN X foI) (kn25 (M, x1, x2, x3, x4)) 25 [(0, .ref (gadr (XG X) (5, 0, 0))), (1, .int x1), (2, .int x2), (3, .int x3), (4, .int x4)] [] M 0 0) (M : Mem) (x1 x2 x3 x4 : Int32) : J X (ZN X foI) (FX8_won_109 fu (XD X) kn25 M x1 x2 x3 x4) 109 [(0, .ref (gadr (XG X) (5, 0, 0))), (1, .int x1), (2, .int x2), (3, .int x3), (4, .int x4)] [] M 0 0 := by
  unfold FX8_won_109
  refine j_iincL hC 4 (fun y109 => [(4, .int y109), (0, .ref (gadr (XG X) (5, 0, 0))), (1, .int x1), (2, .int x2), (3, .int x3)]) hnl dX8_won_109 rfl (by decide) rfl (fun _ => rfl) (fun y109 => ?_)
  refine j_goto (tgt := 25) hC dX8_won_112 (by decide) ?_
  exact j_sub [1, 2, 3, 4, 0] rfl (hk25 M x1 x2 x3 y109)
set_option linter.unusedVariables false in
set_option maxRecDepth 100000 in
theorem wX8_won_107 {X : JX} (hC : JC X cX8_won RX8 (some .int) 3 55 0 0) (hG : dmI dmM (XG X)) (hnl : nLof X = 6) (fu : Nat) (kn25 : Mem × Int32 × Int32 × Int32 × Int32 → Option (Int32 × Mem)) (hk25 : ∀ (M : Mem) (x1 x2 x3 x4 : Int32), J X (ZN X foI) (kn25 (M, x1, x2, x3, x4)) 25 [(0, .ref (gadr (XG X) (5, 0, 0))), (1, .int x1), (2, .int x2), (3, .int x3), (4, .int x4)] [] M 0 0) (M : Mem) (x1 x2 x4 t0 t1 : Int32) : J X (ZN X foI) (FX8_won_107 fu (XD X) kn25 M x1 x2 x4 t0 t1) 107 [(0, .ref (gadr (XG X) (5, 0, 0))), (1, .int x1), (2, .int x2), (4, .int x4)] [.int t0, .int t1] M 0 0 := by
  unfold FX8_won_107
  refine j_iadd hC dX8_won_107 ?_
  refine j_ltT (fun y108 => ?_)
  refine j_istore_n hC [(3, .int y108), (0, .ref (gadr (XG X) (5, 0, 0))), (1, .int x1), (2, .int x2), (4, .int x4)] hnl dX8_won_108 rfl rfl ?_
  exact j_sub [1, 2, 3, 0, 4] rfl (wX8_won_109 hC hG hnl fu kn25 hk25 M x1 x2 y108 x4)
set_option linter.unusedVariables false in
set_option maxRecDepth 100000 in
theorem wX8_won_99 {X : JX} (hC : JC X cX8_won RX8 (some .int) 3 55 0 0) (hG : dmI dmM (XG X)) (hnl : nLof X = 6) (fu : Nat) (kn25 : Mem × Int32 × Int32 × Int32 × Int32 → Option (Int32 × Mem)) (hk25 : ∀ (M : Mem) (x1 x2 x3 x4 : Int32), J X (ZN X foI) (kn25 (M, x1, x2, x3, x4)) 25 [(0, .ref (gadr (XG X) (5, 0, 0))), (1, .int x1), (2, .int x2), (3, .int x3), (4, .int x4)] [] M 0 0) (M : Mem) (x1 x2 x4 t0 t1 t2 : Int32) : J X (ZN X foI) (FX8_won_99 fu (XD X) kn25 M x1 x2 x4 t0 t1 t2) 99 [(0, .ref (gadr (XG X) (5, 0, 0))), (1, .int x1), (2, .int x2), (4, .int x4)] [.int t0, .int t1, .int t2] M 0 0 := by
  unfold FX8_won_99
  refine j_icmp_ne (tgt := 106) hC dX8_won_99 (by decide) (fun h99 => ?_) (fun h99 => ?_)
  · refine j_iconst (v := 1) hC dX8_won_102 (by decide) ?_
    refine j_goto (tgt := 107) hC dX8_won_103 (by decide) ?_
    exact j_sub [0, 1, 2, 3] rfl (wX8_won_107 hC hG hnl fu kn25 hk25 M x1 x2 x4 1 t2)
  · refine j_iconst (v := 0) hC dX8_won_106 (by decide) ?_
    exact j_sub [0, 1, 2, 3] rfl (wX8_won_107 hC hG hnl fu kn25 hk25 M x1 x2 x4 0 t2)
set_option linter.unusedVariables false in
set_option maxRecDepth 100000 in
theorem wX8_won_76 {X : JX} (hC : JC X cX8_won RX8 (some .int) 3 55 0 0) (hG : dmI dmM (XG X)) (hnl : nLof X = 6) (fu : Nat) (kn25 : Mem × Int32 × Int32 × Int32 × Int32 → Option (Int32 × Mem)) (hk25 : ∀ (M : Mem) (x1 x2 x3 x4 : Int32), J X (ZN X foI) (kn25 (M, x1, x2, x3, x4)) 25 [(0, .ref (gadr (XG X) (5, 0, 0))), (1, .int x1), (2, .int x2), (3, .int x3), (4, .int x4)] [] M 0 0) (M : Mem) (x1 x2 x3 x4 x5 : Int32) : J X (ZN X foI) (FX8_won_76 fu (XD X) kn25 M x1 x2 x3 x4 x5) 76 [(0, .ref (gadr (XG X) (5, 0, 0))), (1, .int x1), (2, .int x2), (3, .int x3), (4, .int x4), (5, .int x5)] [] M 0 0 := by
  unfold FX8_won_76
  refine j_aload_n hC 0 dX8_won_76 rfl ?_
  refine j_iload hC 4 dX8_won_77 rfl ?_
  refine j_iconst (v := 1) hC dX8_won_79 (by decide) ?_
  refine j_callV (nA := 2) (rest := []) hC [.int x4, .int 1] rfl (fun r hr => mX8_ofCase (XL X) (XG X) hG fu (XD X) M x4 1 r hr) q1934 q1936 qs104 q136 q1937 (dmMo hG rfl) rfl rfl (by decide +kernel) rfl rfl rfl rfl rfl rfl dX8_won_80 (fun v80 => [.int v80]) (fun _ => rfl) (fun v80 M80 => ?_)
  refine j_iload_n hC 1 dX8_won_83 rfl ?_
  refine j_icmp_ne (tgt := 109) hC dX8_won_84 (by decide) (fun h84 => ?_) (fun h84 => ?_)
  · refine j_iload_n hC 3 dX8_won_87 rfl ?_
    refine j_iload hC 5 dX8_won_88 rfl ?_
    refine j_iload_n hC 2 dX8_won_90 rfl ?_
    refine j_if_eq (tgt := 98) hC dX8_won_91 (by decide) (fun h91 => ?_) (fun h91 => ?_)
    · refine j_iconst (v := 2) hC dX8_won_98 (by decide) ?_
      exact j_sub [0, 1, 2, 4] rfl (wX8_won_99 hC hG hnl fu kn25 hk25 M80 x1 x2 x4 2 x5 x3)
    · refine j_iconst (v := 1) hC dX8_won_94 (by decide) ?_
      refine j_goto (tgt := 99) hC dX8_won_95 (by decide) ?_
      exact j_sub [0, 1, 2, 4] rfl (wX8_won_99 hC hG hnl fu kn25 hk25 M80 x1 x2 x4 1 x5 x3)
  · exact j_sub [0, 1, 2, 3, 4] rfl (wX8_won_109 hC hG hnl fu kn25 hk25 M80 x1 x2 x3 x4)
set_option linter.unusedVariables false in
set_option maxRecDepth 100000 in
theorem wX8_won_74 {X : JX} (hC : JC X cX8_won RX8 (some .int) 3 55 0 0) (hG : dmI dmM (XG X)) (hnl : nLof X = 6) (fu : Nat) (kn25 : Mem × Int32 × Int32 × Int32 × Int32 → Option (Int32 × Mem)) (hk25 : ∀ (M : Mem) (x1 x2 x3 x4 : Int32), J X (ZN X foI) (kn25 (M, x1, x2, x3, x4)) 25 [(0, .ref (gadr (XG X) (5, 0, 0))), (1, .int x1), (2, .int x2), (3, .int x3), (4, .int x4)] [] M 0 0) (M : Mem) (x1 x2 x4 x5 t0 t1 : Int32) : J X (ZN X foI) (FX8_won_74 fu (XD X) kn25 M x1 x2 x4 x5 t0 t1) 74 [(0, .ref (gadr (XG X) (5, 0, 0))), (1, .int x1), (2, .int x2), (4, .int x4), (5, .int x5)] [.int t0, .int t1] M 0 0 := by
  unfold FX8_won_74
  refine j_iadd hC dX8_won_74 ?_
  refine j_ltT (fun y75 => ?_)
  refine j_istore_n hC [(3, .int y75), (0, .ref (gadr (XG X) (5, 0, 0))), (1, .int x1), (2, .int x2), (4, .int x4), (5, .int x5)] hnl dX8_won_75 rfl rfl ?_
  exact j_sub [1, 2, 3, 0, 4, 5] rfl (wX8_won_76 hC hG hnl fu kn25 hk25 M x1 x2 y75 x4 x5)
set_option linter.unusedVariables false in
set_option maxRecDepth 100000 in
theorem wX8_won_66 {X : JX} (hC : JC X cX8_won RX8 (some .int) 3 55 0 0) (hG : dmI dmM (XG X)) (hnl : nLof X = 6) (fu : Nat) (kn25 : Mem × Int32 × Int32 × Int32 × Int32 → Option (Int32 × Mem)) (hk25 : ∀ (M : Mem) (x1 x2 x3 x4 : Int32), J X (ZN X foI) (kn25 (M, x1, x2, x3, x4)) 25 [(0, .ref (gadr (XG X) (5, 0, 0))), (1, .int x1), (2, .int x2), (3, .int x3), (4, .int x4)] [] M 0 0) (M : Mem) (x1 x2 x4 x5 t0 t1 t2 : Int32) : J X (ZN X foI) (FX8_won_66 fu (XD X) kn25 M x1 x2 x4 x5 t0 t1 t2) 66 [(0, .ref (gadr (XG X) (5, 0, 0))), (1, .int x1), (2, .int x2), (4, .int x4), (5, .int x5)] [.int t0, .int t1, .int t2] M 0 0 := by
  unfold FX8_won_66
  refine j_icmp_ne (tgt := 73) hC dX8_won_66 (by decide) (fun h66 => ?_) (fun h66 => ?_)
  · refine j_iconst (v := 1) hC dX8_won_69 (by decide) ?_
    refine j_goto (tgt := 74) hC dX8_won_70 (by decide) ?_
    exact j_sub [0, 1, 2, 3, 4] rfl (wX8_won_74 hC hG hnl fu kn25 hk25 M x1 x2 x4 x5 1 t2)
  · refine j_iconst (v := 0) hC dX8_won_73 (by decide) ?_
    exact j_sub [0, 1, 2, 3, 4] rfl (wX8_won_74 hC hG hnl fu kn25 hk25 M x1 x2 x4 x5 0 t2)
set_option linter.unusedVariables false in
set_option maxRecDepth 100000 in
theorem wgX8_won_25 {X : JX} (hC : JC X cX8_won RX8 (some .int) 3 55 0 0) (hG : dmI dmM (XG X)) (hnl : nLof X = 6) (fu : Nat) (kn25 : Mem × Int32 × Int32 × Int32 × Int32 → Option (Int32 × Mem)) (hk25 : ∀ (M : Mem) (x1 x2 x3 x4 : Int32), J X (ZN X foI) (kn25 (M, x1, x2, x3, x4)) 25 [(0, .ref (gadr (XG X) (5, 0, 0))), (1, .int x1), (2, .int x2), (3, .int x3), (4, .int x4)] [] M 0 0) (M : Mem) (x1 x2 x3 x4 : Int32) : J X (ZN X foI) (GX8_won_25 fu (XD X) kn25 M x1 x2 x3 x4) 25 [(0, .ref (gadr (XG X) (5, 0, 0))), (1, .int x1), (2, .int x2), (3, .int x3), (4, .int x4)] [] M 0 0 := by
  unfold GX8_won_25
  refine j_iload hC 4 dX8_won_25 rfl ?_
  refine j_aload_n hC 0 dX8_won_27 rfl ?_
  refine j_callV (nA := 0) (rest := [.int x4]) hC [] rfl (fun r hr => mX8_cases (XL X) (XG X) hG fu (XD X) M r hr) q1665 q1667 qs61 q136 q1668 (dmMo hG rfl) rfl rfl (by decide +kernel) rfl rfl rfl rfl rfl rfl dX8_won_28 (fun v28 => [.int v28, .int x4]) (fun _ => rfl) (fun v28 M28 => ?_)
  refine j_icmp_ge (tgt := 115) hC dX8_won_31 (by decide) (fun h31 => ?_) (fun h31 => ?_)
  · refine j_iload_n hC 3 dX8_won_115 rfl ?_
    exact j_iret hC dX8_won_116
  · refine j_aload_n hC 0 dX8_won_34 rfl ?_
    refine j_iload hC 4 dX8_won_35 rfl ?_
    refine j_iconst (v := 3) hC dX8_won_37 (by decide) ?_
    refine j_callV (nA := 2) (rest := []) hC [.int x4, .int 3] rfl (fun r hr => mX8_ofCase (XL X) (XG X) hG fu (XD X) M28 x4 3 r hr) q1934 q1936 qs104 q136 q1937 (dmMo hG rfl) rfl rfl (by decide +kernel) rfl rfl rfl rfl rfl rfl dX8_won_38 (fun v38 => [.int v38]) (fun _ => rfl) (fun v38 M38 => ?_)
    refine j_istore hC [(5, .int v38), (0, .ref (gadr (XG X) (5, 0, 0))), (1, .int x1), (2, .int x2), (3, .int x3), (4, .int x4)] hnl dX8_won_41 rfl rfl ?_
    refine j_aload_n hC 1 dX8_won_43 rfl ?_
    refine j_iload hC 5 dX8_won_44 rfl ?_
    refine j_iconst (v := 0) hC dX8_won_46 (by decide) ?_
    refine j_callV (nA := 2) (rest := []) hC [.int x4, .int 0] rfl (fun r hr => mX8_ofCase (XL X) (XG X) hG fu (XD X) M38 x4 0 r hr) q1934 q1936 qs104 q136 q1937 (dmMo hG rfl) rfl rfl (by decide +kernel) rfl rfl rfl rfl rfl rfl dX8_won_47 (fun v47 => [.int v47]) (fun _ => rfl) (fun v47 M47 => ?_)
    refine j_iload_n hC 2 dX8_won_50 rfl ?_
    refine j_icmp_ne (tgt := 76) hC dX8_won_51 (by decide) (fun h51 => ?_) (fun h51 => ?_)
    · refine j_iload_n hC 4 dX8_won_54 rfl ?_
      refine j_iload hC 0 dX8_won_55 rfl ?_
      refine j_iload_n hC 3 dX8_won_57 rfl ?_
      refine j_if_eq (tgt := 65) hC dX8_won_58 (by decide) (fun h58 => ?_) (fun h58 => ?_)
      · refine j_iconst (v := 1) hC dX8_won_65 (by decide) ?_
        exact j_sub [1, 2, 3, 5, 0] rfl (wX8_won_66 hC hG hnl fu kn25 hk25 M47 x1 x2 x4 v38 1 v38 x3)
      · refine j_iconst (v := 2) hC dX8_won_61 (by decide) ?_
        refine j_goto (tgt := 66) hC dX8_won_62 (by decide) ?_
        exact j_sub [1, 2, 3, 5, 0] rfl (wX8_won_66 hC hG hnl fu kn25 hk25 M47 x1 x2 x4 v38 2 v38 x3)
    · exact j_sub [1, 2, 3, 4, 5, 0] rfl (wX8_won_76 hC hG hnl fu kn25 hk25 M47 x1 x2 x3 x4 v38)
set_option linter.unusedVariables false in
set_option maxRecDepth 100000 in
theorem wX8_won_25 {X : JX} (hC : JC X cX8_won RX8 (some .int) 3 55 0 0) (hG : dmI dmM (XG X)) (hnl : nLof X = 6) (fu : Nat) (M : Mem) (x1 x2 x3 x4 : Int32) : J X (ZN X foI) (FX8_won_25 fu (XD X) M x1 x2 x3 x4) 25 [(0, .ref (gadr (XG X) (5, 0, 0))), (1, .int x1), (2, .int x2), (3, .int x3), (4, .int x4)] [] M 0 0 := by
  exact j_lp (lvf := fun z => [(0, .ref (gadr (XG X) (5, 0, 0))), (1, .int (z.2.1)), (2, .int (z.2.2.1)), (3, .int (z.2.2.2.1)), (4, .int (z.2.2.2.2))]) (Mf := fun z => z.1) (fun kn hk z => wgX8_won_25 hC hG hnl fu kn (fun M x1 x2 x3 x4 => hk (M, x1, x2, x3, x4)) z.1 z.2.1 z.2.2.1 z.2.2.2.1 z.2.2.2.2) fu (M, x1, x2, x3, x4)
set_option linter.unusedVariables false in
set_option maxRecDepth 100000 in
theorem wX8_won {X : JX} (hC : JC X cX8_won RX8 (some .int) 3 55 0 0) (hG : dmI dmM (XG X)) (hnl : nLof X = 6) (fu : Nat) (M : Mem) (x1 x2 : Int32) : J X (ZN X foI) (FX8_won fu (XD X) M x1 x2) 0 [(0, .ref (gadr (XG X) (5, 0, 0))), (1, .int x1), (2, .int x2)] [] M 0 0 := by
  unfold FX8_won
  refine j_aload_n hC 0 dX8_won_0 rfl ?_
  refine j_iconst (v := 0) hC dX8_won_1 (by decide) ?_
  refine j_put (fk := 0) (ty := .int) hC (dmMo hG rfl) rfl rfl in_X8 rfl rfl q1464 tyX8 tyX8_ok nmX8 rfl rfl (by decide +kernel) rfl rfl dX8_won_2 ?_
  refine j_lt (fun M2 => ?_)
  refine j_aload_n hC 0 dX8_won_5 rfl ?_
  refine j_aload_n hC 0 dX8_won_6 rfl ?_
  refine j_iload_n hC 1 dX8_won_7 rfl ?_
  refine j_callV (nA := 1) (rest := [.ref (gadr (XG X) (5, 0, 0))]) hC [.int x1] rfl (fun r hr => mX8_noCounsel (XL X) (XG X) hG fu (XD X) M2 x1 r hr) q1918 q1920 qs101 q136 q1921 (dmMo hG rfl) rfl rfl (by decide +kernel) rfl rfl rfl rfl rfl rfl dX8_won_8 (fun v8 => [.int v8, .ref (gadr (XG X) (5, 0, 0))]) (fun _ => rfl) (fun v8 M8 => ?_)
  refine j_iconst (v := 1) hC dX8_won_11 (by decide) ?_
  refine j_callV (nA := 2) (rest := []) hC [.int v8, .int 1] rfl (fun r hr => mX8_throwsIf (XL X) (XG X) hG fu (XD X) M8 v8 1 r hr) q1748 q1750 qs76 q136 q1751 (dmMo hG rfl) rfl rfl (by decide +kernel) rfl rfl rfl rfl rfl rfl dX8_won_12 (fun v12 => [.int v12]) (fun _ => rfl) (fun v12 M12 => ?_)
  refine j_if_eq (tgt := 20) hC dX8_won_15 (by decide) (fun h15 => ?_) (fun h15 => ?_)
  · refine j_iconst (v := 0) hC dX8_won_20 (by decide) ?_
    refine j_istore_n hC [(3, .int 0), (0, .ref (gadr (XG X) (5, 0, 0))), (1, .int x1), (2, .int x2)] hnl dX8_won_21 rfl rfl ?_
    refine j_iconst (v := 0) hC dX8_won_22 (by decide) ?_
    refine j_istore hC [(4, .int 0), (3, .int 0), (0, .ref (gadr (XG X) (5, 0, 0))), (1, .int x1), (2, .int x2)] hnl dX8_won_23 rfl rfl ?_
    exact j_sub [2, 3, 4, 1, 0] rfl (wX8_won_25 hC hG hnl fu M12 x1 x2 0 0)
  · refine j_iconst (v := 0) hC dX8_won_18 (by decide) ?_
    exact j_iret hC dX8_won_19
set_option linter.unusedVariables false in
set_option maxRecDepth 100000 in
theorem mX8_won (l : Launch) (Γ : xG) (hG : dmI dmM Γ) (fu : Nat) (D : List LDen) (M : Mem) (x1 x2 : Int32) (r : Int32 × Mem) (hr : FX8_won fu D M x1 x2 = some r) : CN l yX8_won (ws_ yX8_won cX8_won 6 (some .int)) 3 55 Γ D [.ref (gadr Γ (5, 0, 0)), .int x1, .int x2] M (foI r.1) r.2 := by
  refine CN.of (own := RX8) (lv0 := lv_args 0 [.ref (gadr Γ (5, 0, 0)), .int x1, .int x2]) (by decide +kernel) rfl (Nat.le_of_ble_eq_true rfl) rfl (fun X e1 e2 e3 e4 hC => ?_) r hr
  subst e1
  subst e2
  exact wX8_won hC hG e4 fu M x1 x2
set_option linter.unusedVariables false in
set_option maxRecDepth 100000 in
theorem wX8_covers_31 {X : JX} (hC : JC X cX8_covers RX8 (some .boolean) 4 76 0 0) (hG : dmI dmM (XG X)) (hnl : nLof X = 3) (fu : Nat) (kn2 : Mem × Int32 × Int32 → Option (Int32 × Mem)) (hk2 : ∀ (M : Mem) (x1 x2 : Int32), J X (ZN X foI) (kn2 (M, x1, x2)) 2 [(0, .ref (gadr (XG X) (5, 0, 0))), (1, .int x1), (2, .int x2)] [] M 0 0) (M : Mem) (x1 x2 : Int32) : J X (ZN X foI) (FX8_covers_31 fu (XD X) kn2 M x1 x2) 31 [(0, .ref (gadr (XG X) (5, 0, 0))), (1, .int x1), (2, .int x2)] [] M 0 0 := by
  unfold FX8_covers_31
  refine j_iincL hC 2 (fun y31 => [(2, .int y31), (0, .ref (gadr (XG X) (5, 0, 0))), (1, .int x1)]) hnl dX8_covers_31 rfl (by decide) rfl (fun _ => rfl) (fun y31 => ?_)
  refine j_goto (tgt := 2) hC dX8_covers_34 (by decide) ?_
  exact j_sub [1, 2, 0] rfl (hk2 M x1 y31)
set_option linter.unusedVariables false in
set_option maxRecDepth 100000 in
theorem wgX8_covers_2 {X : JX} (hC : JC X cX8_covers RX8 (some .boolean) 4 76 0 0) (hG : dmI dmM (XG X)) (hnl : nLof X = 3) (fu : Nat) (kn2 : Mem × Int32 × Int32 → Option (Int32 × Mem)) (hk2 : ∀ (M : Mem) (x1 x2 : Int32), J X (ZN X foI) (kn2 (M, x1, x2)) 2 [(0, .ref (gadr (XG X) (5, 0, 0))), (1, .int x1), (2, .int x2)] [] M 0 0) (M : Mem) (x1 x2 : Int32) : J X (ZN X foI) (GX8_covers_2 fu (XD X) kn2 M x1 x2) 2 [(0, .ref (gadr (XG X) (5, 0, 0))), (1, .int x1), (2, .int x2)] [] M 0 0 := by
  unfold GX8_covers_2
  refine j_iload_n hC 2 dX8_covers_2 rfl ?_
  refine j_aload_n hC 0 dX8_covers_3 rfl ?_
  refine j_callV (nA := 0) (rest := [.int x2]) hC [] rfl (fun r hr => mX8_cases (XL X) (XG X) hG fu (XD X) M r hr) q1665 q1667 qs61 q136 q1668 (dmMo hG rfl) rfl rfl (by decide +kernel) rfl rfl rfl rfl rfl rfl dX8_covers_4 (fun v4 => [.int v4, .int x2]) (fun _ => rfl) (fun v4 M4 => ?_)
  refine j_icmp_ge (tgt := 37) hC dX8_covers_7 (by decide) (fun h7 => ?_) (fun h7 => ?_)
  · refine j_iconst (v := 1) hC dX8_covers_37 (by decide) ?_
    exact j_zret hC (by decide) dX8_covers_38
  · refine j_aload_n hC 0 dX8_covers_10 rfl ?_
    refine j_iload_n hC 2 dX8_covers_11 rfl ?_
    refine j_callV (nA := 1) (rest := []) hC [.int x2] rfl (fun r hr => mX8_isOpen (XL X) (XG X) hG fu (XD X) M4 x2 r hr) q1950 q1952 qs106 q136 q1953 (dmMo hG rfl) rfl rfl (by decide +kernel) rfl rfl rfl rfl rfl rfl dX8_covers_12 (fun v12 => [.int v12]) (fun _ => rfl) (fun v12 M12 => ?_)
    refine j_if_eq (tgt := 31) hC dX8_covers_15 (by decide) (fun h15 => ?_) (fun h15 => ?_)
    · exact j_sub [0, 1, 2] rfl (wX8_covers_31 hC hG hnl fu kn2 hk2 M12 x1 x2)
    · refine j_aload_n hC 0 dX8_covers_18 rfl ?_
      refine j_iload_n hC 2 dX8_covers_19 rfl ?_
      refine j_iconst (v := 2) hC dX8_covers_20 (by decide) ?_
      refine j_callV (nA := 2) (rest := []) hC [.int x2, .int 2] rfl (fun r hr => mX8_ofCase (XL X) (XG X) hG fu (XD X) M12 x2 2 r hr) q1934 q1936 qs104 q136 q1937 (dmMo hG rfl) rfl rfl (by decide +kernel) rfl rfl rfl rfl rfl rfl dX8_covers_21 (fun v21 => [.int v21]) (fun _ => rfl) (fun v21 M21 => ?_)
      refine j_iload_n hC 1 dX8_covers_24 rfl ?_
      refine j_iand hC dX8_covers_25 ?_
      refine j_if_ne (tgt := 31) hC dX8_covers_26 (by decide) (fun h26 => ?_) (fun h26 => ?_)
      · refine j_iconst (v := 0) hC dX8_covers_29 (by decide) ?_
        exact j_zret hC (by decide) dX8_covers_30
      · exact j_sub [0, 1, 2] rfl (wX8_covers_31 hC hG hnl fu kn2 hk2 M21 x1 x2)
set_option linter.unusedVariables false in
set_option maxRecDepth 100000 in
theorem wX8_covers_2 {X : JX} (hC : JC X cX8_covers RX8 (some .boolean) 4 76 0 0) (hG : dmI dmM (XG X)) (hnl : nLof X = 3) (fu : Nat) (M : Mem) (x1 x2 : Int32) : J X (ZN X foI) (FX8_covers_2 fu (XD X) M x1 x2) 2 [(0, .ref (gadr (XG X) (5, 0, 0))), (1, .int x1), (2, .int x2)] [] M 0 0 := by
  exact j_lp (lvf := fun z => [(0, .ref (gadr (XG X) (5, 0, 0))), (1, .int (z.2.1)), (2, .int (z.2.2))]) (Mf := fun z => z.1) (fun kn hk z => wgX8_covers_2 hC hG hnl fu kn (fun M x1 x2 => hk (M, x1, x2)) z.1 z.2.1 z.2.2) fu (M, x1, x2)
set_option linter.unusedVariables false in
set_option maxRecDepth 100000 in
theorem wX8_covers {X : JX} (hC : JC X cX8_covers RX8 (some .boolean) 4 76 0 0) (hG : dmI dmM (XG X)) (hnl : nLof X = 3) (fu : Nat) (M : Mem) (x1 : Int32) : J X (ZN X foI) (FX8_covers fu (XD X) M x1) 0 [(0, .ref (gadr (XG X) (5, 0, 0))), (1, .int x1)] [] M 0 0 := by
  unfold FX8_covers
  refine j_iconst (v := 0) hC dX8_covers_0 (by decide) ?_
  refine j_istore_n hC [(2, .int 0), (0, .ref (gadr (XG X) (5, 0, 0))), (1, .int x1)] hnl dX8_covers_1 rfl rfl ?_
  exact j_sub [1, 2, 0] rfl (wX8_covers_2 hC hG hnl fu M x1 0)
set_option linter.unusedVariables false in
set_option maxRecDepth 100000 in
theorem mX8_covers (l : Launch) (Γ : xG) (hG : dmI dmM Γ) (fu : Nat) (D : List LDen) (M : Mem) (x1 : Int32) (r : Int32 × Mem) (hr : FX8_covers fu D M x1 = some r) : CN l yX8_covers (ws_ yX8_covers cX8_covers 3 (some .boolean)) 4 76 Γ D [.ref (gadr Γ (5, 0, 0)), .int x1] M (foI r.1) r.2 := by
  refine CN.of (own := RX8) (lv0 := lv_args 0 [.ref (gadr Γ (5, 0, 0)), .int x1]) (by decide +kernel) rfl (Nat.le_of_ble_eq_true rfl) rfl (fun X e1 e2 e3 e4 hC => ?_) r hr
  subst e1
  subst e2
  exact wX8_covers hC hG e4 fu M x1
set_option linter.unusedVariables false in
set_option maxRecDepth 100000 in
theorem wX8_cover_44 {X : JX} (hC : JC X cX8_cover RX8 (some .int) 5 98 0 0) (hG : dmI dmM (XG X)) (hnl : nLof X = 3) (fu : Nat) (kn9 : Mem × Int32 × Int32 → Option (Int32 × Mem)) (hk9 : ∀ (M : Mem) (x1 x2 : Int32), J X (ZN X foI) (kn9 (M, x1, x2)) 9 [(0, .ref (gadr (XG X) (5, 0, 0))), (1, .int x1), (2, .int x2)] [] M 0 0) (M : Mem) (x1 x2 : Int32) : J X (ZN X foI) (FX8_cover_44 fu (XD X) kn9 M x1 x2) 44 [(0, .ref (gadr (XG X) (5, 0, 0))), (1, .int x1), (2, .int x2)] [] M 0 0 := by
  unfold FX8_cover_44
  refine j_iincL hC 2 (fun y44 => [(2, .int y44), (0, .ref (gadr (XG X) (5, 0, 0))), (1, .int x1)]) hnl dX8_cover_44 rfl (by decide) rfl (fun _ => rfl) (fun y44 => ?_)
  refine j_goto (tgt := 9) hC dX8_cover_47 (by decide) ?_
  exact j_sub [1, 2, 0] rfl (hk9 M x1 y44)
set_option linter.unusedVariables false in
set_option maxRecDepth 100000 in
theorem wX8_cover_42 {X : JX} (hC : JC X cX8_cover RX8 (some .int) 5 98 0 0) (hG : dmI dmM (XG X)) (hnl : nLof X = 3) (fu : Nat) (kn9 : Mem × Int32 × Int32 → Option (Int32 × Mem)) (hk9 : ∀ (M : Mem) (x1 x2 : Int32), J X (ZN X foI) (kn9 (M, x1, x2)) 9 [(0, .ref (gadr (XG X) (5, 0, 0))), (1, .int x1), (2, .int x2)] [] M 0 0) (M : Mem) (x2 : Int32) : J X (ZN X foI) (FX8_cover_42 fu (XD X) kn9 M x2) 42 [(0, .ref (gadr (XG X) (5, 0, 0))), (2, .int x2)] [] M 0 0 := by
  unfold FX8_cover_42
  refine j_iload_n hC 1 dX8_cover_42 rfl ?_
  refine j_istore_n hC [(1, .int x2), (0, .ref (gadr (XG X) (5, 0, 0))), (2, .int x2)] hnl dX8_cover_43 rfl rfl ?_
  exact j_sub [1, 0, 2] rfl (wX8_cover_44 hC hG hnl fu kn9 hk9 M x2 x2)
set_option linter.unusedVariables false in
set_option maxRecDepth 100000 in
theorem wgX8_cover_9 {X : JX} (hC : JC X cX8_cover RX8 (some .int) 5 98 0 0) (hG : dmI dmM (XG X)) (hnl : nLof X = 3) (fu : Nat) (kn9 : Mem × Int32 × Int32 → Option (Int32 × Mem)) (hk9 : ∀ (M : Mem) (x1 x2 : Int32), J X (ZN X foI) (kn9 (M, x1, x2)) 9 [(0, .ref (gadr (XG X) (5, 0, 0))), (1, .int x1), (2, .int x2)] [] M 0 0) (M : Mem) (x1 x2 : Int32) : J X (ZN X foI) (GX8_cover_9 fu (XD X) kn9 M x1 x2) 9 [(0, .ref (gadr (XG X) (5, 0, 0))), (1, .int x1), (2, .int x2)] [] M 0 0 := by
  unfold GX8_cover_9
  refine j_iload_n hC 2 dX8_cover_9 rfl ?_
  refine j_iconst (v := 1) hC dX8_cover_10 (by decide) ?_
  refine j_aload_n hC 0 dX8_cover_11 rfl ?_
  refine j_callV (nA := 0) (rest := [.int 1, .int x2]) hC [] rfl (fun r hr => mX8_birds (XL X) (XG X) hG fu (XD X) M r hr) q1622 q1624 qs54 q136 q1625 (dmMo hG rfl) rfl rfl (by decide +kernel) rfl rfl rfl rfl rfl rfl dX8_cover_12 (fun v12 => [.int v12, .int 1, .int x2]) (fun _ => rfl) (fun v12 M12 => ?_)
  refine j_ishl hC dX8_cover_15 ?_
  refine j_icmp_ge (tgt := 50) hC dX8_cover_16 (by decide) (fun h16 => ?_) (fun h16 => ?_)
  · refine j_iload_n hC 1 dX8_cover_50 rfl ?_
    exact j_iret hC dX8_cover_51
  · refine j_aload_n hC 0 dX8_cover_19 rfl ?_
    refine j_iload_n hC 2 dX8_cover_20 rfl ?_
    refine j_callV (nA := 1) (rest := []) hC [.int x2] rfl (fun r hr => mX8_covers (XL X) (XG X) hG fu (XD X) M12 x2 r hr) q2068 q2070 qs120 q136 q2071 (dmMo hG rfl) rfl rfl (by decide +kernel) rfl rfl rfl rfl rfl rfl dX8_cover_21 (fun v21 => [.int v21]) (fun _ => rfl) (fun v21 M21 => ?_)
    refine j_if_eq (tgt := 44) hC dX8_cover_24 (by decide) (fun h24 => ?_) (fun h24 => ?_)
    · exact j_sub [0, 1, 2] rfl (wX8_cover_44 hC hG hnl fu kn9 hk9 M21 x1 x2)
    · refine j_iload_n hC 1 dX8_cover_27 rfl ?_
      refine j_if_lt (tgt := 42) hC dX8_cover_28 (by decide) (fun h28 => ?_) (fun h28 => ?_)
      · exact j_sub [0, 2] rfl (wX8_cover_42 hC hG hnl fu kn9 hk9 M21 x2)
      · refine j_iload_n hC 2 dX8_cover_31 rfl ?_
        refine j_callS (nA := 1) (rest := []) hC [.int x2] rfl (fun r hr => mJ14_bitCount (XL X) (XG X) trivial fu (XD X) M21 x2 r hr) q2072 q685 q157 q686 (by decide +kernel) rfl rfl rfl rfl rfl rfl dX8_cover_32 (fun v32 => [.int v32]) (fun _ => rfl) (fun v32 M32 => ?_)
        refine j_iload_n hC 1 dX8_cover_35 rfl ?_
        refine j_callS (nA := 1) (rest := [.int v32]) hC [.int x1] rfl (fun r hr => mJ14_bitCount (XL X) (XG X) trivial fu (XD X) M32 x1 r hr) q2072 q685 q157 q686 (by decide +kernel) rfl rfl rfl rfl rfl rfl dX8_cover_36 (fun v36 => [.int v36, .int v32]) (fun _ => rfl) (fun v36 M36 => ?_)
        refine j_icmp_ge (tgt := 44) hC dX8_cover_39 (by decide) (fun h39 => ?_) (fun h39 => ?_)
        · exact j_sub [0, 1, 2] rfl (wX8_cover_44 hC hG hnl fu kn9 hk9 M36 x1 x2)
        · exact j_sub [0, 2] rfl (wX8_cover_42 hC hG hnl fu kn9 hk9 M36 x2)
set_option linter.unusedVariables false in
set_option maxRecDepth 100000 in
theorem wX8_cover_9 {X : JX} (hC : JC X cX8_cover RX8 (some .int) 5 98 0 0) (hG : dmI dmM (XG X)) (hnl : nLof X = 3) (fu : Nat) (M : Mem) (x1 x2 : Int32) : J X (ZN X foI) (FX8_cover_9 fu (XD X) M x1 x2) 9 [(0, .ref (gadr (XG X) (5, 0, 0))), (1, .int x1), (2, .int x2)] [] M 0 0 := by
  exact j_lp (lvf := fun z => [(0, .ref (gadr (XG X) (5, 0, 0))), (1, .int (z.2.1)), (2, .int (z.2.2))]) (Mf := fun z => z.1) (fun kn hk z => wgX8_cover_9 hC hG hnl fu kn (fun M x1 x2 => hk (M, x1, x2)) z.1 z.2.1 z.2.2) fu (M, x1, x2)
set_option linter.unusedVariables false in
set_option maxRecDepth 100000 in
theorem wX8_cover {X : JX} (hC : JC X cX8_cover RX8 (some .int) 5 98 0 0) (hG : dmI dmM (XG X)) (hnl : nLof X = 3) (fu : Nat) (M : Mem) : J X (ZN X foI) (FX8_cover fu (XD X) M) 0 [(0, .ref (gadr (XG X) (5, 0, 0)))] [] M 0 0 := by
  unfold FX8_cover
  refine j_aload_n hC 0 dX8_cover_0 rfl ?_
  refine j_iconst (v := 0) hC dX8_cover_1 (by decide) ?_
  refine j_put (fk := 0) (ty := .int) hC (dmMo hG rfl) rfl rfl in_X8 rfl rfl q1464 tyX8 tyX8_ok nmX8 rfl rfl (by decide +kernel) rfl rfl dX8_cover_2 ?_
  refine j_lt (fun M2 => ?_)
  refine j_iconst (v := (-1)) hC dX8_cover_5 (by decide) ?_
  refine j_istore_n hC [(1, .int ((-1))), (0, .ref (gadr (XG X) (5, 0, 0)))] hnl dX8_cover_6 rfl rfl ?_
  refine j_iconst (v := 0) hC dX8_cover_7 (by decide) ?_
  refine j_istore_n hC [(2, .int 0), (1, .int ((-1))), (0, .ref (gadr (XG X) (5, 0, 0)))] hnl dX8_cover_8 rfl rfl ?_
  exact j_sub [2, 1, 0] rfl (wX8_cover_9 hC hG hnl fu M2 (-1) 0)
set_option linter.unusedVariables false in
set_option maxRecDepth 100000 in
theorem mX8_cover (l : Launch) (Γ : xG) (hG : dmI dmM Γ) (fu : Nat) (D : List LDen) (M : Mem) (r : Int32 × Mem) (hr : FX8_cover fu D M = some r) : CN l yX8_cover (ws_ yX8_cover cX8_cover 3 (some .int)) 5 98 Γ D [.ref (gadr Γ (5, 0, 0))] M (foI r.1) r.2 := by
  refine CN.of (own := RX8) (lv0 := lv_args 0 [.ref (gadr Γ (5, 0, 0))]) (by decide +kernel) rfl (Nat.le_of_ble_eq_true rfl) rfl (fun X e1 e2 e3 e4 hC => ?_) r hr
  subst e1
  subst e2
  exact wX8_cover hC hG e4 fu M
set_option linter.unusedVariables false in
set_option maxRecDepth 100000 in
theorem wX8_tries_29 {X : JX} (hC : JC X cX8_tries RX8 (some .int) 9 198 0 0) (hG : dmI dmM (XG X)) (hnl : nLof X = 6) (fu : Nat) (kn6 : Mem × Int32 × Int32 × Int32 × Int32 × Int32 → Option (Int32 × Mem)) (hk6 : ∀ (M : Mem) (x1 x2 x3 x4 x5 : Int32), J X (ZN X foI) (kn6 (M, x1, x2, x3, x4, x5)) 6 [(0, .ref (gadr (XG X) (5, 0, 0))), (1, .int x1), (2, .int x2), (3, .int x3), (4, .int x4), (5, .int x5)] [] M 0 0) (M : Mem) (x1 x2 x3 x5 t0 t1 : Int32) : J X (ZN X foI) (FX8_tries_29 fu (XD X) kn6 M x1 x2 x3 x5 t0 t1) 29 [(0, .ref (gadr (XG X) (5, 0, 0))), (1, .int x1), (2, .int x2), (3, .int x3), (5, .int x5)] [.int t0, .int t1] M 0 0 := by
  unfold FX8_tries_29
  refine j_iadd hC dX8_tries_29 ?_
  refine j_ltT (fun y30 => ?_)
  refine j_istore hC [(4, .int y30), (0, .ref (gadr (XG X) (5, 0, 0))), (1, .int x1), (2, .int x2), (3, .int x3), (5, .int x5)] hnl dX8_tries_30 rfl rfl ?_
  refine j_iincL hC 5 (fun y32 => [(5, .int y32), (4, .int y30), (0, .ref (gadr (XG X) (5, 0, 0))), (1, .int x1), (2, .int x2), (3, .int x3)]) hnl dX8_tries_32 rfl (by decide) rfl (fun _ => rfl) (fun y32 => ?_)
  refine j_goto (tgt := 6) hC dX8_tries_35 (by decide) ?_
  exact j_sub [2, 3, 4, 5, 1, 0] rfl (hk6 M x1 x2 x3 y30 y32)
set_option linter.unusedVariables false in
set_option maxRecDepth 100000 in
theorem wgX8_tries_6 {X : JX} (hC : JC X cX8_tries RX8 (some .int) 9 198 0 0) (hG : dmI dmM (XG X)) (hnl : nLof X = 6) (fu : Nat) (kn6 : Mem × Int32 × Int32 × Int32 × Int32 × Int32 → Option (Int32 × Mem)) (hk6 : ∀ (M : Mem) (x1 x2 x3 x4 x5 : Int32), J X (ZN X foI) (kn6 (M, x1, x2, x3, x4, x5)) 6 [(0, .ref (gadr (XG X) (5, 0, 0))), (1, .int x1), (2, .int x2), (3, .int x3), (4, .int x4), (5, .int x5)] [] M 0 0) (M : Mem) (x1 x2 x3 x4 x5 : Int32) : J X (ZN X foI) (GX8_tries_6 fu (XD X) kn6 M x1 x2 x3 x4 x5) 6 [(0, .ref (gadr (XG X) (5, 0, 0))), (1, .int x1), (2, .int x2), (3, .int x3), (4, .int x4), (5, .int x5)] [] M 0 0 := by
  unfold GX8_tries_6
  refine j_iload hC 5 dX8_tries_6 rfl ?_
  refine j_iload_n hC 3 dX8_tries_8 rfl ?_
  refine j_icmp_ge (tgt := 38) hC dX8_tries_9 (by decide) (fun h9 => ?_) (fun h9 => ?_)
  · refine j_iload hC 4 dX8_tries_38 rfl ?_
    exact j_iret hC dX8_tries_40
  · refine j_iload hC 4 dX8_tries_12 rfl ?_
    refine j_aload_n hC 0 dX8_tries_14 rfl ?_
    refine j_iload_n hC 1 dX8_tries_15 rfl ?_
    refine j_iload_n hC 2 dX8_tries_16 rfl ?_
    refine j_callV (nA := 2) (rest := [.int x4]) hC [.int x1, .int x2] rfl (fun r hr => mX8_called (XL X) (XG X) hG fu (XD X) M x1 x2 r hr) q1983 q1985 qs110 q136 q1986 (dmMo hG rfl) rfl rfl (by decide +kernel) rfl rfl rfl rfl rfl rfl dX8_tries_17 (fun v17 => [.int v17, .int x4]) (fun _ => rfl) (fun v17 M17 => ?_)
    refine j_iconst (v := 1) hC dX8_tries_20 (by decide) ?_
    refine j_icmp_ne (tgt := 28) hC dX8_tries_21 (by decide) (fun h21 => ?_) (fun h21 => ?_)
    · refine j_iconst (v := 1) hC dX8_tries_24 (by decide) ?_
      refine j_goto (tgt := 29) hC dX8_tries_25 (by decide) ?_
      exact j_sub [0, 1, 2, 3, 5] rfl (wX8_tries_29 hC hG hnl fu kn6 hk6 M17 x1 x2 x3 x5 1 x4)
    · refine j_iconst (v := 0) hC dX8_tries_28 (by decide) ?_
      exact j_sub [0, 1, 2, 3, 5] rfl (wX8_tries_29 hC hG hnl fu kn6 hk6 M17 x1 x2 x3 x5 0 x4)
set_option linter.unusedVariables false in
set_option maxRecDepth 100000 in
theorem wX8_tries_6 {X : JX} (hC : JC X cX8_tries RX8 (some .int) 9 198 0 0) (hG : dmI dmM (XG X)) (hnl : nLof X = 6) (fu : Nat) (M : Mem) (x1 x2 x3 x4 x5 : Int32) : J X (ZN X foI) (FX8_tries_6 fu (XD X) M x1 x2 x3 x4 x5) 6 [(0, .ref (gadr (XG X) (5, 0, 0))), (1, .int x1), (2, .int x2), (3, .int x3), (4, .int x4), (5, .int x5)] [] M 0 0 := by
  exact j_lp (lvf := fun z => [(0, .ref (gadr (XG X) (5, 0, 0))), (1, .int (z.2.1)), (2, .int (z.2.2.1)), (3, .int (z.2.2.2.1)), (4, .int (z.2.2.2.2.1)), (5, .int (z.2.2.2.2.2))]) (Mf := fun z => z.1) (fun kn hk z => wgX8_tries_6 hC hG hnl fu kn (fun M x1 x2 x3 x4 x5 => hk (M, x1, x2, x3, x4, x5)) z.1 z.2.1 z.2.2.1 z.2.2.2.1 z.2.2.2.2.1 z.2.2.2.2.2) fu (M, x1, x2, x3, x4, x5)
set_option linter.unusedVariables false in
set_option maxRecDepth 100000 in
theorem wX8_tries {X : JX} (hC : JC X cX8_tries RX8 (some .int) 9 198 0 0) (hG : dmI dmM (XG X)) (hnl : nLof X = 6) (fu : Nat) (M : Mem) (x1 x2 x3 : Int32) : J X (ZN X foI) (FX8_tries fu (XD X) M x1 x2 x3) 0 [(0, .ref (gadr (XG X) (5, 0, 0))), (1, .int x1), (2, .int x2), (3, .int x3)] [] M 0 0 := by
  unfold FX8_tries
  refine j_iconst (v := 0) hC dX8_tries_0 (by decide) ?_
  refine j_istore hC [(4, .int 0), (0, .ref (gadr (XG X) (5, 0, 0))), (1, .int x1), (2, .int x2), (3, .int x3)] hnl dX8_tries_1 rfl rfl ?_
  refine j_iconst (v := 0) hC dX8_tries_3 (by decide) ?_
  refine j_istore hC [(5, .int 0), (4, .int 0), (0, .ref (gadr (XG X) (5, 0, 0))), (1, .int x1), (2, .int x2), (3, .int x3)] hnl dX8_tries_4 rfl rfl ?_
  exact j_sub [2, 3, 4, 5, 1, 0] rfl (wX8_tries_6 hC hG hnl fu M x1 x2 x3 0 0)
set_option linter.unusedVariables false in
set_option maxRecDepth 100000 in
theorem mX8_tries (l : Launch) (Γ : xG) (hG : dmI dmM Γ) (fu : Nat) (D : List LDen) (M : Mem) (x1 x2 x3 : Int32) (r : Int32 × Mem) (hr : FX8_tries fu D M x1 x2 x3 = some r) : CN l yX8_tries (ws_ yX8_tries cX8_tries 6 (some .int)) 9 198 Γ D [.ref (gadr Γ (5, 0, 0)), .int x1, .int x2, .int x3] M (foI r.1) r.2 := by
  refine CN.of (own := RX8) (lv0 := lv_args 0 [.ref (gadr Γ (5, 0, 0)), .int x1, .int x2, .int x3]) (by decide +kernel) rfl (Nat.le_of_ble_eq_true rfl) rfl (fun X e1 e2 e3 e4 hC => ?_) r hr
  subst e1
  subst e2
  exact wX8_tries hC hG e4 fu M x1 x2 x3
set_option linter.unusedVariables false in
set_option maxRecDepth 100000 in
theorem wX8_trial_57 {X : JX} (hC : JC X cX8_trial RX8 (some .int) 10 223 0 0) (hG : dmI dmM (XG X)) (hnl : nLof X = 6) (fu : Nat) (M : Mem) : J X (ZN X foI) (FX8_trial_57 fu (XD X) M) 57 [] [] M 0 0 := by
  unfold FX8_trial_57
  refine j_iconst (v := 0) hC dX8_trial_57 (by decide) ?_
  exact j_iret hC dX8_trial_58
set_option linter.unusedVariables false in
set_option maxRecDepth 100000 in
theorem wX8_trial_50 {X : JX} (hC : JC X cX8_trial RX8 (some .int) 10 223 0 0) (hG : dmI dmM (XG X)) (hnl : nLof X = 6) (fu : Nat) (M : Mem) (x1 x2 x3 t0 : Int32) : J X (ZN X foI) (FX8_trial_50 fu (XD X) M x1 x2 x3 t0) 50 [(0, .ref (gadr (XG X) (5, 0, 0))), (1, .int x1), (2, .int x2), (3, .int x3)] [.int t0, .ref (gadr (XG X) (5, 0, 0))] M 0 0 := by
  unfold FX8_trial_50
  refine j_iconst (v := 2) hC dX8_trial_50 (by decide) ?_
  refine j_callV (nA := 2) (rest := []) hC [.int t0, .int 2] rfl (fun r hr => mX8_throwsIf (XL X) (XG X) hG fu (XD X) M t0 2 r hr) q1748 q1750 qs76 q136 q1751 (dmMo hG rfl) rfl rfl (by decide +kernel) rfl rfl rfl rfl rfl rfl dX8_trial_51 (fun v51 => [.int v51]) (fun _ => rfl) (fun v51 M51 => ?_)
  refine j_if_eq (tgt := 59) hC dX8_trial_54 (by decide) (fun h54 => ?_) (fun h54 => ?_)
  · refine j_aload_n hC 0 dX8_trial_59 rfl ?_
    refine j_getR (fk := 1) hC (dmMo hG rfl) rfl rfl in_X8 rfl rfl q1465 rfl dX8_trial_60 ?_
    refine j_bipush (v := 12) hC dX8_trial_63 (by decide) ?_
    refine j_iald hC (dmMo hG rfl) rfl dX8_trial_65 (fun h65 => ?_)
    refine j_ltT (fun y66 => ?_)
    refine j_istore hC [(4, .int y66), (0, .ref (gadr (XG X) (5, 0, 0))), (1, .int x1), (2, .int x2), (3, .int x3)] hnl dX8_trial_66 rfl rfl ?_
    refine j_aload_n hC 1 dX8_trial_68 rfl ?_
    refine j_iload_n hC 2 dX8_trial_69 rfl ?_
    refine j_iload_n hC 3 dX8_trial_70 rfl ?_
    refine j_iload_n hC 4 dX8_trial_71 rfl ?_
    refine j_callV (nA := 3) (rest := []) hC [.int x1, .int x2, .int x3] rfl (fun r hr => mX8_tries (XL X) (XG X) hG fu (XD X) M51 x1 x2 x3 r hr) q2077 q2079 qs121 q136 q2080 (dmMo hG rfl) rfl rfl (by decide +kernel) rfl rfl rfl rfl rfl rfl dX8_trial_72 (fun v72 => [.int v72]) (fun _ => rfl) (fun v72 M72 => ?_)
    refine j_istore hC [(5, .int v72), (4, .int y66), (0, .ref (gadr (XG X) (5, 0, 0))), (1, .int x1), (2, .int x2), (3, .int x3)] hnl dX8_trial_75 rfl rfl ?_
    refine j_aload_n hC 2 dX8_trial_77 rfl ?_
    refine j_getR (fk := 1) hC (dmMo hG rfl) rfl rfl in_X8 rfl rfl q1465 rfl dX8_trial_78 ?_
    refine j_bipush (v := 12) hC dX8_trial_81 (by decide) ?_
    refine j_iload hC 1 dX8_trial_83 rfl ?_
    refine j_iast hC (dmMo hG rfl) rfl dX8_trial_85 (fun h85 => ?_)
    refine j_lt (fun M85 => ?_)
    refine j_iload hC 0 dX8_trial_86 rfl ?_
    exact j_iret hC dX8_trial_88
  · exact j_sub [] rfl (wX8_trial_57 hC hG hnl fu M51)
set_option linter.unusedVariables false in
set_option maxRecDepth 100000 in
theorem wX8_trial_27 {X : JX} (hC : JC X cX8_trial RX8 (some .int) 10 223 0 0) (hG : dmI dmM (XG X)) (hnl : nLof X = 6) (fu : Nat) (M : Mem) (x1 x2 x3 t0 : Int32) : J X (ZN X foI) (FX8_trial_27 fu (XD X) M x1 x2 x3 t0) 27 [(0, .ref (gadr (XG X) (5, 0, 0))), (1, .int x1), (2, .int x2), (3, .int x3)] [.int t0, .ref (gadr (XG X) (5, 0, 0))] M 0 0 := by
  unfold FX8_trial_27
  refine j_iconst (v := 1) hC dX8_trial_27 (by decide) ?_
  refine j_callV (nA := 2) (rest := []) hC [.int t0, .int 1] rfl (fun r hr => mX8_throwsIf (XL X) (XG X) hG fu (XD X) M t0 1 r hr) q1748 q1750 qs76 q136 q1751 (dmMo hG rfl) rfl rfl (by decide +kernel) rfl rfl rfl rfl rfl rfl dX8_trial_28 (fun v28 => [.int v28]) (fun _ => rfl) (fun v28 M28 => ?_)
  refine j_if_ne (tgt := 57) hC dX8_trial_31 (by decide) (fun h31 => ?_) (fun h31 => ?_)
  · refine j_aload_n hC 0 dX8_trial_34 rfl ?_
    refine j_iload_n hC 3 dX8_trial_35 rfl ?_
    refine j_iconst (v := 0) hC dX8_trial_36 (by decide) ?_
    refine j_bipush (v := 40) hC dX8_trial_37 (by decide) ?_
    refine j_callS (nA := 3) (rest := [.ref (gadr (XG X) (5, 0, 0))]) hC [.int x3, .int 0, .int 40] rfl (fun r hr => mX8_in (XL X) (XG X) hG fu (XD X) M28 x3 0 40 r hr) q1641 q1642 q136 q1643 (by decide +kernel) rfl rfl rfl rfl rfl rfl dX8_trial_39 (fun v39 => [.int v39, .ref (gadr (XG X) (5, 0, 0))]) (fun _ => rfl) (fun v39 M39 => ?_)
    refine j_if_ne (tgt := 49) hC dX8_trial_42 (by decide) (fun h42 => ?_) (fun h42 => ?_)
    · refine j_iconst (v := 1) hC dX8_trial_45 (by decide) ?_
      refine j_goto (tgt := 50) hC dX8_trial_46 (by decide) ?_
      exact j_sub [0, 1, 2, 3] rfl (wX8_trial_50 hC hG hnl fu M39 x1 x2 x3 1)
    · refine j_iconst (v := 0) hC dX8_trial_49 (by decide) ?_
      exact j_sub [0, 1, 2, 3] rfl (wX8_trial_50 hC hG hnl fu M39 x1 x2 x3 0)
  · exact j_sub [] rfl (wX8_trial_57 hC hG hnl fu M28)
set_option linter.unusedVariables false in
set_option maxRecDepth 100000 in
theorem wX8_trial_22 {X : JX} (hC : JC X cX8_trial RX8 (some .int) 10 223 0 0) (hG : dmI dmM (XG X)) (hnl : nLof X = 6) (fu : Nat) (M : Mem) (x1 x2 x3 : Int32) : J X (ZN X foI) (FX8_trial_22 fu (XD X) M x1 x2 x3) 22 [(0, .ref (gadr (XG X) (5, 0, 0))), (1, .int x1), (2, .int x2), (3, .int x3)] [.ref (gadr (XG X) (5, 0, 0))] M 0 0 := by
  unfold FX8_trial_22
  refine j_iconst (v := 1) hC dX8_trial_22 (by decide) ?_
  refine j_goto (tgt := 27) hC dX8_trial_23 (by decide) ?_
  exact j_sub [0, 1, 2, 3] rfl (wX8_trial_27 hC hG hnl fu M x1 x2 x3 1)
set_option linter.unusedVariables false in
set_option maxRecDepth 100000 in
theorem wX8_trial {X : JX} (hC : JC X cX8_trial RX8 (some .int) 10 223 0 0) (hG : dmI dmM (XG X)) (hnl : nLof X = 6) (fu : Nat) (M : Mem) (x1 x2 x3 : Int32) : J X (ZN X foI) (FX8_trial fu (XD X) M x1 x2 x3) 0 [(0, .ref (gadr (XG X) (5, 0, 0))), (1, .int x1), (2, .int x2), (3, .int x3)] [] M 0 0 := by
  unfold FX8_trial
  refine j_aload_n hC 0 dX8_trial_0 rfl ?_
  refine j_iconst (v := 0) hC dX8_trial_1 (by decide) ?_
  refine j_put (fk := 0) (ty := .int) hC (dmMo hG rfl) rfl rfl in_X8 rfl rfl q1464 tyX8 tyX8_ok nmX8 rfl rfl (by decide +kernel) rfl rfl dX8_trial_2 ?_
  refine j_lt (fun M2 => ?_)
  refine j_aload_n hC 0 dX8_trial_5 rfl ?_
  refine j_aload_n hC 0 dX8_trial_6 rfl ?_
  refine j_iload_n hC 1 dX8_trial_7 rfl ?_
  refine j_callV (nA := 1) (rest := [.ref (gadr (XG X) (5, 0, 0))]) hC [.int x1] rfl (fun r hr => mX8_noBird (XL X) (XG X) hG fu (XD X) M2 x1 r hr) q1760 q1762 qs77 q136 q1763 (dmMo hG rfl) rfl rfl (by decide +kernel) rfl rfl rfl rfl rfl rfl dX8_trial_8 (fun v8 => [.int v8, .ref (gadr (XG X) (5, 0, 0))]) (fun _ => rfl) (fun v8 M8 => ?_)
  refine j_if_ne (tgt := 22) hC dX8_trial_11 (by decide) (fun h11 => ?_) (fun h11 => ?_)
  · refine j_aload_n hC 0 dX8_trial_14 rfl ?_
    refine j_iload_n hC 2 dX8_trial_15 rfl ?_
    refine j_callV (nA := 1) (rest := [.ref (gadr (XG X) (5, 0, 0))]) hC [.int x2] rfl (fun r hr => mX8_noBird (XL X) (XG X) hG fu (XD X) M8 x2 r hr) q1760 q1762 qs77 q136 q1763 (dmMo hG rfl) rfl rfl (by decide +kernel) rfl rfl rfl rfl rfl rfl dX8_trial_16 (fun v16 => [.int v16, .ref (gadr (XG X) (5, 0, 0))]) (fun _ => rfl) (fun v16 M16 => ?_)
    refine j_if_eq (tgt := 26) hC dX8_trial_19 (by decide) (fun h19 => ?_) (fun h19 => ?_)
    · refine j_iconst (v := 0) hC dX8_trial_26 (by decide) ?_
      exact j_sub [0, 1, 2, 3] rfl (wX8_trial_27 hC hG hnl fu M16 x1 x2 x3 0)
    · exact j_sub [0, 1, 2, 3] rfl (wX8_trial_22 hC hG hnl fu M16 x1 x2 x3)
  · exact j_sub [0, 1, 2, 3] rfl (wX8_trial_22 hC hG hnl fu M8 x1 x2 x3)
set_option linter.unusedVariables false in
set_option maxRecDepth 100000 in
theorem mX8_trial (l : Launch) (Γ : xG) (hG : dmI dmM Γ) (fu : Nat) (D : List LDen) (M : Mem) (x1 x2 x3 : Int32) (r : Int32 × Mem) (hr : FX8_trial fu D M x1 x2 x3 = some r) : CN l yX8_trial (ws_ yX8_trial cX8_trial 6 (some .int)) 10 223 Γ D [.ref (gadr Γ (5, 0, 0)), .int x1, .int x2, .int x3] M (foI r.1) r.2 := by
  refine CN.of (own := RX8) (lv0 := lv_args 0 [.ref (gadr Γ (5, 0, 0)), .int x1, .int x2, .int x3]) (by decide +kernel) rfl (Nat.le_of_ble_eq_true rfl) rfl (fun X e1 e2 e3 e4 hC => ?_) r hr
  subst e1
  subst e2
  exact wX8_trial hC hG e4 fu M x1 x2 x3
set_option linter.unusedVariables false in
set_option maxRecDepth 100000 in
theorem wX8_span_57 {X : JX} (hC : JC X cX8_span RX8 (some .int) 10 223 0 0) (hG : dmI dmM (XG X)) (hnl : nLof X = 9) (fu : Nat) (M : Mem) : J X (ZN X foI) (FX8_span_57 fu (XD X) M) 57 [] [] M 0 0 := by
  unfold FX8_span_57
  refine j_iconst (v := 0) hC dX8_span_57 (by decide) ?_
  exact j_iret hC dX8_span_58
set_option linter.unusedVariables false in
set_option maxRecDepth 100000 in
theorem wX8_span_131 {X : JX} (hC : JC X cX8_span RX8 (some .int) 10 223 0 0) (hG : dmI dmM (XG X)) (hnl : nLof X = 9) (fu : Nat) (kn74 : Mem × Int32 × Int32 × Int32 × Int32 × Int32 × Int32 × Int32 → Option (Int32 × Mem)) (hk74 : ∀ (M : Mem) (x1 x2 x3 x4 x5 x6 x7 : Int32), J X (ZN X foI) (kn74 (M, x1, x2, x3, x4, x5, x6, x7)) 74 [(0, .ref (gadr (XG X) (5, 0, 0))), (1, .int x1), (2, .int x2), (3, .int x3), (4, .int x4), (5, .int x5), (6, .int x6), (7, .int x7)] [] M 0 0) (M : Mem) (x1 x2 x3 x4 x5 x7 t0 : Int32) : J X (ZN X foI) (FX8_span_131 fu (XD X) kn74 M x1 x2 x3 x4 x5 x7 t0) 131 [(0, .ref (gadr (XG X) (5, 0, 0))), (1, .int x1), (2, .int x2), (3, .int x3), (4, .int x4), (5, .int x5), (7, .int x7)] [.int t0] M 0 0 := by
  unfold FX8_span_131
  refine j_istore hC [(6, .int t0), (0, .ref (gadr (XG X) (5, 0, 0))), (1, .int x1), (2, .int x2), (3, .int x3), (4, .int x4), (5, .int x5), (7, .int x7)] hnl dX8_span_131 rfl rfl ?_
  refine j_iincL hC 7 (fun y133 => [(7, .int y133), (6, .int t0), (0, .ref (gadr (XG X) (5, 0, 0))), (1, .int x1), (2, .int x2), (3, .int x3), (4, .int x4), (5, .int x5)]) hnl dX8_span_133 rfl (by decide) rfl (fun _ => rfl) (fun y133 => ?_)
  refine j_goto (tgt := 74) hC dX8_span_136 (by decide) ?_
  exact j_sub [2, 3, 4, 5, 6, 7, 1, 0] rfl (hk74 M x1 x2 x3 x4 x5 t0 y133)
set_option linter.unusedVariables false in
set_option maxRecDepth 100000 in
theorem wgX8_span_74 {X : JX} (hC : JC X cX8_span RX8 (some .int) 10 223 0 0) (hG : dmI dmM (XG X)) (hnl : nLof X = 9) (fu : Nat) (kn74 : Mem × Int32 × Int32 × Int32 × Int32 × Int32 × Int32 × Int32 → Option (Int32 × Mem)) (hk74 : ∀ (M : Mem) (x1 x2 x3 x4 x5 x6 x7 : Int32), J X (ZN X foI) (kn74 (M, x1, x2, x3, x4, x5, x6, x7)) 74 [(0, .ref (gadr (XG X) (5, 0, 0))), (1, .int x1), (2, .int x2), (3, .int x3), (4, .int x4), (5, .int x5), (6, .int x6), (7, .int x7)] [] M 0 0) (M : Mem) (x1 x2 x3 x4 x5 x6 x7 : Int32) : J X (ZN X foI) (GX8_span_74 fu (XD X) kn74 M x1 x2 x3 x4 x5 x6 x7) 74 [(0, .ref (gadr (XG X) (5, 0, 0))), (1, .int x1), (2, .int x2), (3, .int x3), (4, .int x4), (5, .int x5), (6, .int x6), (7, .int x7)] [] M 0 0 := by
  unfold GX8_span_74
  refine j_iload hC 7 dX8_span_74 rfl ?_
  refine j_bipush (v := 6) hC dX8_span_76 (by decide) ?_
  refine j_icmp_gt (tgt := 139) hC dX8_span_78 (by decide) (fun h78 => ?_) (fun h78 => ?_)
  · refine j_aload_n hC 0 dX8_span_139 rfl ?_
    refine j_getR (fk := 1) hC (dmMo hG rfl) rfl rfl in_X8 rfl rfl q1465 rfl dX8_span_140 ?_
    refine j_bipush (v := 12) hC dX8_span_143 (by decide) ?_
    refine j_iload hC 5 dX8_span_145 rfl ?_
    refine j_iast hC (dmMo hG rfl) rfl dX8_span_147 (fun h147 => ?_)
    refine j_lt (fun M147 => ?_)
    refine j_iload hC 6 dX8_span_148 rfl ?_
    exact j_iret hC dX8_span_150
  · refine j_aload_n hC 0 dX8_span_81 rfl ?_
    refine j_getR (fk := 1) hC (dmMo hG rfl) rfl rfl in_X8 rfl rfl q1465 rfl dX8_span_82 ?_
    refine j_bipush (v := 12) hC dX8_span_85 (by decide) ?_
    refine j_iload hC 7 dX8_span_87 rfl ?_
    refine j_iast hC (dmMo hG rfl) rfl dX8_span_89 (fun h89 => ?_)
    refine j_lt (fun M89 => ?_)
    refine j_aload_n hC 0 dX8_span_90 rfl ?_
    refine j_iload_n hC 1 dX8_span_91 rfl ?_
    refine j_iload_n hC 2 dX8_span_92 rfl ?_
    refine j_iload_n hC 3 dX8_span_93 rfl ?_
    refine j_callV (nA := 3) (rest := []) hC [.int x1, .int x2, .int x3] rfl (fun r hr => mX8_tries (XL X) (XG X) hG fu (XD X) M89 x1 x2 x3 r hr) q2077 q2079 qs121 q136 q2080 (dmMo hG rfl) rfl rfl (by decide +kernel) rfl rfl rfl rfl rfl rfl dX8_span_94 (fun v94 => [.int v94]) (fun _ => rfl) (fun v94 M94 => ?_)
    refine j_istore hC [(8, .int v94), (0, .ref (gadr (XG X) (5, 0, 0))), (1, .int x1), (2, .int x2), (3, .int x3), (4, .int x4), (5, .int x5), (6, .int x6), (7, .int x7)] hnl dX8_span_97 rfl rfl ?_
    refine j_iload hC 7 dX8_span_99 rfl ?_
    refine j_if_ge (tgt := 109) hC dX8_span_101 (by decide) (fun h101 => ?_) (fun h101 => ?_)
    · refine j_iload hC 5 dX8_span_109 rfl ?_
      refine j_if_eq (tgt := 124) hC dX8_span_111 (by decide) (fun h111 => ?_) (fun h111 => ?_)
      · refine j_iload hC 7 dX8_span_124 rfl ?_
        refine j_iload hC 0 dX8_span_126 rfl ?_
        refine j_min hC q1802 q640 q155 q641 dX8_span_128 rfl (Nat.le_of_ble_eq_true rfl) (Nat.le_of_ble_eq_true rfl) (Nat.le_of_ble_eq_true rfl) ?_
        exact j_sub [1, 2, 3, 4, 5, 6, 8] rfl (wX8_span_131 hC hG hnl fu kn74 hk74 M94 x1 x2 x3 x4 x5 x7 (mn x6 v94))
      · refine j_iload hC 7 dX8_span_114 rfl ?_
        refine j_iload hC 0 dX8_span_116 rfl ?_
        refine j_max hC q1803 q643 q155 q644 dX8_span_118 rfl (Nat.le_of_ble_eq_true rfl) (Nat.le_of_ble_eq_true rfl) (Nat.le_of_ble_eq_true rfl) ?_
        refine j_goto (tgt := 131) hC dX8_span_121 (by decide) ?_
        exact j_sub [1, 2, 3, 4, 5, 6, 8] rfl (wX8_span_131 hC hG hnl fu kn74 hk74 M94 x1 x2 x3 x4 x5 x7 (mx x6 v94))
    · refine j_iload hC 0 dX8_span_104 rfl ?_
      refine j_goto (tgt := 131) hC dX8_span_106 (by decide) ?_
      exact j_sub [1, 2, 3, 4, 5, 6, 8] rfl (wX8_span_131 hC hG hnl fu kn74 hk74 M94 x1 x2 x3 x4 x5 x7 v94)
set_option linter.unusedVariables false in
set_option maxRecDepth 100000 in
theorem wX8_span_74 {X : JX} (hC : JC X cX8_span RX8 (some .int) 10 223 0 0) (hG : dmI dmM (XG X)) (hnl : nLof X = 9) (fu : Nat) (M : Mem) (x1 x2 x3 x4 x5 x6 x7 : Int32) : J X (ZN X foI) (FX8_span_74 fu (XD X) M x1 x2 x3 x4 x5 x6 x7) 74 [(0, .ref (gadr (XG X) (5, 0, 0))), (1, .int x1), (2, .int x2), (3, .int x3), (4, .int x4), (5, .int x5), (6, .int x6), (7, .int x7)] [] M 0 0 := by
  exact j_lp (lvf := fun z => [(0, .ref (gadr (XG X) (5, 0, 0))), (1, .int (z.2.1)), (2, .int (z.2.2.1)), (3, .int (z.2.2.2.1)), (4, .int (z.2.2.2.2.1)), (5, .int (z.2.2.2.2.2.1)), (6, .int (z.2.2.2.2.2.2.1)), (7, .int (z.2.2.2.2.2.2.2))]) (Mf := fun z => z.1) (fun kn hk z => wgX8_span_74 hC hG hnl fu kn (fun M x1 x2 x3 x4 x5 x6 x7 => hk (M, x1, x2, x3, x4, x5, x6, x7)) z.1 z.2.1 z.2.2.1 z.2.2.2.1 z.2.2.2.2.1 z.2.2.2.2.2.1 z.2.2.2.2.2.2.1 z.2.2.2.2.2.2.2) fu (M, x1, x2, x3, x4, x5, x6, x7)
set_option linter.unusedVariables false in
set_option maxRecDepth 100000 in
theorem wX8_span_50 {X : JX} (hC : JC X cX8_span RX8 (some .int) 10 223 0 0) (hG : dmI dmM (XG X)) (hnl : nLof X = 9) (fu : Nat) (M : Mem) (x1 x2 x3 x4 t0 : Int32) : J X (ZN X foI) (FX8_span_50 fu (XD X) M x1 x2 x3 x4 t0) 50 [(0, .ref (gadr (XG X) (5, 0, 0))), (1, .int x1), (2, .int x2), (3, .int x3), (4, .int x4)] [.int t0, .ref (gadr (XG X) (5, 0, 0))] M 0 0 := by
  unfold FX8_span_50
  refine j_iconst (v := 2) hC dX8_span_50 (by decide) ?_
  refine j_callV (nA := 2) (rest := []) hC [.int t0, .int 2] rfl (fun r hr => mX8_throwsIf (XL X) (XG X) hG fu (XD X) M t0 2 r hr) q1748 q1750 qs76 q136 q1751 (dmMo hG rfl) rfl rfl (by decide +kernel) rfl rfl rfl rfl rfl rfl dX8_span_51 (fun v51 => [.int v51]) (fun _ => rfl) (fun v51 M51 => ?_)
  refine j_if_eq (tgt := 59) hC dX8_span_54 (by decide) (fun h54 => ?_) (fun h54 => ?_)
  · refine j_aload_n hC 0 dX8_span_59 rfl ?_
    refine j_getR (fk := 1) hC (dmMo hG rfl) rfl rfl in_X8 rfl rfl q1465 rfl dX8_span_60 ?_
    refine j_bipush (v := 12) hC dX8_span_63 (by decide) ?_
    refine j_iald hC (dmMo hG rfl) rfl dX8_span_65 (fun h65 => ?_)
    refine j_ltT (fun y66 => ?_)
    refine j_istore hC [(5, .int y66), (0, .ref (gadr (XG X) (5, 0, 0))), (1, .int x1), (2, .int x2), (3, .int x3), (4, .int x4)] hnl dX8_span_66 rfl rfl ?_
    refine j_iconst (v := (-1)) hC dX8_span_68 (by decide) ?_
    refine j_istore hC [(6, .int ((-1))), (5, .int y66), (0, .ref (gadr (XG X) (5, 0, 0))), (1, .int x1), (2, .int x2), (3, .int x3), (4, .int x4)] hnl dX8_span_69 rfl rfl ?_
    refine j_iconst (v := 1) hC dX8_span_71 (by decide) ?_
    refine j_istore hC [(7, .int 1), (6, .int ((-1))), (5, .int y66), (0, .ref (gadr (XG X) (5, 0, 0))), (1, .int x1), (2, .int x2), (3, .int x3), (4, .int x4)] hnl dX8_span_72 rfl rfl ?_
    exact j_sub [3, 4, 5, 6, 7, 2, 1, 0] rfl (wX8_span_74 hC hG hnl fu M51 x1 x2 x3 x4 y66 (-1) 1)
  · exact j_sub [] rfl (wX8_span_57 hC hG hnl fu M51)
set_option linter.unusedVariables false in
set_option maxRecDepth 100000 in
theorem wX8_span_27 {X : JX} (hC : JC X cX8_span RX8 (some .int) 10 223 0 0) (hG : dmI dmM (XG X)) (hnl : nLof X = 9) (fu : Nat) (M : Mem) (x1 x2 x3 x4 t0 : Int32) : J X (ZN X foI) (FX8_span_27 fu (XD X) M x1 x2 x3 x4 t0) 27 [(0, .ref (gadr (XG X) (5, 0, 0))), (1, .int x1), (2, .int x2), (3, .int x3), (4, .int x4)] [.int t0, .ref (gadr (XG X) (5, 0, 0))] M 0 0 := by
  unfold FX8_span_27
  refine j_iconst (v := 1) hC dX8_span_27 (by decide) ?_
  refine j_callV (nA := 2) (rest := []) hC [.int t0, .int 1] rfl (fun r hr => mX8_throwsIf (XL X) (XG X) hG fu (XD X) M t0 1 r hr) q1748 q1750 qs76 q136 q1751 (dmMo hG rfl) rfl rfl (by decide +kernel) rfl rfl rfl rfl rfl rfl dX8_span_28 (fun v28 => [.int v28]) (fun _ => rfl) (fun v28 M28 => ?_)
  refine j_if_ne (tgt := 57) hC dX8_span_31 (by decide) (fun h31 => ?_) (fun h31 => ?_)
  · refine j_aload_n hC 0 dX8_span_34 rfl ?_
    refine j_iload_n hC 3 dX8_span_35 rfl ?_
    refine j_iconst (v := 0) hC dX8_span_36 (by decide) ?_
    refine j_bipush (v := 40) hC dX8_span_37 (by decide) ?_
    refine j_callS (nA := 3) (rest := [.ref (gadr (XG X) (5, 0, 0))]) hC [.int x3, .int 0, .int 40] rfl (fun r hr => mX8_in (XL X) (XG X) hG fu (XD X) M28 x3 0 40 r hr) q1641 q1642 q136 q1643 (by decide +kernel) rfl rfl rfl rfl rfl rfl dX8_span_39 (fun v39 => [.int v39, .ref (gadr (XG X) (5, 0, 0))]) (fun _ => rfl) (fun v39 M39 => ?_)
    refine j_if_ne (tgt := 49) hC dX8_span_42 (by decide) (fun h42 => ?_) (fun h42 => ?_)
    · refine j_iconst (v := 1) hC dX8_span_45 (by decide) ?_
      refine j_goto (tgt := 50) hC dX8_span_46 (by decide) ?_
      exact j_sub [0, 1, 2, 3, 4] rfl (wX8_span_50 hC hG hnl fu M39 x1 x2 x3 x4 1)
    · refine j_iconst (v := 0) hC dX8_span_49 (by decide) ?_
      exact j_sub [0, 1, 2, 3, 4] rfl (wX8_span_50 hC hG hnl fu M39 x1 x2 x3 x4 0)
  · exact j_sub [] rfl (wX8_span_57 hC hG hnl fu M28)
set_option linter.unusedVariables false in
set_option maxRecDepth 100000 in
theorem wX8_span_22 {X : JX} (hC : JC X cX8_span RX8 (some .int) 10 223 0 0) (hG : dmI dmM (XG X)) (hnl : nLof X = 9) (fu : Nat) (M : Mem) (x1 x2 x3 x4 : Int32) : J X (ZN X foI) (FX8_span_22 fu (XD X) M x1 x2 x3 x4) 22 [(0, .ref (gadr (XG X) (5, 0, 0))), (1, .int x1), (2, .int x2), (3, .int x3), (4, .int x4)] [.ref (gadr (XG X) (5, 0, 0))] M 0 0 := by
  unfold FX8_span_22
  refine j_iconst (v := 1) hC dX8_span_22 (by decide) ?_
  refine j_goto (tgt := 27) hC dX8_span_23 (by decide) ?_
  exact j_sub [0, 1, 2, 3, 4] rfl (wX8_span_27 hC hG hnl fu M x1 x2 x3 x4 1)
set_option linter.unusedVariables false in
set_option maxRecDepth 100000 in
theorem wX8_span {X : JX} (hC : JC X cX8_span RX8 (some .int) 10 223 0 0) (hG : dmI dmM (XG X)) (hnl : nLof X = 9) (fu : Nat) (M : Mem) (x1 x2 x3 x4 : Int32) : J X (ZN X foI) (FX8_span fu (XD X) M x1 x2 x3 x4) 0 [(0, .ref (gadr (XG X) (5, 0, 0))), (1, .int x1), (2, .int x2), (3, .int x3), (4, .int x4)] [] M 0 0 := by
  unfold FX8_span
  refine j_aload_n hC 0 dX8_span_0 rfl ?_
  refine j_iconst (v := 0) hC dX8_span_1 (by decide) ?_
  refine j_put (fk := 0) (ty := .int) hC (dmMo hG rfl) rfl rfl in_X8 rfl rfl q1464 tyX8 tyX8_ok nmX8 rfl rfl (by decide +kernel) rfl rfl dX8_span_2 ?_
  refine j_lt (fun M2 => ?_)
  refine j_aload_n hC 0 dX8_span_5 rfl ?_
  refine j_aload_n hC 0 dX8_span_6 rfl ?_
  refine j_iload_n hC 1 dX8_span_7 rfl ?_
  refine j_callV (nA := 1) (rest := [.ref (gadr (XG X) (5, 0, 0))]) hC [.int x1] rfl (fun r hr => mX8_noBird (XL X) (XG X) hG fu (XD X) M2 x1 r hr) q1760 q1762 qs77 q136 q1763 (dmMo hG rfl) rfl rfl (by decide +kernel) rfl rfl rfl rfl rfl rfl dX8_span_8 (fun v8 => [.int v8, .ref (gadr (XG X) (5, 0, 0))]) (fun _ => rfl) (fun v8 M8 => ?_)
  refine j_if_ne (tgt := 22) hC dX8_span_11 (by decide) (fun h11 => ?_) (fun h11 => ?_)
  · refine j_aload_n hC 0 dX8_span_14 rfl ?_
    refine j_iload_n hC 2 dX8_span_15 rfl ?_
    refine j_callV (nA := 1) (rest := [.ref (gadr (XG X) (5, 0, 0))]) hC [.int x2] rfl (fun r hr => mX8_noBird (XL X) (XG X) hG fu (XD X) M8 x2 r hr) q1760 q1762 qs77 q136 q1763 (dmMo hG rfl) rfl rfl (by decide +kernel) rfl rfl rfl rfl rfl rfl dX8_span_16 (fun v16 => [.int v16, .ref (gadr (XG X) (5, 0, 0))]) (fun _ => rfl) (fun v16 M16 => ?_)
    refine j_if_eq (tgt := 26) hC dX8_span_19 (by decide) (fun h19 => ?_) (fun h19 => ?_)
    · refine j_iconst (v := 0) hC dX8_span_26 (by decide) ?_
      exact j_sub [0, 1, 2, 3, 4] rfl (wX8_span_27 hC hG hnl fu M16 x1 x2 x3 x4 0)
    · exact j_sub [0, 1, 2, 3, 4] rfl (wX8_span_22 hC hG hnl fu M16 x1 x2 x3 x4)
  · exact j_sub [0, 1, 2, 3, 4] rfl (wX8_span_22 hC hG hnl fu M8 x1 x2 x3 x4)
set_option linter.unusedVariables false in
set_option maxRecDepth 100000 in
theorem mX8_span (l : Launch) (Γ : xG) (hG : dmI dmM Γ) (fu : Nat) (D : List LDen) (M : Mem) (x1 x2 x3 x4 : Int32) (r : Int32 × Mem) (hr : FX8_span fu D M x1 x2 x3 x4 = some r) : CN l yX8_span (ws_ yX8_span cX8_span 9 (some .int)) 10 223 Γ D [.ref (gadr Γ (5, 0, 0)), .int x1, .int x2, .int x3, .int x4] M (foI r.1) r.2 := by
  refine CN.of (own := RX8) (lv0 := lv_args 0 [.ref (gadr Γ (5, 0, 0)), .int x1, .int x2, .int x3, .int x4]) (by decide +kernel) rfl (Nat.le_of_ble_eq_true rfl) rfl (fun X e1 e2 e3 e4 hC => ?_) r hr
  subst e1
  subst e2
  exact wX8_span hC hG e4 fu M x1 x2 x3 x4
set_option linter.unusedVariables false in
set_option maxRecDepth 100000 in
theorem wX8_ofLog {X : JX} (hC : JC X cX8_ofLog RX8 (some .int) 1 12 0 0) (hG : dmI dmM (XG X)) (hnl : nLof X = 3) (fu : Nat) (M : Mem) (x1 x2 : Int32) : J X (ZN X foI) (FX8_ofLog fu (XD X) M x1 x2) 0 [(0, .ref (gadr (XG X) (5, 0, 0))), (1, .int x1), (2, .int x2)] [] M 0 0 := by
  unfold FX8_ofLog
  refine j_aload_n hC 0 dX8_ofLog_0 rfl ?_
  refine j_getR (fk := 1) hC (dmMo hG rfl) rfl rfl in_X8 rfl rfl q1465 rfl dX8_ofLog_1 ?_
  refine j_bipush (v := 122) hC dX8_ofLog_4 (by decide) ?_
  refine j_bipush (v := 6) hC dX8_ofLog_6 (by decide) ?_
  refine j_iload_n hC 1 dX8_ofLog_8 rfl ?_
  refine j_imul hC dX8_ofLog_9 ?_
  refine j_iadd hC dX8_ofLog_10 ?_
  refine j_iload_n hC 2 dX8_ofLog_11 rfl ?_
  refine j_iadd hC dX8_ofLog_12 ?_
  refine j_iald hC (dmMo hG rfl) rfl dX8_ofLog_13 (fun h13 => ?_)
  exact j_iret hC dX8_ofLog_14
set_option linter.unusedVariables false in
set_option maxRecDepth 100000 in
theorem mX8_ofLog (l : Launch) (Γ : xG) (hG : dmI dmM Γ) (fu : Nat) (D : List LDen) (M : Mem) (x1 x2 : Int32) (r : Int32 × Mem) (hr : FX8_ofLog fu D M x1 x2 = some r) : CN l yX8_ofLog (ws_ yX8_ofLog cX8_ofLog 3 (some .int)) 1 12 Γ D [.ref (gadr Γ (5, 0, 0)), .int x1, .int x2] M (foI r.1) r.2 := by
  refine CN.of (own := RX8) (lv0 := lv_args 0 [.ref (gadr Γ (5, 0, 0)), .int x1, .int x2]) (by decide +kernel) rfl (Nat.le_of_ble_eq_true rfl) rfl (fun X e1 e2 e3 e4 hC => ?_) r hr
  subst e1
  subst e2
  exact wX8_ofLog hC hG e4 fu M x1 x2
set_option linter.unusedVariables false in
set_option maxRecDepth 100000 in
theorem wX8_led_145 {X : JX} (hC : JC X cX8_led RX8 (some .int) 3 55 0 0) (hG : dmI dmM (XG X)) (hnl : nLof X = 8) (fu : Nat) (kn25 : Mem × Int32 × Int32 × Int32 × Int32 → Option (Int32 × Mem)) (hk25 : ∀ (M : Mem) (x1 x2 x3 x4 : Int32), J X (ZN X foI) (kn25 (M, x1, x2, x3, x4)) 25 [(0, .ref (gadr (XG X) (5, 0, 0))), (1, .int x1), (2, .int x2), (3, .int x3), (4, .int x4)] [] M 0 0) (M : Mem) (x1 x2 x4 t0 t1 : Int32) : J X (ZN X foI) (FX8_led_145 fu (XD X) kn25 M x1 x2 x4 t0 t1) 145 [(0, .ref (gadr (XG X) (5, 0, 0))), (1, .int x1), (2, .int x2), (4, .int x4)] [.int t0, .int t1] M 0 0 := by
  unfold FX8_led_145
  refine j_iadd hC dX8_led_145 ?_
  refine j_ltT (fun y146 => ?_)
  refine j_istore_n hC [(3, .int y146), (0, .ref (gadr (XG X) (5, 0, 0))), (1, .int x1), (2, .int x2), (4, .int x4)] hnl dX8_led_146 rfl rfl ?_
  refine j_iincL hC 4 (fun y147 => [(4, .int y147), (3, .int y146), (0, .ref (gadr (XG X) (5, 0, 0))), (1, .int x1), (2, .int x2)]) hnl dX8_led_147 rfl (by decide) rfl (fun _ => rfl) (fun y147 => ?_)
  refine j_goto (tgt := 25) hC dX8_led_150 (by decide) ?_
  exact j_sub [2, 3, 4, 1, 0] rfl (hk25 M x1 x2 y146 y147)
set_option linter.unusedVariables false in
set_option maxRecDepth 100000 in
theorem wX8_led_140 {X : JX} (hC : JC X cX8_led RX8 (some .int) 3 55 0 0) (hG : dmI dmM (XG X)) (hnl : nLof X = 8) (fu : Nat) (kn25 : Mem × Int32 × Int32 × Int32 × Int32 → Option (Int32 × Mem)) (hk25 : ∀ (M : Mem) (x1 x2 x3 x4 : Int32), J X (ZN X foI) (kn25 (M, x1, x2, x3, x4)) 25 [(0, .ref (gadr (XG X) (5, 0, 0))), (1, .int x1), (2, .int x2), (3, .int x3), (4, .int x4)] [] M 0 0) (M : Mem) (x1 x2 x4 t0 : Int32) : J X (ZN X foI) (FX8_led_140 fu (XD X) kn25 M x1 x2 x4 t0) 140 [(0, .ref (gadr (XG X) (5, 0, 0))), (1, .int x1), (2, .int x2), (4, .int x4)] [.int t0] M 0 0 := by
  unfold FX8_led_140
  refine j_iconst (v := 1) hC dX8_led_140 (by decide) ?_
  refine j_goto (tgt := 145) hC dX8_led_141 (by decide) ?_
  exact j_sub [0, 1, 2, 3] rfl (wX8_led_145 hC hG hnl fu kn25 hk25 M x1 x2 x4 1 t0)
set_option linter.unusedVariables false in
set_option maxRecDepth 100000 in
theorem wX8_led_110 {X : JX} (hC : JC X cX8_led RX8 (some .int) 3 55 0 0) (hG : dmI dmM (XG X)) (hnl : nLof X = 8) (fu : Nat) (kn25 : Mem × Int32 × Int32 × Int32 × Int32 → Option (Int32 × Mem)) (hk25 : ∀ (M : Mem) (x1 x2 x3 x4 : Int32), J X (ZN X foI) (kn25 (M, x1, x2, x3, x4)) 25 [(0, .ref (gadr (XG X) (5, 0, 0))), (1, .int x1), (2, .int x2), (3, .int x3), (4, .int x4)] [] M 0 0) (M : Mem) (x1 x2 x3 x4 x5 x6 t0 : Int32) : J X (ZN X foI) (FX8_led_110 fu (XD X) kn25 M x1 x2 x3 x4 x5 x6 t0) 110 [(0, .ref (gadr (XG X) (5, 0, 0))), (1, .int x1), (2, .int x2), (3, .int x3), (4, .int x4), (5, .int x5), (6, .int x6)] [.int t0] M 0 0 := by
  unfold FX8_led_110
  refine j_istore hC [(7, .int t0), (0, .ref (gadr (XG X) (5, 0, 0))), (1, .int x1), (2, .int x2), (3, .int x3), (4, .int x4), (5, .int x5), (6, .int x6)] hnl dX8_led_110 rfl rfl ?_
  refine j_iload_n hC 4 dX8_led_112 rfl ?_
  refine j_iload_n hC 3 dX8_led_113 rfl ?_
  refine j_if_eq (tgt := 130) hC dX8_led_114 (by decide) (fun h114 => ?_) (fun h114 => ?_)
  · refine j_iload hC 6 dX8_led_130 rfl ?_
    refine j_if_ne (tgt := 140) hC dX8_led_132 (by decide) (fun h132 => ?_) (fun h132 => ?_)
    · refine j_iload hC 7 dX8_led_135 rfl ?_
      refine j_if_eq (tgt := 144) hC dX8_led_137 (by decide) (fun h137 => ?_) (fun h137 => ?_)
      · refine j_iconst (v := 0) hC dX8_led_144 (by decide) ?_
        exact j_sub [1, 2, 3, 5] rfl (wX8_led_145 hC hG hnl fu kn25 hk25 M x1 x2 x4 0 x3)
      · exact j_sub [1, 2, 3, 5] rfl (wX8_led_140 hC hG hnl fu kn25 hk25 M x1 x2 x4 x3)
    · exact j_sub [1, 2, 3, 5] rfl (wX8_led_140 hC hG hnl fu kn25 hk25 M x1 x2 x4 x3)
  · refine j_iload hC 0 dX8_led_117 rfl ?_
    refine j_if_eq (tgt := 126) hC dX8_led_119 (by decide) (fun h119 => ?_) (fun h119 => ?_)
    · refine j_iconst (v := 0) hC dX8_led_126 (by decide) ?_
      refine j_goto (tgt := 145) hC dX8_led_127 (by decide) ?_
      exact j_sub [1, 2, 3, 5] rfl (wX8_led_145 hC hG hnl fu kn25 hk25 M x1 x2 x4 0 x3)
    · refine j_iconst (v := 1) hC dX8_led_122 (by decide) ?_
      refine j_goto (tgt := 145) hC dX8_led_123 (by decide) ?_
      exact j_sub [1, 2, 3, 5] rfl (wX8_led_145 hC hG hnl fu kn25 hk25 M x1 x2 x4 1 x3)
set_option linter.unusedVariables false in
set_option maxRecDepth 100000 in
theorem wX8_led_109 {X : JX} (hC : JC X cX8_led RX8 (some .int) 3 55 0 0) (hG : dmI dmM (XG X)) (hnl : nLof X = 8) (fu : Nat) (kn25 : Mem × Int32 × Int32 × Int32 × Int32 → Option (Int32 × Mem)) (hk25 : ∀ (M : Mem) (x1 x2 x3 x4 : Int32), J X (ZN X foI) (kn25 (M, x1, x2, x3, x4)) 25 [(0, .ref (gadr (XG X) (5, 0, 0))), (1, .int x1), (2, .int x2), (3, .int x3), (4, .int x4)] [] M 0 0) (M : Mem) (x1 x2 x3 x4 x5 x6 : Int32) : J X (ZN X foI) (FX8_led_109 fu (XD X) kn25 M x1 x2 x3 x4 x5 x6) 109 [(0, .ref (gadr (XG X) (5, 0, 0))), (1, .int x1), (2, .int x2), (3, .int x3), (4, .int x4), (5, .int x5), (6, .int x6)] [] M 0 0 := by
  unfold FX8_led_109
  refine j_iconst (v := 0) hC dX8_led_109 (by decide) ?_
  exact j_sub [0, 1, 2, 3, 4, 5, 6] rfl (wX8_led_110 hC hG hnl fu kn25 hk25 M x1 x2 x3 x4 x5 x6 0)
set_option linter.unusedVariables false in
set_option maxRecDepth 100000 in
theorem wX8_led_105 {X : JX} (hC : JC X cX8_led RX8 (some .int) 3 55 0 0) (hG : dmI dmM (XG X)) (hnl : nLof X = 8) (fu : Nat) (kn25 : Mem × Int32 × Int32 × Int32 × Int32 → Option (Int32 × Mem)) (hk25 : ∀ (M : Mem) (x1 x2 x3 x4 : Int32), J X (ZN X foI) (kn25 (M, x1, x2, x3, x4)) 25 [(0, .ref (gadr (XG X) (5, 0, 0))), (1, .int x1), (2, .int x2), (3, .int x3), (4, .int x4)] [] M 0 0) (M : Mem) (x1 x2 x3 x4 x5 x6 : Int32) : J X (ZN X foI) (FX8_led_105 fu (XD X) kn25 M x1 x2 x3 x4 x5 x6) 105 [(0, .ref (gadr (XG X) (5, 0, 0))), (1, .int x1), (2, .int x2), (3, .int x3), (4, .int x4), (5, .int x5), (6, .int x6)] [] M 0 0 := by
  unfold FX8_led_105
  refine j_iconst (v := 1) hC dX8_led_105 (by decide) ?_
  refine j_goto (tgt := 110) hC dX8_led_106 (by decide) ?_
  exact j_sub [0, 1, 2, 3, 4, 5, 6] rfl (wX8_led_110 hC hG hnl fu kn25 hk25 M x1 x2 x3 x4 x5 x6 1)
set_option linter.unusedVariables false in
set_option maxRecDepth 100000 in
theorem wX8_led_89 {X : JX} (hC : JC X cX8_led RX8 (some .int) 3 55 0 0) (hG : dmI dmM (XG X)) (hnl : nLof X = 8) (fu : Nat) (kn25 : Mem × Int32 × Int32 × Int32 × Int32 → Option (Int32 × Mem)) (hk25 : ∀ (M : Mem) (x1 x2 x3 x4 : Int32), J X (ZN X foI) (kn25 (M, x1, x2, x3, x4)) 25 [(0, .ref (gadr (XG X) (5, 0, 0))), (1, .int x1), (2, .int x2), (3, .int x3), (4, .int x4)] [] M 0 0) (M : Mem) (x1 x2 x3 x4 x5 x6 : Int32) : J X (ZN X foI) (FX8_led_89 fu (XD X) kn25 M x1 x2 x3 x4 x5 x6) 89 [(0, .ref (gadr (XG X) (5, 0, 0))), (1, .int x1), (2, .int x2), (3, .int x3), (4, .int x4), (5, .int x5), (6, .int x6)] [] M 0 0 := by
  unfold FX8_led_89
  refine j_iload hC 6 dX8_led_89 rfl ?_
  refine j_if_eq (tgt := 109) hC dX8_led_91 (by decide) (fun h91 => ?_) (fun h91 => ?_)
  · exact j_sub [0, 1, 2, 3, 4, 5, 6] rfl (wX8_led_109 hC hG hnl fu kn25 hk25 M x1 x2 x3 x4 x5 x6)
  · refine j_aload_n hC 0 dX8_led_94 rfl ?_
    refine j_iload hC 4 dX8_led_95 rfl ?_
    refine j_iconst (v := 4) hC dX8_led_97 (by decide) ?_
    refine j_callV (nA := 2) (rest := []) hC [.int x4, .int 4] rfl (fun r hr => mX8_ofLog (XL X) (XG X) hG fu (XD X) M x4 4 r hr) q2089 q2091 qs122 q136 q2092 (dmMo hG rfl) rfl rfl (by decide +kernel) rfl rfl rfl rfl rfl rfl dX8_led_98 (fun v98 => [.int v98]) (fun _ => rfl) (fun v98 M98 => ?_)
    refine j_iconst (v := 2) hC dX8_led_101 (by decide) ?_
    refine j_icmp_ne (tgt := 109) hC dX8_led_102 (by decide) (fun h102 => ?_) (fun h102 => ?_)
    · exact j_sub [0, 1, 2, 3, 4, 5, 6] rfl (wX8_led_105 hC hG hnl fu kn25 hk25 M98 x1 x2 x3 x4 x5 x6)
    · exact j_sub [0, 1, 2, 3, 4, 5, 6] rfl (wX8_led_109 hC hG hnl fu kn25 hk25 M98 x1 x2 x3 x4 x5 x6)
set_option linter.unusedVariables false in
set_option maxRecDepth 100000 in
theorem wX8_led_71 {X : JX} (hC : JC X cX8_led RX8 (some .int) 3 55 0 0) (hG : dmI dmM (XG X)) (hnl : nLof X = 8) (fu : Nat) (kn25 : Mem × Int32 × Int32 × Int32 × Int32 → Option (Int32 × Mem)) (hk25 : ∀ (M : Mem) (x1 x2 x3 x4 : Int32), J X (ZN X foI) (kn25 (M, x1, x2, x3, x4)) 25 [(0, .ref (gadr (XG X) (5, 0, 0))), (1, .int x1), (2, .int x2), (3, .int x3), (4, .int x4)] [] M 0 0) (M : Mem) (x1 x2 x3 x4 x5 t0 : Int32) : J X (ZN X foI) (FX8_led_71 fu (XD X) kn25 M x1 x2 x3 x4 x5 t0) 71 [(0, .ref (gadr (XG X) (5, 0, 0))), (1, .int x1), (2, .int x2), (3, .int x3), (4, .int x4), (5, .int x5)] [.int t0] M 0 0 := by
  unfold FX8_led_71
  refine j_istore hC [(6, .int t0), (0, .ref (gadr (XG X) (5, 0, 0))), (1, .int x1), (2, .int x2), (3, .int x3), (4, .int x4), (5, .int x5)] hnl dX8_led_71 rfl rfl ?_
  refine j_iload hC 6 dX8_led_73 rfl ?_
  refine j_if_eq (tgt := 89) hC dX8_led_75 (by decide) (fun h75 => ?_) (fun h75 => ?_)
  · exact j_sub [1, 2, 3, 4, 5, 6, 0] rfl (wX8_led_89 hC hG hnl fu kn25 hk25 M x1 x2 x3 x4 x5 t0)
  · refine j_aload_n hC 1 dX8_led_78 rfl ?_
    refine j_iload hC 5 dX8_led_79 rfl ?_
    refine j_iconst (v := 4) hC dX8_led_81 (by decide) ?_
    refine j_callV (nA := 2) (rest := []) hC [.int x4, .int 4] rfl (fun r hr => mX8_ofLog (XL X) (XG X) hG fu (XD X) M x4 4 r hr) q2089 q2091 qs122 q136 q2092 (dmMo hG rfl) rfl rfl (by decide +kernel) rfl rfl rfl rfl rfl rfl dX8_led_82 (fun v82 => [.int v82]) (fun _ => rfl) (fun v82 M82 => ?_)
    refine j_iconst (v := 1) hC dX8_led_85 (by decide) ?_
    refine j_icmp_eq (tgt := 105) hC dX8_led_86 (by decide) (fun h86 => ?_) (fun h86 => ?_)
    · exact j_sub [1, 2, 3, 4, 5, 6, 0] rfl (wX8_led_105 hC hG hnl fu kn25 hk25 M82 x1 x2 x3 x4 x5 t0)
    · exact j_sub [1, 2, 3, 4, 5, 6, 0] rfl (wX8_led_89 hC hG hnl fu kn25 hk25 M82 x1 x2 x3 x4 x5 t0)
set_option linter.unusedVariables false in
set_option maxRecDepth 100000 in
theorem wX8_led_53 {X : JX} (hC : JC X cX8_led RX8 (some .int) 3 55 0 0) (hG : dmI dmM (XG X)) (hnl : nLof X = 8) (fu : Nat) (kn25 : Mem × Int32 × Int32 × Int32 × Int32 → Option (Int32 × Mem)) (hk25 : ∀ (M : Mem) (x1 x2 x3 x4 : Int32), J X (ZN X foI) (kn25 (M, x1, x2, x3, x4)) 25 [(0, .ref (gadr (XG X) (5, 0, 0))), (1, .int x1), (2, .int x2), (3, .int x3), (4, .int x4)] [] M 0 0) (M : Mem) (x1 x2 x3 x4 t0 : Int32) : J X (ZN X foI) (FX8_led_53 fu (XD X) kn25 M x1 x2 x3 x4 t0) 53 [(0, .ref (gadr (XG X) (5, 0, 0))), (1, .int x1), (2, .int x2), (3, .int x3), (4, .int x4)] [.int t0] M 0 0 := by
  unfold FX8_led_53
  refine j_istore hC [(5, .int t0), (0, .ref (gadr (XG X) (5, 0, 0))), (1, .int x1), (2, .int x2), (3, .int x3), (4, .int x4)] hnl dX8_led_53 rfl rfl ?_
  refine j_aload_n hC 1 dX8_led_55 rfl ?_
  refine j_iload hC 5 dX8_led_56 rfl ?_
  refine j_iconst (v := 3) hC dX8_led_58 (by decide) ?_
  refine j_callV (nA := 2) (rest := []) hC [.int x4, .int 3] rfl (fun r hr => mX8_ofLog (XL X) (XG X) hG fu (XD X) M x4 3 r hr) q2089 q2091 qs122 q136 q2092 (dmMo hG rfl) rfl rfl (by decide +kernel) rfl rfl rfl rfl rfl rfl dX8_led_59 (fun v59 => [.int v59]) (fun _ => rfl) (fun v59 M59 => ?_)
  refine j_iload_n hC 2 dX8_led_62 rfl ?_
  refine j_icmp_ne (tgt := 70) hC dX8_led_63 (by decide) (fun h63 => ?_) (fun h63 => ?_)
  · refine j_iconst (v := 1) hC dX8_led_66 (by decide) ?_
    refine j_goto (tgt := 71) hC dX8_led_67 (by decide) ?_
    exact j_sub [1, 2, 3, 4, 5, 0] rfl (wX8_led_71 hC hG hnl fu kn25 hk25 M59 x1 x2 x3 x4 t0 1)
  · refine j_iconst (v := 0) hC dX8_led_70 (by decide) ?_
    exact j_sub [1, 2, 3, 4, 5, 0] rfl (wX8_led_71 hC hG hnl fu kn25 hk25 M59 x1 x2 x3 x4 t0 0)
set_option linter.unusedVariables false in
set_option maxRecDepth 100000 in
theorem wgX8_led_25 {X : JX} (hC : JC X cX8_led RX8 (some .int) 3 55 0 0) (hG : dmI dmM (XG X)) (hnl : nLof X = 8) (fu : Nat) (kn25 : Mem × Int32 × Int32 × Int32 × Int32 → Option (Int32 × Mem)) (hk25 : ∀ (M : Mem) (x1 x2 x3 x4 : Int32), J X (ZN X foI) (kn25 (M, x1, x2, x3, x4)) 25 [(0, .ref (gadr (XG X) (5, 0, 0))), (1, .int x1), (2, .int x2), (3, .int x3), (4, .int x4)] [] M 0 0) (M : Mem) (x1 x2 x3 x4 : Int32) : J X (ZN X foI) (GX8_led_25 fu (XD X) kn25 M x1 x2 x3 x4) 25 [(0, .ref (gadr (XG X) (5, 0, 0))), (1, .int x1), (2, .int x2), (3, .int x3), (4, .int x4)] [] M 0 0 := by
  unfold GX8_led_25
  refine j_iload hC 4 dX8_led_25 rfl ?_
  refine j_aload_n hC 0 dX8_led_27 rfl ?_
  refine j_getR (fk := 1) hC (dmMo hG rfl) rfl rfl in_X8 rfl rfl q1465 rfl dX8_led_28 ?_
  refine j_bipush (v := 11) hC dX8_led_31 (by decide) ?_
  refine j_iald hC (dmMo hG rfl) rfl dX8_led_33 (fun h33 => ?_)
  refine j_icmp_ge (tgt := 153) hC dX8_led_34 (by decide) (fun h34 => ?_) (fun h34 => ?_)
  · refine j_iload_n hC 3 dX8_led_153 rfl ?_
    exact j_iret hC dX8_led_154
  · refine j_aload_n hC 0 dX8_led_37 rfl ?_
    refine j_iload hC 4 dX8_led_38 rfl ?_
    refine j_iconst (v := 2) hC dX8_led_40 (by decide) ?_
    refine j_callV (nA := 2) (rest := []) hC [.int x4, .int 2] rfl (fun r hr => mX8_ofLog (XL X) (XG X) hG fu (XD X) M x4 2 r hr) q2089 q2091 qs122 q136 q2092 (dmMo hG rfl) rfl rfl (by decide +kernel) rfl rfl rfl rfl rfl rfl dX8_led_41 (fun v41 => [.int v41]) (fun _ => rfl) (fun v41 M41 => ?_)
    refine j_iload_n hC 1 dX8_led_44 rfl ?_
    refine j_icmp_ne (tgt := 52) hC dX8_led_45 (by decide) (fun h45 => ?_) (fun h45 => ?_)
    · refine j_iconst (v := 1) hC dX8_led_48 (by decide) ?_
      refine j_goto (tgt := 53) hC dX8_led_49 (by decide) ?_
      exact j_sub [0, 1, 2, 3, 4] rfl (wX8_led_53 hC hG hnl fu kn25 hk25 M41 x1 x2 x3 x4 1)
    · refine j_iconst (v := 0) hC dX8_led_52 (by decide) ?_
      exact j_sub [0, 1, 2, 3, 4] rfl (wX8_led_53 hC hG hnl fu kn25 hk25 M41 x1 x2 x3 x4 0)
set_option linter.unusedVariables false in
set_option maxRecDepth 100000 in
theorem wX8_led_25 {X : JX} (hC : JC X cX8_led RX8 (some .int) 3 55 0 0) (hG : dmI dmM (XG X)) (hnl : nLof X = 8) (fu : Nat) (M : Mem) (x1 x2 x3 x4 : Int32) : J X (ZN X foI) (FX8_led_25 fu (XD X) M x1 x2 x3 x4) 25 [(0, .ref (gadr (XG X) (5, 0, 0))), (1, .int x1), (2, .int x2), (3, .int x3), (4, .int x4)] [] M 0 0 := by
  exact j_lp (lvf := fun z => [(0, .ref (gadr (XG X) (5, 0, 0))), (1, .int (z.2.1)), (2, .int (z.2.2.1)), (3, .int (z.2.2.2.1)), (4, .int (z.2.2.2.2))]) (Mf := fun z => z.1) (fun kn hk z => wgX8_led_25 hC hG hnl fu kn (fun M x1 x2 x3 x4 => hk (M, x1, x2, x3, x4)) z.1 z.2.1 z.2.2.1 z.2.2.2.1 z.2.2.2.2) fu (M, x1, x2, x3, x4)
set_option linter.unusedVariables false in
set_option maxRecDepth 100000 in
theorem wX8_led {X : JX} (hC : JC X cX8_led RX8 (some .int) 3 55 0 0) (hG : dmI dmM (XG X)) (hnl : nLof X = 8) (fu : Nat) (M : Mem) (x1 x2 : Int32) : J X (ZN X foI) (FX8_led fu (XD X) M x1 x2) 0 [(0, .ref (gadr (XG X) (5, 0, 0))), (1, .int x1), (2, .int x2)] [] M 0 0 := by
  unfold FX8_led
  refine j_aload_n hC 0 dX8_led_0 rfl ?_
  refine j_iconst (v := 0) hC dX8_led_1 (by decide) ?_
  refine j_put (fk := 0) (ty := .int) hC (dmMo hG rfl) rfl rfl in_X8 rfl rfl q1464 tyX8 tyX8_ok nmX8 rfl rfl (by decide +kernel) rfl rfl dX8_led_2 ?_
  refine j_lt (fun M2 => ?_)
  refine j_aload_n hC 0 dX8_led_5 rfl ?_
  refine j_aload_n hC 0 dX8_led_6 rfl ?_
  refine j_iload_n hC 1 dX8_led_7 rfl ?_
  refine j_callV (nA := 1) (rest := [.ref (gadr (XG X) (5, 0, 0))]) hC [.int x1] rfl (fun r hr => mX8_noBird (XL X) (XG X) hG fu (XD X) M2 x1 r hr) q1760 q1762 qs77 q136 q1763 (dmMo hG rfl) rfl rfl (by decide +kernel) rfl rfl rfl rfl rfl rfl dX8_led_8 (fun v8 => [.int v8, .ref (gadr (XG X) (5, 0, 0))]) (fun _ => rfl) (fun v8 M8 => ?_)
  refine j_iconst (v := 1) hC dX8_led_11 (by decide) ?_
  refine j_callV (nA := 2) (rest := []) hC [.int v8, .int 1] rfl (fun r hr => mX8_throwsIf (XL X) (XG X) hG fu (XD X) M8 v8 1 r hr) q1748 q1750 qs76 q136 q1751 (dmMo hG rfl) rfl rfl (by decide +kernel) rfl rfl rfl rfl rfl rfl dX8_led_12 (fun v12 => [.int v12]) (fun _ => rfl) (fun v12 M12 => ?_)
  refine j_if_eq (tgt := 20) hC dX8_led_15 (by decide) (fun h15 => ?_) (fun h15 => ?_)
  · refine j_iconst (v := 0) hC dX8_led_20 (by decide) ?_
    refine j_istore_n hC [(3, .int 0), (0, .ref (gadr (XG X) (5, 0, 0))), (1, .int x1), (2, .int x2)] hnl dX8_led_21 rfl rfl ?_
    refine j_iconst (v := 0) hC dX8_led_22 (by decide) ?_
    refine j_istore hC [(4, .int 0), (3, .int 0), (0, .ref (gadr (XG X) (5, 0, 0))), (1, .int x1), (2, .int x2)] hnl dX8_led_23 rfl rfl ?_
    exact j_sub [2, 3, 4, 1, 0] rfl (wX8_led_25 hC hG hnl fu M12 x1 x2 0 0)
  · refine j_iconst (v := 0) hC dX8_led_18 (by decide) ?_
    exact j_iret hC dX8_led_19
set_option linter.unusedVariables false in
set_option maxRecDepth 100000 in
theorem mX8_led (l : Launch) (Γ : xG) (hG : dmI dmM Γ) (fu : Nat) (D : List LDen) (M : Mem) (x1 x2 : Int32) (r : Int32 × Mem) (hr : FX8_led fu D M x1 x2 = some r) : CN l yX8_led (ws_ yX8_led cX8_led 8 (some .int)) 3 55 Γ D [.ref (gadr Γ (5, 0, 0)), .int x1, .int x2] M (foI r.1) r.2 := by
  refine CN.of (own := RX8) (lv0 := lv_args 0 [.ref (gadr Γ (5, 0, 0)), .int x1, .int x2]) (by decide +kernel) rfl (Nat.le_of_ble_eq_true rfl) rfl (fun X e1 e2 e3 e4 hC => ?_) r hr
  subst e1
  subst e2
  exact wX8_led hC hG e4 fu M x1 x2
set_option linter.unusedVariables false in
set_option maxRecDepth 100000 in
theorem wX8_log_56 {X : JX} (hC : JC X cX8_log RX8 (some .int) 2 34 0 0) (hG : dmI dmM (XG X)) (hnl : nLof X = 3) (fu : Nat) (M : Mem) (t0 : Int32) : J X (ZN X foI) (FX8_log_56 fu (XD X) M t0) 56 [] [.int t0] M 0 0 := by
  unfold FX8_log_56
  exact j_iret hC dX8_log_56
set_option linter.unusedVariables false in
set_option maxRecDepth 100000 in
theorem wX8_log_20 {X : JX} (hC : JC X cX8_log RX8 (some .int) 2 34 0 0) (hG : dmI dmM (XG X)) (hnl : nLof X = 3) (fu : Nat) (M : Mem) (x1 x2 t0 : Int32) : J X (ZN X foI) (FX8_log_20 fu (XD X) M x1 x2 t0) 20 [(0, .ref (gadr (XG X) (5, 0, 0))), (1, .int x1), (2, .int x2)] [.int t0, .ref (gadr (XG X) (5, 0, 0))] M 0 0 := by
  unfold FX8_log_20
  refine j_iconst (v := 1) hC dX8_log_20 (by decide) ?_
  refine j_callV (nA := 2) (rest := []) hC [.int t0, .int 1] rfl (fun r hr => mX8_throwsIf (XL X) (XG X) hG fu (XD X) M t0 1 r hr) q1748 q1750 qs76 q136 q1751 (dmMo hG rfl) rfl rfl (by decide +kernel) rfl rfl rfl rfl rfl rfl dX8_log_21 (fun v21 => [.int v21]) (fun _ => rfl) (fun v21 M21 => ?_)
  refine j_if_eq (tgt := 29) hC dX8_log_24 (by decide) (fun h24 => ?_) (fun h24 => ?_)
  · refine j_iload_n hC 1 dX8_log_29 rfl ?_
    refine j_iconst (v := 0) hC dX8_log_30 (by decide) ?_
    refine j_aload_n hC 0 dX8_log_31 rfl ?_
    refine j_getR (fk := 1) hC (dmMo hG rfl) rfl rfl in_X8 rfl rfl q1465 rfl dX8_log_32 ?_
    refine j_bipush (v := 11) hC dX8_log_35 (by decide) ?_
    refine j_iald hC (dmMo hG rfl) rfl dX8_log_37 (fun h37 => ?_)
    refine j_iconst (v := 1) hC dX8_log_38 (by decide) ?_
    refine j_isub hC dX8_log_39 ?_
    refine j_callS (nA := 3) (rest := []) hC [.int x1, .int 0, .int ((M21 (5, 0, 1) 11) - 1)] rfl (fun r hr => mX8_in (XL X) (XG X) hG fu (XD X) M21 x1 0 ((M21 (5, 0, 1) 11) - 1) r hr) q1641 q1642 q136 q1643 (by decide +kernel) rfl rfl rfl rfl rfl rfl dX8_log_40 (fun v40 => [.int v40]) (fun _ => rfl) (fun v40 M40 => ?_)
    refine j_if_eq (tgt := 55) hC dX8_log_43 (by decide) (fun h43 => ?_) (fun h43 => ?_)
    · refine j_iconst (v := (-1)) hC dX8_log_55 (by decide) ?_
      exact j_sub [] rfl (wX8_log_56 hC hG hnl fu M40 (-1))
    · refine j_aload_n hC 0 dX8_log_46 rfl ?_
      refine j_iload_n hC 1 dX8_log_47 rfl ?_
      refine j_iload_n hC 2 dX8_log_48 rfl ?_
      refine j_callV (nA := 2) (rest := []) hC [.int x1, .int x2] rfl (fun r hr => mX8_ofLog (XL X) (XG X) hG fu (XD X) M40 x1 x2 r hr) q2089 q2091 qs122 q136 q2092 (dmMo hG rfl) rfl rfl (by decide +kernel) rfl rfl rfl rfl rfl rfl dX8_log_49 (fun v49 => [.int v49]) (fun _ => rfl) (fun v49 M49 => ?_)
      refine j_goto (tgt := 56) hC dX8_log_52 (by decide) ?_
      exact j_sub [] rfl (wX8_log_56 hC hG hnl fu M49 v49)
  · refine j_iconst (v := 0) hC dX8_log_27 (by decide) ?_
    exact j_iret hC dX8_log_28
set_option linter.unusedVariables false in
set_option maxRecDepth 100000 in
theorem wX8_log {X : JX} (hC : JC X cX8_log RX8 (some .int) 2 34 0 0) (hG : dmI dmM (XG X)) (hnl : nLof X = 3) (fu : Nat) (M : Mem) (x1 x2 : Int32) : J X (ZN X foI) (FX8_log fu (XD X) M x1 x2) 0 [(0, .ref (gadr (XG X) (5, 0, 0))), (1, .int x1), (2, .int x2)] [] M 0 0 := by
  unfold FX8_log
  refine j_aload_n hC 0 dX8_log_0 rfl ?_
  refine j_iconst (v := 0) hC dX8_log_1 (by decide) ?_
  refine j_put (fk := 0) (ty := .int) hC (dmMo hG rfl) rfl rfl in_X8 rfl rfl q1464 tyX8 tyX8_ok nmX8 rfl rfl (by decide +kernel) rfl rfl dX8_log_2 ?_
  refine j_lt (fun M2 => ?_)
  refine j_aload_n hC 0 dX8_log_5 rfl ?_
  refine j_iload_n hC 2 dX8_log_6 rfl ?_
  refine j_iconst (v := 0) hC dX8_log_7 (by decide) ?_
  refine j_iconst (v := 5) hC dX8_log_8 (by decide) ?_
  refine j_callS (nA := 3) (rest := [.ref (gadr (XG X) (5, 0, 0))]) hC [.int x2, .int 0, .int 5] rfl (fun r hr => mX8_in (XL X) (XG X) hG fu (XD X) M2 x2 0 5 r hr) q1641 q1642 q136 q1643 (by decide +kernel) rfl rfl rfl rfl rfl rfl dX8_log_9 (fun v9 => [.int v9, .ref (gadr (XG X) (5, 0, 0))]) (fun _ => rfl) (fun v9 M9 => ?_)
  refine j_if_ne (tgt := 19) hC dX8_log_12 (by decide) (fun h12 => ?_) (fun h12 => ?_)
  · refine j_iconst (v := 1) hC dX8_log_15 (by decide) ?_
    refine j_goto (tgt := 20) hC dX8_log_16 (by decide) ?_
    exact j_sub [0, 1, 2] rfl (wX8_log_20 hC hG hnl fu M9 x1 x2 1)
  · refine j_iconst (v := 0) hC dX8_log_19 (by decide) ?_
    exact j_sub [0, 1, 2] rfl (wX8_log_20 hC hG hnl fu M9 x1 x2 0)
set_option linter.unusedVariables false in
set_option maxRecDepth 100000 in
theorem mX8_log (l : Launch) (Γ : xG) (hG : dmI dmM Γ) (fu : Nat) (D : List LDen) (M : Mem) (x1 x2 : Int32) (r : Int32 × Mem) (hr : FX8_log fu D M x1 x2 = some r) : CN l yX8_log (ws_ yX8_log cX8_log 3 (some .int)) 2 34 Γ D [.ref (gadr Γ (5, 0, 0)), .int x1, .int x2] M (foI r.1) r.2 := by
  refine CN.of (own := RX8) (lv0 := lv_args 0 [.ref (gadr Γ (5, 0, 0)), .int x1, .int x2]) (by decide +kernel) rfl (Nat.le_of_ble_eq_true rfl) rfl (fun X e1 e2 e3 e4 hC => ?_) r hr
  subst e1
  subst e2
  exact wX8_log hC hG e4 fu M x1 x2
set_option linter.unusedVariables false in
set_option maxRecDepth 100000 in
theorem wX8_seed {X : JX} (hC : JC X cX8_seed RX8 (some .int) 1 12 0 0) (hG : dmI dmM (XG X)) (hnl : nLof X = 3) (fu : Nat) (M : Mem) (x1 : Int32) : J X (ZN X foI) (FX8_seed fu (XD X) M x1) 0 [(0, .ref (gadr (XG X) (5, 0, 0))), (1, .int x1)] [] M 0 0 := by
  unfold FX8_seed
  refine j_aload_n hC 0 dX8_seed_0 rfl ?_
  refine j_iconst (v := 0) hC dX8_seed_1 (by decide) ?_
  refine j_put (fk := 0) (ty := .int) hC (dmMo hG rfl) rfl rfl in_X8 rfl rfl q1464 tyX8 tyX8_ok nmX8 rfl rfl (by decide +kernel) rfl rfl dX8_seed_2 ?_
  refine j_lt (fun M2 => ?_)
  refine j_aload_n hC 0 dX8_seed_5 rfl ?_
  refine j_getR (fk := 1) hC (dmMo hG rfl) rfl rfl in_X8 rfl rfl q1465 rfl dX8_seed_6 ?_
  refine j_bipush (v := 12) hC dX8_seed_9 (by decide) ?_
  refine j_iald hC (dmMo hG rfl) rfl dX8_seed_11 (fun h11 => ?_)
  refine j_ltT (fun y12 => ?_)
  refine j_istore_n hC [(2, .int y12), (0, .ref (gadr (XG X) (5, 0, 0))), (1, .int x1)] hnl dX8_seed_12 rfl rfl ?_
  refine j_aload_n hC 1 dX8_seed_13 rfl ?_
  refine j_getR (fk := 1) hC (dmMo hG rfl) rfl rfl in_X8 rfl rfl q1465 rfl dX8_seed_14 ?_
  refine j_bipush (v := 12) hC dX8_seed_17 (by decide) ?_
  refine j_iload_n hC 2 dX8_seed_19 rfl ?_
  refine j_iast hC (dmMo hG rfl) rfl dX8_seed_20 (fun h20 => ?_)
  refine j_lt (fun M20 => ?_)
  refine j_iload_n hC 0 dX8_seed_21 rfl ?_
  exact j_iret hC dX8_seed_22
set_option linter.unusedVariables false in
set_option maxRecDepth 100000 in
theorem mX8_seed (l : Launch) (Γ : xG) (hG : dmI dmM Γ) (fu : Nat) (D : List LDen) (M : Mem) (x1 : Int32) (r : Int32 × Mem) (hr : FX8_seed fu D M x1 = some r) : CN l yX8_seed (ws_ yX8_seed cX8_seed 3 (some .int)) 1 12 Γ D [.ref (gadr Γ (5, 0, 0)), .int x1] M (foI r.1) r.2 := by
  refine CN.of (own := RX8) (lv0 := lv_args 0 [.ref (gadr Γ (5, 0, 0)), .int x1]) (by decide +kernel) rfl (Nat.le_of_ble_eq_true rfl) rfl (fun X e1 e2 e3 e4 hC => ?_) r hr
  subst e1
  subst e2
  exact wX8_seed hC hG e4 fu M x1
set_option linter.unusedVariables false in
set_option maxRecDepth 100000 in
theorem wX8_openOnes_28 {X : JX} (hC : JC X cX8_openOnes RX8 (some .int) 4 76 0 0) (hG : dmI dmM (XG X)) (hnl : nLof X = 3) (fu : Nat) (kn4 : Mem × Int32 × Int32 → Option (Int32 × Mem)) (hk4 : ∀ (M : Mem) (x1 x2 : Int32), J X (ZN X foI) (kn4 (M, x1, x2)) 4 [(0, .ref (gadr (XG X) (5, 0, 0))), (1, .int x1), (2, .int x2)] [] M 0 0) (M : Mem) (x2 t0 t1 : Int32) : J X (ZN X foI) (FX8_openOnes_28 fu (XD X) kn4 M x2 t0 t1) 28 [(0, .ref (gadr (XG X) (5, 0, 0))), (2, .int x2)] [.int t0, .int t1] M 0 0 := by
  unfold FX8_openOnes_28
  refine j_ior hC dX8_openOnes_28 ?_
  refine j_ltT (fun y29 => ?_)
  refine j_istore_n hC [(1, .int y29), (0, .ref (gadr (XG X) (5, 0, 0))), (2, .int x2)] hnl dX8_openOnes_29 rfl rfl ?_
  refine j_iincL hC 2 (fun y30 => [(2, .int y30), (1, .int y29), (0, .ref (gadr (XG X) (5, 0, 0)))]) hnl dX8_openOnes_30 rfl (by decide) rfl (fun _ => rfl) (fun y30 => ?_)
  refine j_goto (tgt := 4) hC dX8_openOnes_33 (by decide) ?_
  exact j_sub [2, 1, 0] rfl (hk4 M y29 y30)
set_option linter.unusedVariables false in
set_option maxRecDepth 100000 in
theorem wgX8_openOnes_4 {X : JX} (hC : JC X cX8_openOnes RX8 (some .int) 4 76 0 0) (hG : dmI dmM (XG X)) (hnl : nLof X = 3) (fu : Nat) (kn4 : Mem × Int32 × Int32 → Option (Int32 × Mem)) (hk4 : ∀ (M : Mem) (x1 x2 : Int32), J X (ZN X foI) (kn4 (M, x1, x2)) 4 [(0, .ref (gadr (XG X) (5, 0, 0))), (1, .int x1), (2, .int x2)] [] M 0 0) (M : Mem) (x1 x2 : Int32) : J X (ZN X foI) (GX8_openOnes_4 fu (XD X) kn4 M x1 x2) 4 [(0, .ref (gadr (XG X) (5, 0, 0))), (1, .int x1), (2, .int x2)] [] M 0 0 := by
  unfold GX8_openOnes_4
  refine j_iload_n hC 2 dX8_openOnes_4 rfl ?_
  refine j_aload_n hC 0 dX8_openOnes_5 rfl ?_
  refine j_callV (nA := 0) (rest := [.int x2]) hC [] rfl (fun r hr => mX8_cases (XL X) (XG X) hG fu (XD X) M r hr) q1665 q1667 qs61 q136 q1668 (dmMo hG rfl) rfl rfl (by decide +kernel) rfl rfl rfl rfl rfl rfl dX8_openOnes_6 (fun v6 => [.int v6, .int x2]) (fun _ => rfl) (fun v6 M6 => ?_)
  refine j_icmp_ge (tgt := 36) hC dX8_openOnes_9 (by decide) (fun h9 => ?_) (fun h9 => ?_)
  · refine j_iload_n hC 1 dX8_openOnes_36 rfl ?_
    exact j_iret hC dX8_openOnes_37
  · refine j_iload_n hC 1 dX8_openOnes_12 rfl ?_
    refine j_aload_n hC 0 dX8_openOnes_13 rfl ?_
    refine j_iload_n hC 2 dX8_openOnes_14 rfl ?_
    refine j_callV (nA := 1) (rest := [.int x1]) hC [.int x2] rfl (fun r hr => mX8_isOpen (XL X) (XG X) hG fu (XD X) M6 x2 r hr) q1950 q1952 qs106 q136 q1953 (dmMo hG rfl) rfl rfl (by decide +kernel) rfl rfl rfl rfl rfl rfl dX8_openOnes_15 (fun v15 => [.int v15, .int x1]) (fun _ => rfl) (fun v15 M15 => ?_)
    refine j_if_eq (tgt := 27) hC dX8_openOnes_18 (by decide) (fun h18 => ?_) (fun h18 => ?_)
    · refine j_iconst (v := 0) hC dX8_openOnes_27 (by decide) ?_
      exact j_sub [0, 2] rfl (wX8_openOnes_28 hC hG hnl fu kn4 hk4 M15 x2 0 x1)
    · refine j_iconst (v := 1) hC dX8_openOnes_21 (by decide) ?_
      refine j_iload_n hC 2 dX8_openOnes_22 rfl ?_
      refine j_ishl hC dX8_openOnes_23 ?_
      refine j_goto (tgt := 28) hC dX8_openOnes_24 (by decide) ?_
      exact j_sub [0, 2] rfl (wX8_openOnes_28 hC hG hnl fu kn4 hk4 M15 x2 (1 <<< (x2 &&& 31)) x1)
set_option linter.unusedVariables false in
set_option maxRecDepth 100000 in
theorem wX8_openOnes_4 {X : JX} (hC : JC X cX8_openOnes RX8 (some .int) 4 76 0 0) (hG : dmI dmM (XG X)) (hnl : nLof X = 3) (fu : Nat) (M : Mem) (x1 x2 : Int32) : J X (ZN X foI) (FX8_openOnes_4 fu (XD X) M x1 x2) 4 [(0, .ref (gadr (XG X) (5, 0, 0))), (1, .int x1), (2, .int x2)] [] M 0 0 := by
  exact j_lp (lvf := fun z => [(0, .ref (gadr (XG X) (5, 0, 0))), (1, .int (z.2.1)), (2, .int (z.2.2))]) (Mf := fun z => z.1) (fun kn hk z => wgX8_openOnes_4 hC hG hnl fu kn (fun M x1 x2 => hk (M, x1, x2)) z.1 z.2.1 z.2.2) fu (M, x1, x2)
set_option linter.unusedVariables false in
set_option maxRecDepth 100000 in
theorem wX8_openOnes {X : JX} (hC : JC X cX8_openOnes RX8 (some .int) 4 76 0 0) (hG : dmI dmM (XG X)) (hnl : nLof X = 3) (fu : Nat) (M : Mem) : J X (ZN X foI) (FX8_openOnes fu (XD X) M) 0 [(0, .ref (gadr (XG X) (5, 0, 0)))] [] M 0 0 := by
  unfold FX8_openOnes
  refine j_iconst (v := 0) hC dX8_openOnes_0 (by decide) ?_
  refine j_istore_n hC [(1, .int 0), (0, .ref (gadr (XG X) (5, 0, 0)))] hnl dX8_openOnes_1 rfl rfl ?_
  refine j_iconst (v := 0) hC dX8_openOnes_2 (by decide) ?_
  refine j_istore_n hC [(2, .int 0), (1, .int 0), (0, .ref (gadr (XG X) (5, 0, 0)))] hnl dX8_openOnes_3 rfl rfl ?_
  exact j_sub [2, 1, 0] rfl (wX8_openOnes_4 hC hG hnl fu M 0 0)
set_option linter.unusedVariables false in
set_option maxRecDepth 100000 in
theorem mX8_openOnes (l : Launch) (Γ : xG) (hG : dmI dmM Γ) (fu : Nat) (D : List LDen) (M : Mem) (r : Int32 × Mem) (hr : FX8_openOnes fu D M = some r) : CN l yX8_openOnes (ws_ yX8_openOnes cX8_openOnes 3 (some .int)) 4 76 Γ D [.ref (gadr Γ (5, 0, 0))] M (foI r.1) r.2 := by
  refine CN.of (own := RX8) (lv0 := lv_args 0 [.ref (gadr Γ (5, 0, 0))]) (by decide +kernel) rfl (Nat.le_of_ble_eq_true rfl) rfl (fun X e1 e2 e3 e4 hC => ?_) r hr
  subst e1
  subst e2
  exact wX8_openOnes hC hG e4 fu M
set_option linter.unusedVariables false in
set_option maxRecDepth 100000 in
theorem wX8_isCalm_31 {X : JX} (hC : JC X cX8_isCalm RX8 (some .boolean) 1 12 0 0) (hG : dmI dmM (XG X)) (hnl : nLof X = 3) (fu : Nat) (kn4 : Mem × Int32 × Int32 → Option (Int32 × Mem)) (hk4 : ∀ (M : Mem) (x1 x2 : Int32), J X (ZN X foI) (kn4 (M, x1, x2)) 4 [(0, .ref (gadr (XG X) (5, 0, 0))), (1, .int x1), (2, .int x2)] [] M 0 0) (M : Mem) (x2 t0 : Int32) : J X (ZN X foI) (FX8_isCalm_31 fu (XD X) kn4 M x2 t0) 31 [(0, .ref (gadr (XG X) (5, 0, 0))), (2, .int x2)] [.int t0] M 0 0 := by
  unfold FX8_isCalm_31
  refine j_istore_n hC [(1, .int t0), (0, .ref (gadr (XG X) (5, 0, 0))), (2, .int x2)] hnl dX8_isCalm_31 rfl rfl ?_
  refine j_iincL hC 2 (fun y32 => [(2, .int y32), (1, .int t0), (0, .ref (gadr (XG X) (5, 0, 0)))]) hnl dX8_isCalm_32 rfl (by decide) rfl (fun _ => rfl) (fun y32 => ?_)
  refine j_goto (tgt := 4) hC dX8_isCalm_35 (by decide) ?_
  exact j_sub [2, 1, 0] rfl (hk4 M t0 y32)
set_option linter.unusedVariables false in
set_option maxRecDepth 100000 in
theorem wX8_isCalm_30 {X : JX} (hC : JC X cX8_isCalm RX8 (some .boolean) 1 12 0 0) (hG : dmI dmM (XG X)) (hnl : nLof X = 3) (fu : Nat) (kn4 : Mem × Int32 × Int32 → Option (Int32 × Mem)) (hk4 : ∀ (M : Mem) (x1 x2 : Int32), J X (ZN X foI) (kn4 (M, x1, x2)) 4 [(0, .ref (gadr (XG X) (5, 0, 0))), (1, .int x1), (2, .int x2)] [] M 0 0) (M : Mem) (x2 : Int32) : J X (ZN X foI) (FX8_isCalm_30 fu (XD X) kn4 M x2) 30 [(0, .ref (gadr (XG X) (5, 0, 0))), (2, .int x2)] [] M 0 0 := by
  unfold FX8_isCalm_30
  refine j_iconst (v := 0) hC dX8_isCalm_30 (by decide) ?_
  exact j_sub [0, 1] rfl (wX8_isCalm_31 hC hG hnl fu kn4 hk4 M x2 0)
set_option linter.unusedVariables false in
set_option maxRecDepth 100000 in
theorem wgX8_isCalm_4 {X : JX} (hC : JC X cX8_isCalm RX8 (some .boolean) 1 12 0 0) (hG : dmI dmM (XG X)) (hnl : nLof X = 3) (fu : Nat) (kn4 : Mem × Int32 × Int32 → Option (Int32 × Mem)) (hk4 : ∀ (M : Mem) (x1 x2 : Int32), J X (ZN X foI) (kn4 (M, x1, x2)) 4 [(0, .ref (gadr (XG X) (5, 0, 0))), (1, .int x1), (2, .int x2)] [] M 0 0) (M : Mem) (x1 x2 : Int32) : J X (ZN X foI) (GX8_isCalm_4 fu (XD X) kn4 M x1 x2) 4 [(0, .ref (gadr (XG X) (5, 0, 0))), (1, .int x1), (2, .int x2)] [] M 0 0 := by
  unfold GX8_isCalm_4
  refine j_iload_n hC 2 dX8_isCalm_4 rfl ?_
  refine j_bipush (v := 13) hC dX8_isCalm_5 (by decide) ?_
  refine j_icmp_ge (tgt := 38) hC dX8_isCalm_7 (by decide) (fun h7 => ?_) (fun h7 => ?_)
  · refine j_iload_n hC 1 dX8_isCalm_38 rfl ?_
    exact j_zret hC rfl dX8_isCalm_39
  · refine j_iload_n hC 1 dX8_isCalm_10 rfl ?_
    refine j_if_eq (tgt := 30) hC dX8_isCalm_11 (by decide) (fun h11 => ?_) (fun h11 => ?_)
    · exact j_sub [0, 2] rfl (wX8_isCalm_30 hC hG hnl fu kn4 hk4 M x2)
    · refine j_aload_n hC 0 dX8_isCalm_14 rfl ?_
      refine j_getR (fk := 1) hC (dmMo hG rfl) rfl rfl in_X8 rfl rfl q1465 rfl dX8_isCalm_15 ?_
      refine j_bipush (v := 13) hC dX8_isCalm_18 (by decide) ?_
      refine j_iload_n hC 2 dX8_isCalm_20 rfl ?_
      refine j_iadd hC dX8_isCalm_21 ?_
      refine j_iald hC (dmMo hG rfl) rfl dX8_isCalm_22 (fun h22 => ?_)
      refine j_if_ne (tgt := 30) hC dX8_isCalm_23 (by decide) (fun h23 => ?_) (fun h23 => ?_)
      · refine j_iconst (v := 1) hC dX8_isCalm_26 (by decide) ?_
        refine j_goto (tgt := 31) hC dX8_isCalm_27 (by decide) ?_
        exact j_sub [0, 2] rfl (wX8_isCalm_31 hC hG hnl fu kn4 hk4 M x2 1)
      · exact j_sub [0, 2] rfl (wX8_isCalm_30 hC hG hnl fu kn4 hk4 M x2)
set_option linter.unusedVariables false in
set_option maxRecDepth 100000 in
theorem wX8_isCalm_4 {X : JX} (hC : JC X cX8_isCalm RX8 (some .boolean) 1 12 0 0) (hG : dmI dmM (XG X)) (hnl : nLof X = 3) (fu : Nat) (M : Mem) (x1 x2 : Int32) : J X (ZN X foI) (FX8_isCalm_4 fu (XD X) M x1 x2) 4 [(0, .ref (gadr (XG X) (5, 0, 0))), (1, .int x1), (2, .int x2)] [] M 0 0 := by
  exact j_lp (lvf := fun z => [(0, .ref (gadr (XG X) (5, 0, 0))), (1, .int (z.2.1)), (2, .int (z.2.2))]) (Mf := fun z => z.1) (fun kn hk z => wgX8_isCalm_4 hC hG hnl fu kn (fun M x1 x2 => hk (M, x1, x2)) z.1 z.2.1 z.2.2) fu (M, x1, x2)
set_option linter.unusedVariables false in
set_option maxRecDepth 100000 in
theorem wX8_isCalm {X : JX} (hC : JC X cX8_isCalm RX8 (some .boolean) 1 12 0 0) (hG : dmI dmM (XG X)) (hnl : nLof X = 3) (fu : Nat) (M : Mem) : J X (ZN X foI) (FX8_isCalm fu (XD X) M) 0 [(0, .ref (gadr (XG X) (5, 0, 0)))] [] M 0 0 := by
  unfold FX8_isCalm
  refine j_iconst (v := 1) hC dX8_isCalm_0 (by decide) ?_
  refine j_istore_n hC [(1, .int 1), (0, .ref (gadr (XG X) (5, 0, 0)))] hnl dX8_isCalm_1 rfl rfl ?_
  refine j_iconst (v := 0) hC dX8_isCalm_2 (by decide) ?_
  refine j_istore_n hC [(2, .int 0), (1, .int 1), (0, .ref (gadr (XG X) (5, 0, 0)))] hnl dX8_isCalm_3 rfl rfl ?_
  exact j_sub [2, 1, 0] rfl (wX8_isCalm_4 hC hG hnl fu M 1 0)
set_option linter.unusedVariables false in
set_option maxRecDepth 100000 in
theorem mX8_isCalm (l : Launch) (Γ : xG) (hG : dmI dmM Γ) (fu : Nat) (D : List LDen) (M : Mem) (r : Int32 × Mem) (hr : FX8_isCalm fu D M = some r) : CN l yX8_isCalm (ws_ yX8_isCalm cX8_isCalm 3 (some .boolean)) 1 12 Γ D [.ref (gadr Γ (5, 0, 0))] M (foI r.1) r.2 := by
  refine CN.of (own := RX8) (lv0 := lv_args 0 [.ref (gadr Γ (5, 0, 0))]) (by decide +kernel) rfl (Nat.le_of_ble_eq_true rfl) rfl (fun X e1 e2 e3 e4 hC => ?_) r hr
  subst e1
  subst e2
  exact wX8_isCalm hC hG e4 fu M
set_option linter.unusedVariables false in
set_option maxRecDepth 100000 in
theorem wX8_count_176 {X : JX} (hC : JC X cX8_count RX8 (some .int) 5 98 0 0) (hG : dmI dmM (XG X)) (hnl : nLof X = 2) (fu : Nat) (M : Mem) (t0 : Int32) : J X (ZN X foI) (FX8_count_176 fu (XD X) M t0) 176 [] [.int t0] M 0 0 := by
  unfold FX8_count_176
  exact j_iret hC dX8_count_176
set_option linter.unusedVariables false in
set_option maxRecDepth 100000 in
theorem wX8_count_124 {X : JX} (hC : JC X cX8_count RX8 (some .int) 5 98 0 0) (hG : dmI dmM (XG X)) (hnl : nLof X = 2) (fu : Nat) (M : Mem) (t0 : Int32) : J X (ZN X foI) (FX8_count_124 fu (XD X) M t0) 124 [] [.int t0] M 0 0 := by
  unfold FX8_count_124
  exact j_iret hC dX8_count_124
set_option linter.unusedVariables false in
set_option maxRecDepth 100000 in
theorem wX8_count_142 {X : JX} (hC : JC X cX8_count RX8 (some .int) 5 98 0 0) (hG : dmI dmM (XG X)) (hnl : nLof X = 2) (fu : Nat) (M : Mem) (t0 : Int32) : J X (ZN X foI) (FX8_count_142 fu (XD X) M t0) 142 [] [.int t0] M 0 0 := by
  unfold FX8_count_142
  exact j_iret hC dX8_count_142
set_option linter.unusedVariables false in
set_option maxRecDepth 100000 in
theorem wX8_count {X : JX} (hC : JC X cX8_count RX8 (some .int) 5 98 0 0) (hG : dmI dmM (XG X)) (hnl : nLof X = 2) (fu : Nat) (M : Mem) (x1 : Int32) : J X (ZN X foI) (FX8_count fu (XD X) M x1) 0 [(0, .ref (gadr (XG X) (5, 0, 0))), (1, .int x1)] [] M 0 0 := by
  unfold FX8_count
  refine j_aload_n hC 0 dX8_count_0 rfl ?_
  refine j_iconst (v := 0) hC dX8_count_1 (by decide) ?_
  refine j_put (fk := 0) (ty := .int) hC (dmMo hG rfl) rfl rfl in_X8 rfl rfl q1464 tyX8 tyX8_ok nmX8 rfl rfl (by decide +kernel) rfl rfl dX8_count_2 ?_
  refine j_lt (fun M2 => ?_)
  refine j_iload_n hC 1 dX8_count_5 rfl ?_
  refine j_table (tgt := 156) (os := [74, 79, 84, 89, 96, 150, 150, 150, 150, 150, 150, 119, 124, 137, 145]) hC dX8_count_6 rfl rfl rfl (by decide) (by decide) ?_ ⟨?_, ?_, ?_, ?_, ?_, ?_, ?_, ?_, ?_, ?_, ?_, ?_, ?_, ?_, ?_, trivial⟩
  · refine j_iload_n hC 1 dX8_count_156 rfl ?_
    refine j_iconst (v := 5) hC dX8_count_157 (by decide) ?_
    refine j_bipush (v := 10) hC dX8_count_158 (by decide) ?_
    refine j_callS (nA := 3) (rest := []) hC [.int x1, .int 5, .int 10] rfl (fun r hr => mX8_in (XL X) (XG X) hG fu (XD X) M2 x1 5 10 r hr) q1641 q1642 q136 q1643 (by decide +kernel) rfl rfl rfl rfl rfl rfl dX8_count_160 (fun v160 => [.int v160]) (fun _ => rfl) (fun v160 M160 => ?_)
    refine j_if_eq (tgt := 175) hC dX8_count_163 (by decide) (fun h163 => ?_) (fun h163 => ?_)
    · refine j_iconst (v := (-1)) hC dX8_count_175 (by decide) ?_
      exact j_sub [] rfl (wX8_count_176 hC hG hnl fu M160 (-1))
    · refine j_aload_n hC 0 dX8_count_166 rfl ?_
      refine j_getR (fk := 1) hC (dmMo hG rfl) rfl rfl in_X8 rfl rfl q1465 rfl dX8_count_167 ?_
      refine j_iload_n hC 1 dX8_count_170 rfl ?_
      refine j_iald hC (dmMo hG rfl) rfl dX8_count_171 (fun h171 => ?_)
      refine j_goto (tgt := 176) hC dX8_count_172 (by decide) ?_
      exact j_sub [] rfl (wX8_count_176 hC hG hnl fu M160 (M160 (5, 0, 1) x1.toNatClampNeg))
  · show J X (ZN X foI) _ 80 _ _ _ _ _
    refine j_aload_n hC 0 dX8_count_80 rfl ?_
    refine j_callV (nA := 0) (rest := []) hC [] rfl (fun r hr => mX8_birds (XL X) (XG X) hG fu (XD X) M2 r hr) q1622 q1624 qs54 q136 q1625 (dmMo hG rfl) rfl rfl (by decide +kernel) rfl rfl rfl rfl rfl rfl dX8_count_81 (fun v81 => [.int v81]) (fun _ => rfl) (fun v81 M81 => ?_)
    exact j_iret hC dX8_count_84
  · show J X (ZN X foI) _ 85 _ _ _ _ _
    refine j_aload_n hC 0 dX8_count_85 rfl ?_
    refine j_callV (nA := 0) (rest := []) hC [] rfl (fun r hr => mX8_counsel (XL X) (XG X) hG fu (XD X) M2 r hr) q1656 q1658 qs59 q136 q1659 (dmMo hG rfl) rfl rfl (by decide +kernel) rfl rfl rfl rfl rfl rfl dX8_count_86 (fun v86 => [.int v86]) (fun _ => rfl) (fun v86 M86 => ?_)
    exact j_iret hC dX8_count_89
  · show J X (ZN X foI) _ 90 _ _ _ _ _
    refine j_aload_n hC 0 dX8_count_90 rfl ?_
    refine j_callV (nA := 0) (rest := []) hC [] rfl (fun r hr => mX8_cases (XL X) (XG X) hG fu (XD X) M2 r hr) q1665 q1667 qs61 q136 q1668 (dmMo hG rfl) rfl rfl (by decide +kernel) rfl rfl rfl rfl rfl rfl dX8_count_91 (fun v91 => [.int v91]) (fun _ => rfl) (fun v91 M91 => ?_)
    exact j_iret hC dX8_count_94
  · show J X (ZN X foI) _ 95 _ _ _ _ _
    refine j_aload_n hC 0 dX8_count_95 rfl ?_
    refine j_getR (fk := 1) hC (dmMo hG rfl) rfl rfl in_X8 rfl rfl q1465 rfl dX8_count_96 ?_
    refine j_iconst (v := 3) hC dX8_count_99 (by decide) ?_
    refine j_iald hC (dmMo hG rfl) rfl dX8_count_100 (fun h100 => ?_)
    exact j_iret hC dX8_count_101
  · show J X (ZN X foI) _ 102 _ _ _ _ _
    refine j_aload_n hC 0 dX8_count_102 rfl ?_
    refine j_getR (fk := 1) hC (dmMo hG rfl) rfl rfl in_X8 rfl rfl q1465 rfl dX8_count_103 ?_
    refine j_iconst (v := 4) hC dX8_count_106 (by decide) ?_
    refine j_iald hC (dmMo hG rfl) rfl dX8_count_107 (fun h107 => ?_)
    refine j_iconst (v := 1) hC dX8_count_108 (by decide) ?_
    refine j_icmp_ne (tgt := 123) hC dX8_count_109 (by decide) (fun h109 => ?_) (fun h109 => ?_)
    · refine j_aload_n hC 0 dX8_count_112 rfl ?_
      refine j_getR (fk := 1) hC (dmMo hG rfl) rfl rfl in_X8 rfl rfl q1465 rfl dX8_count_113 ?_
      refine j_sipush (v := 482) hC dX8_count_116 (by decide) ?_
      refine j_iald hC (dmMo hG rfl) rfl dX8_count_119 (fun h119 => ?_)
      refine j_goto (tgt := 124) hC dX8_count_120 (by decide) ?_
      exact j_sub [] rfl (wX8_count_124 hC hG hnl fu M2 (M2 (5, 0, 1) 482))
    · refine j_iconst (v := (-1)) hC dX8_count_123 (by decide) ?_
      exact j_sub [] rfl (wX8_count_124 hC hG hnl fu M2 (-1))
  · show J X (ZN X foI) _ 156 _ _ _ _ _
    refine j_iload_n hC 1 dX8_count_156 rfl ?_
    refine j_iconst (v := 5) hC dX8_count_157 (by decide) ?_
    refine j_bipush (v := 10) hC dX8_count_158 (by decide) ?_
    refine j_callS (nA := 3) (rest := []) hC [.int x1, .int 5, .int 10] rfl (fun r hr => mX8_in (XL X) (XG X) hG fu (XD X) M2 x1 5 10 r hr) q1641 q1642 q136 q1643 (by decide +kernel) rfl rfl rfl rfl rfl rfl dX8_count_160 (fun v160 => [.int v160]) (fun _ => rfl) (fun v160 M160 => ?_)
    refine j_if_eq (tgt := 175) hC dX8_count_163 (by decide) (fun h163 => ?_) (fun h163 => ?_)
    · refine j_iconst (v := (-1)) hC dX8_count_175 (by decide) ?_
      exact j_sub [] rfl (wX8_count_176 hC hG hnl fu M160 (-1))
    · refine j_aload_n hC 0 dX8_count_166 rfl ?_
      refine j_getR (fk := 1) hC (dmMo hG rfl) rfl rfl in_X8 rfl rfl q1465 rfl dX8_count_167 ?_
      refine j_iload_n hC 1 dX8_count_170 rfl ?_
      refine j_iald hC (dmMo hG rfl) rfl dX8_count_171 (fun h171 => ?_)
      refine j_goto (tgt := 176) hC dX8_count_172 (by decide) ?_
      exact j_sub [] rfl (wX8_count_176 hC hG hnl fu M160 (M160 (5, 0, 1) x1.toNatClampNeg))
  · show J X (ZN X foI) _ 156 _ _ _ _ _
    refine j_iload_n hC 1 dX8_count_156 rfl ?_
    refine j_iconst (v := 5) hC dX8_count_157 (by decide) ?_
    refine j_bipush (v := 10) hC dX8_count_158 (by decide) ?_
    refine j_callS (nA := 3) (rest := []) hC [.int x1, .int 5, .int 10] rfl (fun r hr => mX8_in (XL X) (XG X) hG fu (XD X) M2 x1 5 10 r hr) q1641 q1642 q136 q1643 (by decide +kernel) rfl rfl rfl rfl rfl rfl dX8_count_160 (fun v160 => [.int v160]) (fun _ => rfl) (fun v160 M160 => ?_)
    refine j_if_eq (tgt := 175) hC dX8_count_163 (by decide) (fun h163 => ?_) (fun h163 => ?_)
    · refine j_iconst (v := (-1)) hC dX8_count_175 (by decide) ?_
      exact j_sub [] rfl (wX8_count_176 hC hG hnl fu M160 (-1))
    · refine j_aload_n hC 0 dX8_count_166 rfl ?_
      refine j_getR (fk := 1) hC (dmMo hG rfl) rfl rfl in_X8 rfl rfl q1465 rfl dX8_count_167 ?_
      refine j_iload_n hC 1 dX8_count_170 rfl ?_
      refine j_iald hC (dmMo hG rfl) rfl dX8_count_171 (fun h171 => ?_)
      refine j_goto (tgt := 176) hC dX8_count_172 (by decide) ?_
      exact j_sub [] rfl (wX8_count_176 hC hG hnl fu M160 (M160 (5, 0, 1) x1.toNatClampNeg))
  · show J X (ZN X foI) _ 156 _ _ _ _ _
    refine j_iload_n hC 1 dX8_count_156 rfl ?_
    refine j_iconst (v := 5) hC dX8_count_157 (by decide) ?_
    refine j_bipush (v := 10) hC dX8_count_158 (by decide) ?_
    refine j_callS (nA := 3) (rest := []) hC [.int x1, .int 5, .int 10] rfl (fun r hr => mX8_in (XL X) (XG X) hG fu (XD X) M2 x1 5 10 r hr) q1641 q1642 q136 q1643 (by decide +kernel) rfl rfl rfl rfl rfl rfl dX8_count_160 (fun v160 => [.int v160]) (fun _ => rfl) (fun v160 M160 => ?_)
    refine j_if_eq (tgt := 175) hC dX8_count_163 (by decide) (fun h163 => ?_) (fun h163 => ?_)
    · refine j_iconst (v := (-1)) hC dX8_count_175 (by decide) ?_
      exact j_sub [] rfl (wX8_count_176 hC hG hnl fu M160 (-1))
    · refine j_aload_n hC 0 dX8_count_166 rfl ?_
      refine j_getR (fk := 1) hC (dmMo hG rfl) rfl rfl in_X8 rfl rfl q1465 rfl dX8_count_167 ?_
      refine j_iload_n hC 1 dX8_count_170 rfl ?_
      refine j_iald hC (dmMo hG rfl) rfl dX8_count_171 (fun h171 => ?_)
      refine j_goto (tgt := 176) hC dX8_count_172 (by decide) ?_
      exact j_sub [] rfl (wX8_count_176 hC hG hnl fu M160 (M160 (5, 0, 1) x1.toNatClampNeg))
  · show J X (ZN X foI) _ 156 _ _ _ _ _
    refine j_iload_n hC 1 dX8_count_156 rfl ?_
    refine j_iconst (v := 5) hC dX8_count_157 (by decide) ?_
    refine j_bipush (v := 10) hC dX8_count_158 (by decide) ?_
    refine j_callS (nA := 3) (rest := []) hC [.int x1, .int 5, .int 10] rfl (fun r hr => mX8_in (XL X) (XG X) hG fu (XD X) M2 x1 5 10 r hr) q1641 q1642 q136 q1643 (by decide +kernel) rfl rfl rfl rfl rfl rfl dX8_count_160 (fun v160 => [.int v160]) (fun _ => rfl) (fun v160 M160 => ?_)
    refine j_if_eq (tgt := 175) hC dX8_count_163 (by decide) (fun h163 => ?_) (fun h163 => ?_)
    · refine j_iconst (v := (-1)) hC dX8_count_175 (by decide) ?_
      exact j_sub [] rfl (wX8_count_176 hC hG hnl fu M160 (-1))
    · refine j_aload_n hC 0 dX8_count_166 rfl ?_
      refine j_getR (fk := 1) hC (dmMo hG rfl) rfl rfl in_X8 rfl rfl q1465 rfl dX8_count_167 ?_
      refine j_iload_n hC 1 dX8_count_170 rfl ?_
      refine j_iald hC (dmMo hG rfl) rfl dX8_count_171 (fun h171 => ?_)
      refine j_goto (tgt := 176) hC dX8_count_172 (by decide) ?_
      exact j_sub [] rfl (wX8_count_176 hC hG hnl fu M160 (M160 (5, 0, 1) x1.toNatClampNeg))
  · show J X (ZN X foI) _ 156 _ _ _ _ _
    refine j_iload_n hC 1 dX8_count_156 rfl ?_
    refine j_iconst (v := 5) hC dX8_count_157 (by decide) ?_
    refine j_bipush (v := 10) hC dX8_count_158 (by decide) ?_
    refine j_callS (nA := 3) (rest := []) hC [.int x1, .int 5, .int 10] rfl (fun r hr => mX8_in (XL X) (XG X) hG fu (XD X) M2 x1 5 10 r hr) q1641 q1642 q136 q1643 (by decide +kernel) rfl rfl rfl rfl rfl rfl dX8_count_160 (fun v160 => [.int v160]) (fun _ => rfl) (fun v160 M160 => ?_)
    refine j_if_eq (tgt := 175) hC dX8_count_163 (by decide) (fun h163 => ?_) (fun h163 => ?_)
    · refine j_iconst (v := (-1)) hC dX8_count_175 (by decide) ?_
      exact j_sub [] rfl (wX8_count_176 hC hG hnl fu M160 (-1))
    · refine j_aload_n hC 0 dX8_count_166 rfl ?_
      refine j_getR (fk := 1) hC (dmMo hG rfl) rfl rfl in_X8 rfl rfl q1465 rfl dX8_count_167 ?_
      refine j_iload_n hC 1 dX8_count_170 rfl ?_
      refine j_iald hC (dmMo hG rfl) rfl dX8_count_171 (fun h171 => ?_)
      refine j_goto (tgt := 176) hC dX8_count_172 (by decide) ?_
      exact j_sub [] rfl (wX8_count_176 hC hG hnl fu M160 (M160 (5, 0, 1) x1.toNatClampNeg))
  · show J X (ZN X foI) _ 156 _ _ _ _ _
    refine j_iload_n hC 1 dX8_count_156 rfl ?_
    refine j_iconst (v := 5) hC dX8_count_157 (by decide) ?_
    refine j_bipush (v := 10) hC dX8_count_158 (by decide) ?_
    refine j_callS (nA := 3) (rest := []) hC [.int x1, .int 5, .int 10] rfl (fun r hr => mX8_in (XL X) (XG X) hG fu (XD X) M2 x1 5 10 r hr) q1641 q1642 q136 q1643 (by decide +kernel) rfl rfl rfl rfl rfl rfl dX8_count_160 (fun v160 => [.int v160]) (fun _ => rfl) (fun v160 M160 => ?_)
    refine j_if_eq (tgt := 175) hC dX8_count_163 (by decide) (fun h163 => ?_) (fun h163 => ?_)
    · refine j_iconst (v := (-1)) hC dX8_count_175 (by decide) ?_
      exact j_sub [] rfl (wX8_count_176 hC hG hnl fu M160 (-1))
    · refine j_aload_n hC 0 dX8_count_166 rfl ?_
      refine j_getR (fk := 1) hC (dmMo hG rfl) rfl rfl in_X8 rfl rfl q1465 rfl dX8_count_167 ?_
      refine j_iload_n hC 1 dX8_count_170 rfl ?_
      refine j_iald hC (dmMo hG rfl) rfl dX8_count_171 (fun h171 => ?_)
      refine j_goto (tgt := 176) hC dX8_count_172 (by decide) ?_
      exact j_sub [] rfl (wX8_count_176 hC hG hnl fu M160 (M160 (5, 0, 1) x1.toNatClampNeg))
  · show J X (ZN X foI) _ 125 _ _ _ _ _
    refine j_aload_n hC 0 dX8_count_125 rfl ?_
    refine j_callV (nA := 0) (rest := []) hC [] rfl (fun r hr => mX8_openOnes (XL X) (XG X) hG fu (XD X) M2 r hr) q2105 q2107 qs123 q136 q2108 (dmMo hG rfl) rfl rfl (by decide +kernel) rfl rfl rfl rfl rfl rfl dX8_count_126 (fun v126 => [.int v126]) (fun _ => rfl) (fun v126 M126 => ?_)
    exact j_iret hC dX8_count_129
  · show J X (ZN X foI) _ 130 _ _ _ _ _
    refine j_aload_n hC 0 dX8_count_130 rfl ?_
    refine j_callV (nA := 0) (rest := []) hC [] rfl (fun r hr => mX8_isCalm (XL X) (XG X) hG fu (XD X) M2 r hr) q2109 q2111 qs124 q136 q2112 (dmMo hG rfl) rfl rfl (by decide +kernel) rfl rfl rfl rfl rfl rfl dX8_count_131 (fun v131 => [.int v131]) (fun _ => rfl) (fun v131 M131 => ?_)
    refine j_if_eq (tgt := 141) hC dX8_count_134 (by decide) (fun h134 => ?_) (fun h134 => ?_)
    · refine j_iconst (v := 0) hC dX8_count_141 (by decide) ?_
      exact j_sub [] rfl (wX8_count_142 hC hG hnl fu M131 0)
    · refine j_iconst (v := 1) hC dX8_count_137 (by decide) ?_
      refine j_goto (tgt := 142) hC dX8_count_138 (by decide) ?_
      exact j_sub [] rfl (wX8_count_142 hC hG hnl fu M131 1)
  · show J X (ZN X foI) _ 143 _ _ _ _ _
    refine j_aload_n hC 0 dX8_count_143 rfl ?_
    refine j_getR (fk := 1) hC (dmMo hG rfl) rfl rfl in_X8 rfl rfl q1465 rfl dX8_count_144 ?_
    refine j_bipush (v := 11) hC dX8_count_147 (by decide) ?_
    refine j_iald hC (dmMo hG rfl) rfl dX8_count_149 (fun h149 => ?_)
    exact j_iret hC dX8_count_150
  · show J X (ZN X foI) _ 151 _ _ _ _ _
    refine j_aload_n hC 0 dX8_count_151 rfl ?_
    refine j_getI (fk := 7) hC (dmMo hG rfl) rfl rfl in_X8 rfl rfl q1471 rfl dX8_count_152 ?_
    exact j_iret hC dX8_count_155
set_option linter.unusedVariables false in
set_option maxRecDepth 100000 in
theorem mX8_count (l : Launch) (Γ : xG) (hG : dmI dmM Γ) (fu : Nat) (D : List LDen) (M : Mem) (x1 : Int32) (r : Int32 × Mem) (hr : FX8_count fu D M x1 = some r) : CN l yX8_count (ws_ yX8_count cX8_count 2 (some .int)) 5 98 Γ D [.ref (gadr Γ (5, 0, 0)), .int x1] M (foI r.1) r.2 := by
  refine CN.of (own := RX8) (lv0 := lv_args 0 [.ref (gadr Γ (5, 0, 0)), .int x1]) (by decide +kernel) rfl (Nat.le_of_ble_eq_true rfl) rfl (fun X e1 e2 e3 e4 hC => ?_) r hr
  subst e1
  subst e2
  exact wX8_count hC hG e4 fu M x1
