/-! the model: the walks (printed by gen/gen.py) -/
set_option maxRecDepth 100000
set_option linter.unusedVariables false in
set_option maxRecDepth 100000 in
theorem wX8_looks {X : JX} (hC : JC X cX8_looks RX8 none 1 12 0 0) (hG : dmI dmM (XG X)) (hnl : nLof X = 5) (fu : Nat) (M : Mem) (x1 x2 x3 x4 : Int32) : J X (ZN X foV) (FX8_looks fu (XD X) M x1 x2 x3 x4) 0 [(0, .ref (gadr (XG X) (5, 0, 0))), (1, .int x1), (2, .int x2), (3, .int x3), (4, .int x4)] [] M 0 0 := by
  unfold FX8_looks
  refine j_aload_n hC 0 dX8_looks_0 rfl ?_
  refine j_iload_n hC 1 dX8_looks_1 rfl ?_
  refine j_put (fk := 18) (ty := .int) hC (dmMo hG rfl) rfl rfl in_X8 rfl rfl q1482 tyX8 tyX8_ok nmX8 rfl rfl (by decide +kernel) rfl rfl dX8_looks_2 ?_
  refine j_lt (fun M2 => ?_)
  refine j_aload_n hC 0 dX8_looks_5 rfl ?_
  refine j_iload_n hC 2 dX8_looks_6 rfl ?_
  refine j_put (fk := 19) (ty := .int) hC (dmMo hG rfl) rfl rfl in_X8 rfl rfl q1483 tyX8 tyX8_ok nmX8 rfl rfl (by decide +kernel) rfl rfl dX8_looks_7 ?_
  refine j_lt (fun M7 => ?_)
  refine j_aload_n hC 0 dX8_looks_10 rfl ?_
  refine j_iload_n hC 3 dX8_looks_11 rfl ?_
  refine j_put (fk := 20) (ty := .int) hC (dmMo hG rfl) rfl rfl in_X8 rfl rfl q1484 tyX8 tyX8_ok nmX8 rfl rfl (by decide +kernel) rfl rfl dX8_looks_12 ?_
  refine j_lt (fun M12 => ?_)
  refine j_aload_n hC 0 dX8_looks_15 rfl ?_
  refine j_iload hC 4 dX8_looks_16 rfl ?_
  refine j_put (fk := 21) (ty := .int) hC (dmMo hG rfl) rfl rfl in_X8 rfl rfl q1485 tyX8 tyX8_ok nmX8 rfl rfl (by decide +kernel) rfl rfl dX8_looks_18 ?_
  refine j_lt (fun M18 => ?_)
  exact j_vret hC dX8_looks_21
set_option linter.unusedVariables false in
set_option maxRecDepth 100000 in
theorem mX8_looks (l : Launch) (Γ : xG) (hG : dmI dmM Γ) (fu : Nat) (D : List LDen) (M : Mem) (x1 x2 x3 x4 : Int32) (r : Int32 × Mem) (hr : FX8_looks fu D M x1 x2 x3 x4 = some r) : CN l yX8_looks (ws_ yX8_looks cX8_looks 5 none) 1 12 Γ D [.ref (gadr Γ (5, 0, 0)), .int x1, .int x2, .int x3, .int x4] M (foV r.1) r.2 := by
  refine CN.of (own := RX8) (lv0 := lv_args 0 [.ref (gadr Γ (5, 0, 0)), .int x1, .int x2, .int x3, .int x4]) (by decide +kernel) rfl (Nat.le_of_ble_eq_true rfl) rfl (fun X e1 e2 e3 e4 hC => ?_) r hr
  subst e1
  subst e2
  exact wX8_looks hC hG e4 fu M x1 x2 x3 x4
set_option linter.unusedVariables false in
set_option maxRecDepth 100000 in
theorem wX8_ofBird {X : JX} (hC : JC X cX8_ofBird RX8 (some .int) 1 12 0 0) (hG : dmI dmM (XG X)) (hnl : nLof X = 3) (fu : Nat) (M : Mem) (x1 x2 : Int32) : J X (ZN X foI) (FX8_ofBird fu (XD X) M x1 x2) 0 [(0, .ref (gadr (XG X) (5, 0, 0))), (1, .int x1), (2, .int x2)] [] M 0 0 := by
  unfold FX8_ofBird
  refine j_aload_n hC 0 dX8_ofBird_0 rfl ?_
  refine j_getR (fk := 1) hC (dmMo hG rfl) rfl rfl in_X8 rfl rfl q1465 rfl dX8_ofBird_1 ?_
  refine j_bipush (v := 26) hC dX8_ofBird_4 (by decide) ?_
  refine j_iconst (v := 4) hC dX8_ofBird_6 (by decide) ?_
  refine j_iload_n hC 1 dX8_ofBird_7 rfl ?_
  refine j_imul hC dX8_ofBird_8 ?_
  refine j_iadd hC dX8_ofBird_9 ?_
  refine j_iload_n hC 2 dX8_ofBird_10 rfl ?_
  refine j_iadd hC dX8_ofBird_11 ?_
  refine j_iald hC (dmMo hG rfl) rfl dX8_ofBird_12 (fun h12 => ?_)
  exact j_iret hC dX8_ofBird_13
set_option linter.unusedVariables false in
set_option maxRecDepth 100000 in
theorem mX8_ofBird (l : Launch) (Γ : xG) (hG : dmI dmM Γ) (fu : Nat) (D : List LDen) (M : Mem) (x1 x2 : Int32) (r : Int32 × Mem) (hr : FX8_ofBird fu D M x1 x2 = some r) : CN l yX8_ofBird (ws_ yX8_ofBird cX8_ofBird 3 (some .int)) 1 12 Γ D [.ref (gadr Γ (5, 0, 0)), .int x1, .int x2] M (foI r.1) r.2 := by
  refine CN.of (own := RX8) (lv0 := lv_args 0 [.ref (gadr Γ (5, 0, 0)), .int x1, .int x2]) (by decide +kernel) rfl (Nat.le_of_ble_eq_true rfl) rfl (fun X e1 e2 e3 e4 hC => ?_) r hr
  subst e1
  subst e2
  exact wX8_ofBird hC hG e4 fu M x1 x2
set_option linter.unusedVariables false in
set_option maxRecDepth 100000 in
theorem wX8_isOver {X : JX} (hC : JC X cX8_isOver RX8 (some .boolean) 2 34 0 0) (hG : dmI dmM (XG X)) (hnl : nLof X = 2) (fu : Nat) (M : Mem) (x1 : Int32) : J X (ZN X foI) (FX8_isOver fu (XD X) M x1) 0 [(0, .ref (gadr (XG X) (5, 0, 0))), (1, .int x1)] [] M 0 0 := by
  unfold FX8_isOver
  refine j_iload_n hC 1 dX8_isOver_0 rfl ?_
  refine j_aload_n hC 0 dX8_isOver_1 rfl ?_
  refine j_getR (fk := 1) hC (dmMo hG rfl) rfl rfl in_X8 rfl rfl q1465 rfl dX8_isOver_2 ?_
  refine j_bipush (v := 9) hC dX8_isOver_5 (by decide) ?_
  refine j_iald hC (dmMo hG rfl) rfl dX8_isOver_7 (fun h7 => ?_)
  refine j_aload_n hC 0 dX8_isOver_8 rfl ?_
  refine j_getR (fk := 1) hC (dmMo hG rfl) rfl rfl in_X8 rfl rfl q1465 rfl dX8_isOver_9 ?_
  refine j_bipush (v := 10) hC dX8_isOver_12 (by decide) ?_
  refine j_iald hC (dmMo hG rfl) rfl dX8_isOver_14 (fun h14 => ?_)
  refine j_callS (nA := 3) (rest := []) hC [.int x1, .int (M (5, 0, 1) 9), .int (M (5, 0, 1) 10)] rfl (fun r hr => mX8_in (XL X) (XG X) hG fu (XD X) M x1 (M (5, 0, 1) 9) (M (5, 0, 1) 10) r hr) q1641 q1642 q136 q1643 (by decide +kernel) rfl rfl rfl rfl rfl rfl dX8_isOver_15 (fun v15 => [.int v15]) (fun _ => rfl) (fun v15 M15 => ?_)
  exact j_zret hC rfl dX8_isOver_18
set_option linter.unusedVariables false in
set_option maxRecDepth 100000 in
theorem mX8_isOver (l : Launch) (Γ : xG) (hG : dmI dmM Γ) (fu : Nat) (D : List LDen) (M : Mem) (x1 : Int32) (r : Int32 × Mem) (hr : FX8_isOver fu D M x1 = some r) : CN l yX8_isOver (ws_ yX8_isOver cX8_isOver 2 (some .boolean)) 2 34 Γ D [.ref (gadr Γ (5, 0, 0)), .int x1] M (foI r.1) r.2 := by
  refine CN.of (own := RX8) (lv0 := lv_args 0 [.ref (gadr Γ (5, 0, 0)), .int x1]) (by decide +kernel) rfl (Nat.le_of_ble_eq_true rfl) rfl (fun X e1 e2 e3 e4 hC => ?_) r hr
  subst e1
  subst e2
  exact wX8_isOver hC hG e4 fu M x1
set_option linter.unusedVariables false in
set_option maxRecDepth 100000 in
theorem wX8_factOf_107 {X : JX} (hC : JC X cX8_factOf RX8 (some .int) 3 55 0 0) (hG : dmI dmM (XG X)) (hnl : nLof X = 3) (fu : Nat) (M : Mem) (t0 : Int32) : J X (ZN X foI) (FX8_factOf_107 fu (XD X) M t0) 107 [] [.int t0] M 0 0 := by
  unfold FX8_factOf_107
  exact j_iret hC dX8_factOf_107
set_option linter.unusedVariables false in
set_option maxRecDepth 100000 in
theorem wX8_factOf_124 {X : JX} (hC : JC X cX8_factOf RX8 (some .int) 3 55 0 0) (hG : dmI dmM (XG X)) (hnl : nLof X = 3) (fu : Nat) (M : Mem) (t0 : Int32) : J X (ZN X foI) (FX8_factOf_124 fu (XD X) M t0) 124 [] [.int t0] M 0 0 := by
  unfold FX8_factOf_124
  exact j_iret hC dX8_factOf_124
set_option linter.unusedVariables false in
set_option maxRecDepth 100000 in
theorem wX8_factOf {X : JX} (hC : JC X cX8_factOf RX8 (some .int) 3 55 0 0) (hG : dmI dmM (XG X)) (hnl : nLof X = 3) (fu : Nat) (M : Mem) (x1 x2 : Int32) : J X (ZN X foI) (FX8_factOf fu (XD X) M x1 x2) 0 [(0, .ref (gadr (XG X) (5, 0, 0))), (1, .int x1), (2, .int x2)] [] M 0 0 := by
  unfold FX8_factOf
  refine j_iload_n hC 1 dX8_factOf_0 rfl ?_
  refine j_table (tgt := 125) (os := [47, 52, 57, 62, 72, 80, 85, 107]) hC dX8_factOf_1 rfl rfl rfl (by decide) (by decide) ?_ ⟨?_, ?_, ?_, ?_, ?_, ?_, ?_, ?_, trivial⟩
  · refine j_iload_n hC 2 dX8_factOf_125 rfl ?_
    exact j_iret hC dX8_factOf_126
  · show J X (ZN X foI) _ 48 _ _ _ _ _
    refine j_aload_n hC 0 dX8_factOf_48 rfl ?_
    refine j_getI (fk := 18) hC (dmMo hG rfl) rfl rfl in_X8 rfl rfl q1482 rfl dX8_factOf_49 ?_
    exact j_iret hC dX8_factOf_52
  · show J X (ZN X foI) _ 53 _ _ _ _ _
    refine j_aload_n hC 0 dX8_factOf_53 rfl ?_
    refine j_getI (fk := 19) hC (dmMo hG rfl) rfl rfl in_X8 rfl rfl q1483 rfl dX8_factOf_54 ?_
    exact j_iret hC dX8_factOf_57
  · show J X (ZN X foI) _ 58 _ _ _ _ _
    refine j_aload_n hC 0 dX8_factOf_58 rfl ?_
    refine j_getI (fk := 20) hC (dmMo hG rfl) rfl rfl in_X8 rfl rfl q1484 rfl dX8_factOf_59 ?_
    exact j_iret hC dX8_factOf_62
  · show J X (ZN X foI) _ 63 _ _ _ _ _
    refine j_aload_n hC 0 dX8_factOf_63 rfl ?_
    refine j_aload_n hC 0 dX8_factOf_64 rfl ?_
    refine j_getI (fk := 18) hC (dmMo hG rfl) rfl rfl in_X8 rfl rfl q1482 rfl dX8_factOf_65 ?_
    refine j_iconst (v := 1) hC dX8_factOf_68 (by decide) ?_
    refine j_callV (nA := 2) (rest := []) hC [.int (M (5, 0, 0) 18), .int 1] rfl (fun r hr => mX8_ofBird (XL X) (XG X) hG fu (XD X) M (M (5, 0, 0) 18) 1 r hr) q1778 q1780 qs80 q136 q1781 (dmMo hG rfl) rfl rfl (by decide +kernel) rfl rfl rfl rfl rfl rfl dX8_factOf_69 (fun v69 => [.int v69]) (fun _ => rfl) (fun v69 M69 => ?_)
    exact j_iret hC dX8_factOf_72
  · show J X (ZN X foI) _ 73 _ _ _ _ _
    refine j_aload_n hC 0 dX8_factOf_73 rfl ?_
    refine j_getR (fk := 1) hC (dmMo hG rfl) rfl rfl in_X8 rfl rfl q1465 rfl dX8_factOf_74 ?_
    refine j_bipush (v := 6) hC dX8_factOf_77 (by decide) ?_
    refine j_iald hC (dmMo hG rfl) rfl dX8_factOf_79 (fun h79 => ?_)
    exact j_iret hC dX8_factOf_80
  · show J X (ZN X foI) _ 81 _ _ _ _ _
    refine j_aload_n hC 0 dX8_factOf_81 rfl ?_
    refine j_getI (fk := 21) hC (dmMo hG rfl) rfl rfl in_X8 rfl rfl q1485 rfl dX8_factOf_82 ?_
    exact j_iret hC dX8_factOf_85
  · show J X (ZN X foI) _ 86 _ _ _ _ _
    refine j_aload_n hC 0 dX8_factOf_86 rfl ?_
    refine j_getI (fk := 19) hC (dmMo hG rfl) rfl rfl in_X8 rfl rfl q1483 rfl dX8_factOf_87 ?_
    refine j_aload_n hC 0 dX8_factOf_90 rfl ?_
    refine j_getR (fk := 1) hC (dmMo hG rfl) rfl rfl in_X8 rfl rfl q1465 rfl dX8_factOf_91 ?_
    refine j_bipush (v := 8) hC dX8_factOf_94 (by decide) ?_
    refine j_iald hC (dmMo hG rfl) rfl dX8_factOf_96 (fun h96 => ?_)
    refine j_iconst (v := 2) hC dX8_factOf_97 (by decide) ?_
    refine j_idivL hC dX8_factOf_98 (by decide) ?_
    refine j_icmp_le (tgt := 106) hC dX8_factOf_99 (by decide) (fun h99 => ?_) (fun h99 => ?_)
    · refine j_iconst (v := 0) hC dX8_factOf_106 (by decide) ?_
      exact j_sub [] rfl (wX8_factOf_107 hC hG hnl fu M 0)
    · refine j_iconst (v := 1) hC dX8_factOf_102 (by decide) ?_
      refine j_goto (tgt := 107) hC dX8_factOf_103 (by decide) ?_
      exact j_sub [] rfl (wX8_factOf_107 hC hG hnl fu M 1)
  · show J X (ZN X foI) _ 108 _ _ _ _ _
    refine j_aload_n hC 0 dX8_factOf_108 rfl ?_
    refine j_aload_n hC 0 dX8_factOf_109 rfl ?_
    refine j_getI (fk := 20) hC (dmMo hG rfl) rfl rfl in_X8 rfl rfl q1484 rfl dX8_factOf_110 ?_
    refine j_callV (nA := 1) (rest := []) hC [.int (M (5, 0, 0) 20)] rfl (fun r hr => mX8_isOver (XL X) (XG X) hG fu (XD X) M (M (5, 0, 0) 20) r hr) q1794 q1796 qs84 q136 q1797 (dmMo hG rfl) rfl rfl (by decide +kernel) rfl rfl rfl rfl rfl rfl dX8_factOf_113 (fun v113 => [.int v113]) (fun _ => rfl) (fun v113 M113 => ?_)
    refine j_if_eq (tgt := 123) hC dX8_factOf_116 (by decide) (fun h116 => ?_) (fun h116 => ?_)
    · refine j_iconst (v := 0) hC dX8_factOf_123 (by decide) ?_
      exact j_sub [] rfl (wX8_factOf_124 hC hG hnl fu M113 0)
    · refine j_iconst (v := 1) hC dX8_factOf_119 (by decide) ?_
      refine j_goto (tgt := 124) hC dX8_factOf_120 (by decide) ?_
      exact j_sub [] rfl (wX8_factOf_124 hC hG hnl fu M113 1)
set_option linter.unusedVariables false in
set_option maxRecDepth 100000 in
theorem mX8_factOf (l : Launch) (Γ : xG) (hG : dmI dmM Γ) (fu : Nat) (D : List LDen) (M : Mem) (x1 x2 : Int32) (r : Int32 × Mem) (hr : FX8_factOf fu D M x1 x2 = some r) : CN l yX8_factOf (ws_ yX8_factOf cX8_factOf 3 (some .int)) 3 55 Γ D [.ref (gadr Γ (5, 0, 0)), .int x1, .int x2] M (foI r.1) r.2 := by
  refine CN.of (own := RX8) (lv0 := lv_args 0 [.ref (gadr Γ (5, 0, 0)), .int x1, .int x2]) (by decide +kernel) rfl (Nat.le_of_ble_eq_true rfl) rfl (fun X e1 e2 e3 e4 hC => ?_) r hr
  subst e1
  subst e2
  exact wX8_factOf hC hG e4 fu M x1 x2
set_option linter.unusedVariables false in
set_option maxRecDepth 100000 in
theorem wX8_holdsLine_278 {X : JX} (hC : JC X cX8_holdsLine RX8 (some .boolean) 4 77 0 0) (hG : dmI dmM (XG X)) (hnl : nLof X = 9) (fu : Nat) (M : Mem) (t0 : Int32) : J X (ZN X foI) (FX8_holdsLine_278 fu (XD X) M t0) 278 [] [.int t0] M 0 0 := by
  unfold FX8_holdsLine_278
  exact j_zret hC rfl dX8_holdsLine_278
set_option linter.unusedVariables false in
set_option maxRecDepth 100000 in
theorem wX8_holdsLine_273 {X : JX} (hC : JC X cX8_holdsLine RX8 (some .boolean) 4 77 0 0) (hG : dmI dmM (XG X)) (hnl : nLof X = 9) (fu : Nat) (M : Mem) : J X (ZN X foI) (FX8_holdsLine_273 fu (XD X) M) 273 [] [] M 0 0 := by
  unfold FX8_holdsLine_273
  refine j_iconst (v := 1) hC dX8_holdsLine_273 (by decide) ?_
  refine j_goto (tgt := 278) hC dX8_holdsLine_274 (by decide) ?_
  exact j_sub [] rfl (wX8_holdsLine_278 hC hG hnl fu M 1)
set_option linter.unusedVariables false in
set_option maxRecDepth 100000 in
theorem wX8_holdsLine_253 {X : JX} (hC : JC X cX8_holdsLine RX8 (some .boolean) 4 77 0 0) (hG : dmI dmM (XG X)) (hnl : nLof X = 9) (fu : Nat) (kn20 : Mem × Int32 × Int32 × Int32 → Option (Int32 × Mem)) (hk20 : ∀ (M : Mem) (x2 x3 x4 : Int32), J X (ZN X foI) (kn20 (M, x2, x3, x4)) 20 [(0, .ref (gadr (XG X) (5, 0, 0))), (2, .int x2), (3, .int x3), (4, .int x4)] [] M 0 0) (M : Mem) (x2 x3 x4 : Int32) : J X (ZN X foI) (FX8_holdsLine_253 fu (XD X) kn20 M x2 x3 x4) 253 [(0, .ref (gadr (XG X) (5, 0, 0))), (2, .int x2), (3, .int x3), (4, .int x4)] [] M 0 0 := by
  unfold FX8_holdsLine_253
  refine j_iincL hC 3 (fun y253 => [(4, .int y253), (0, .ref (gadr (XG X) (5, 0, 0))), (2, .int x2), (3, .int x3)]) hnl dX8_holdsLine_253 rfl (by decide) rfl (fun _ => rfl) (fun y253 => ?_)
  refine j_goto (tgt := 20) hC dX8_holdsLine_256 (by decide) ?_
  exact j_sub [1, 2, 3, 0] rfl (hk20 M x2 x3 y253)
set_option linter.unusedVariables false in
set_option maxRecDepth 100000 in
theorem wX8_holdsLine_252 {X : JX} (hC : JC X cX8_holdsLine RX8 (some .boolean) 4 77 0 0) (hG : dmI dmM (XG X)) (hnl : nLof X = 9) (fu : Nat) (kn20 : Mem × Int32 × Int32 × Int32 → Option (Int32 × Mem)) (hk20 : ∀ (M : Mem) (x2 x3 x4 : Int32), J X (ZN X foI) (kn20 (M, x2, x3, x4)) 20 [(0, .ref (gadr (XG X) (5, 0, 0))), (2, .int x2), (3, .int x3), (4, .int x4)] [] M 0 0) (M : Mem) (x2 x3 x4 t0 t1 : Int32) : J X (ZN X foI) (FX8_holdsLine_252 fu (XD X) kn20 M x2 x3 x4 t0 t1) 252 [(0, .ref (gadr (XG X) (5, 0, 0))), (2, .int x2), (3, .int x3), (4, .int x4)] [.int t0, .int t1, .ref (gadr (XG X) (5, 0, 8))] M 0 0 := by
  unfold FX8_holdsLine_252
  refine j_iast hC (dmMo hG rfl) rfl dX8_holdsLine_252 (fun h252 => ?_)
  refine j_lt (fun M252 => ?_)
  exact j_sub [0, 1, 2, 3] rfl (wX8_holdsLine_253 hC hG hnl fu kn20 hk20 M252 x2 x3 x4)
set_option linter.unusedVariables false in
set_option maxRecDepth 100000 in
theorem wX8_holdsLine_218 {X : JX} (hC : JC X cX8_holdsLine RX8 (some .boolean) 4 77 0 0) (hG : dmI dmM (XG X)) (hnl : nLof X = 9) (fu : Nat) (kn20 : Mem × Int32 × Int32 × Int32 → Option (Int32 × Mem)) (hk20 : ∀ (M : Mem) (x2 x3 x4 : Int32), J X (ZN X foI) (kn20 (M, x2, x3, x4)) 20 [(0, .ref (gadr (XG X) (5, 0, 0))), (2, .int x2), (3, .int x3), (4, .int x4)] [] M 0 0) (M : Mem) (x2 x3 x4 x5 x6 x7 t0 : Int32) : J X (ZN X foI) (FX8_holdsLine_218 fu (XD X) kn20 M x2 x3 x4 x5 x6 x7 t0) 218 [(0, .ref (gadr (XG X) (5, 0, 0))), (2, .int x2), (3, .int x3), (4, .int x4), (5, .int x5), (6, .int x6), (7, .int x7)] [.int t0] M 0 0 := by
  unfold FX8_holdsLine_218
  refine j_istore hC [(8, .int t0), (0, .ref (gadr (XG X) (5, 0, 0))), (2, .int x2), (3, .int x3), (4, .int x4), (5, .int x5), (6, .int x6), (7, .int x7)] hnl dX8_holdsLine_218 rfl rfl ?_
  refine j_aload_n hC 1 dX8_holdsLine_220 rfl ?_
  refine j_getR (fk := 17) hC (dmMo hG rfl) rfl rfl in_X8 rfl rfl q1481 rfl dX8_holdsLine_221 ?_
  refine j_iload_n hC 2 dX8_holdsLine_224 rfl ?_
  refine j_iconst (v := 1) hC dX8_holdsLine_225 (by decide) ?_
  refine j_isub hC dX8_holdsLine_226 ?_
  refine j_iload hC 5 dX8_holdsLine_227 rfl ?_
  refine j_bipush (v := 9) hC dX8_holdsLine_229 (by decide) ?_
  refine j_icmp_ne (tgt := 242) hC dX8_holdsLine_231 (by decide) (fun h231 => ?_) (fun h231 => ?_)
  · refine j_iload hC 6 dX8_holdsLine_234 rfl ?_
    refine j_iload hC 7 dX8_holdsLine_236 rfl ?_
    refine j_iadd hC dX8_holdsLine_238 ?_
    refine j_goto (tgt := 252) hC dX8_holdsLine_239 (by decide) ?_
    exact j_sub [1, 2, 3, 4] rfl (wX8_holdsLine_252 hC hG hnl fu kn20 hk20 M x2 x3 x4 (x6 + x7) (x2 - 1))
  · refine j_iload hC 0 dX8_holdsLine_242 rfl ?_
    refine j_if_eq (tgt := 251) hC dX8_holdsLine_244 (by decide) (fun h244 => ?_) (fun h244 => ?_)
    · refine j_iconst (v := 0) hC dX8_holdsLine_251 (by decide) ?_
      exact j_sub [1, 2, 3, 4] rfl (wX8_holdsLine_252 hC hG hnl fu kn20 hk20 M x2 x3 x4 0 (x2 - 1))
    · refine j_iconst (v := 1) hC dX8_holdsLine_247 (by decide) ?_
      refine j_goto (tgt := 252) hC dX8_holdsLine_248 (by decide) ?_
      exact j_sub [1, 2, 3, 4] rfl (wX8_holdsLine_252 hC hG hnl fu kn20 hk20 M x2 x3 x4 1 (x2 - 1))
set_option linter.unusedVariables false in
set_option maxRecDepth 100000 in
theorem wgX8_holdsLine_20 {X : JX} (hC : JC X cX8_holdsLine RX8 (some .boolean) 4 77 0 0) (hG : dmI dmM (XG X)) (hnl : nLof X = 9) (fu : Nat) (kn20 : Mem × Int32 × Int32 × Int32 → Option (Int32 × Mem)) (hk20 : ∀ (M : Mem) (x2 x3 x4 : Int32), J X (ZN X foI) (kn20 (M, x2, x3, x4)) 20 [(0, .ref (gadr (XG X) (5, 0, 0))), (2, .int x2), (3, .int x3), (4, .int x4)] [] M 0 0) (M : Mem) (x2 x3 x4 : Int32) : J X (ZN X foI) (GX8_holdsLine_20 fu (XD X) kn20 M x2 x3 x4) 20 [(0, .ref (gadr (XG X) (5, 0, 0))), (2, .int x2), (3, .int x3), (4, .int x4)] [] M 0 0 := by
  unfold GX8_holdsLine_20
  refine j_iload hC 3 dX8_holdsLine_20 rfl ?_
  refine j_aload_n hC 0 dX8_holdsLine_22 rfl ?_
  refine j_getR (fk := 1) hC (dmMo hG rfl) rfl rfl in_X8 rfl rfl q1465 rfl dX8_holdsLine_23 ?_
  refine j_iload_n hC 2 dX8_holdsLine_26 rfl ?_
  refine j_iconst (v := 3) hC dX8_holdsLine_27 (by decide) ?_
  refine j_iadd hC dX8_holdsLine_28 ?_
  refine j_iald hC (dmMo hG rfl) rfl dX8_holdsLine_29 (fun h29 => ?_)
  refine j_icmp_ge (tgt := 259) hC dX8_holdsLine_30 (by decide) (fun h30 => ?_) (fun h30 => ?_)
  · refine j_iload_n hC 1 dX8_holdsLine_259 rfl ?_
    refine j_if_eq (tgt := 273) hC dX8_holdsLine_260 (by decide) (fun h260 => ?_) (fun h260 => ?_)
    · exact j_sub [] rfl (wX8_holdsLine_273 hC hG hnl fu M)
    · refine j_aload_n hC 0 dX8_holdsLine_263 rfl ?_
      refine j_getR (fk := 17) hC (dmMo hG rfl) rfl rfl in_X8 rfl rfl q1481 rfl dX8_holdsLine_264 ?_
      refine j_iconst (v := 0) hC dX8_holdsLine_267 (by decide) ?_
      refine j_iald hC (dmMo hG rfl) rfl dX8_holdsLine_268 (fun h268 => ?_)
      refine j_iconst (v := 1) hC dX8_holdsLine_269 (by decide) ?_
      refine j_icmp_ne (tgt := 277) hC dX8_holdsLine_270 (by decide) (fun h270 => ?_) (fun h270 => ?_)
      · exact j_sub [] rfl (wX8_holdsLine_273 hC hG hnl fu M)
      · refine j_iconst (v := 0) hC dX8_holdsLine_277 (by decide) ?_
        exact j_sub [] rfl (wX8_holdsLine_278 hC hG hnl fu M 0)
  · refine j_aload_n hC 0 dX8_holdsLine_33 rfl ?_
    refine j_getR (fk := 1) hC (dmMo hG rfl) rfl rfl in_X8 rfl rfl q1465 rfl dX8_holdsLine_34 ?_
    refine j_sipush (v := 531) hC dX8_holdsLine_37 (by decide) ?_
    refine j_iconst (v := 2) hC dX8_holdsLine_40 (by decide) ?_
    refine j_iload hC 3 dX8_holdsLine_41 rfl ?_
    refine j_imul hC dX8_holdsLine_43 ?_
    refine j_iadd hC dX8_holdsLine_44 ?_
    refine j_iald hC (dmMo hG rfl) rfl dX8_holdsLine_45 (fun h45 => ?_)
    refine j_ltT (fun y46 => ?_)
    refine j_istore hC [(5, .int y46), (0, .ref (gadr (XG X) (5, 0, 0))), (2, .int x2), (3, .int x3), (4, .int x4)] hnl dX8_holdsLine_46 rfl rfl ?_
    refine j_iload hC 0 dX8_holdsLine_48 rfl ?_
    refine j_bipush (v := 8) hC dX8_holdsLine_50 (by decide) ?_
    refine j_icmp_gt (tgt := 88) hC dX8_holdsLine_52 (by decide) (fun h52 => ?_) (fun h52 => ?_)
    · refine j_iload hC 0 dX8_holdsLine_88 rfl ?_
      refine j_bipush (v := 12) hC dX8_holdsLine_90 (by decide) ?_
      refine j_icmp_ne (tgt := 116) hC dX8_holdsLine_92 (by decide) (fun h92 => ?_) (fun h92 => ?_)
      · refine j_aload_n hC 1 dX8_holdsLine_95 rfl ?_
        refine j_getR (fk := 17) hC (dmMo hG rfl) rfl rfl in_X8 rfl rfl q1481 rfl dX8_holdsLine_96 ?_
        refine j_iload_n hC 2 dX8_holdsLine_99 rfl ?_
        refine j_iconst (v := 1) hC dX8_holdsLine_100 (by decide) ?_
        refine j_isub hC dX8_holdsLine_101 ?_
        refine j_iconst (v := 1) hC dX8_holdsLine_102 (by decide) ?_
        refine j_aload_n hC 1 dX8_holdsLine_103 rfl ?_
        refine j_getR (fk := 17) hC (dmMo hG rfl) rfl rfl in_X8 rfl rfl q1481 rfl dX8_holdsLine_104 ?_
        refine j_iload_n hC 2 dX8_holdsLine_107 rfl ?_
        refine j_iconst (v := 1) hC dX8_holdsLine_108 (by decide) ?_
        refine j_isub hC dX8_holdsLine_109 ?_
        refine j_iald hC (dmMo hG rfl) rfl dX8_holdsLine_110 (fun h110 => ?_)
        refine j_isub hC dX8_holdsLine_111 ?_
        refine j_iast hC (dmMo hG rfl) rfl dX8_holdsLine_112 (fun h112 => ?_)
        refine j_lt (fun M112 => ?_)
        refine j_goto (tgt := 253) hC dX8_holdsLine_113 (by decide) ?_
        exact j_sub [1, 2, 3, 4] rfl (wX8_holdsLine_253 hC hG hnl fu kn20 hk20 M112 x2 x3 x4)
      · refine j_iincL hC 2 (fun y116 => [(2, .int y116), (5, .int y46), (0, .ref (gadr (XG X) (5, 0, 0))), (3, .int x3), (4, .int x4)]) hnl dX8_holdsLine_116 rfl (by decide) rfl (fun _ => rfl) (fun y116 => ?_)
        refine j_aload_n hC 2 dX8_holdsLine_119 rfl ?_
        refine j_getR (fk := 17) hC (dmMo hG rfl) rfl rfl in_X8 rfl rfl q1481 rfl dX8_holdsLine_120 ?_
        refine j_iload_n hC 0 dX8_holdsLine_123 rfl ?_
        refine j_iconst (v := 1) hC dX8_holdsLine_124 (by decide) ?_
        refine j_isub hC dX8_holdsLine_125 ?_
        refine j_iald hC (dmMo hG rfl) rfl dX8_holdsLine_126 (fun h126 => ?_)
        refine j_ltT (fun y127 => ?_)
        refine j_istore hC [(6, .int y127), (2, .int y116), (5, .int y46), (0, .ref (gadr (XG X) (5, 0, 0))), (3, .int x3), (4, .int x4)] hnl dX8_holdsLine_127 rfl rfl ?_
        refine j_aload_n hC 3 dX8_holdsLine_129 rfl ?_
        refine j_getR (fk := 17) hC (dmMo hG rfl) rfl rfl in_X8 rfl rfl q1481 rfl dX8_holdsLine_130 ?_
        refine j_iload_n hC 1 dX8_holdsLine_133 rfl ?_
        refine j_iald hC (dmMo hG rfl) rfl dX8_holdsLine_134 (fun h134 => ?_)
        refine j_ltT (fun y135 => ?_)
        refine j_istore hC [(7, .int y135), (6, .int y127), (2, .int y116), (5, .int y46), (0, .ref (gadr (XG X) (5, 0, 0))), (3, .int x3), (4, .int x4)] hnl dX8_holdsLine_135 rfl rfl ?_
        refine j_iload hC 3 dX8_holdsLine_137 rfl ?_
        refine j_bipush (v := 10) hC dX8_holdsLine_139 (by decide) ?_
        refine j_icmp_ne (tgt := 159) hC dX8_holdsLine_141 (by decide) (fun h141 => ?_) (fun h141 => ?_)
        · refine j_iload hC 1 dX8_holdsLine_144 rfl ?_
          refine j_iload hC 0 dX8_holdsLine_146 rfl ?_
          refine j_icmp_ge (tgt := 155) hC dX8_holdsLine_148 (by decide) (fun h148 => ?_) (fun h148 => ?_)
          · refine j_iconst (v := 0) hC dX8_holdsLine_155 (by decide) ?_
            refine j_goto (tgt := 218) hC dX8_holdsLine_156 (by decide) ?_
            exact j_sub [4, 2, 5, 6, 3, 1, 0] rfl (wX8_holdsLine_218 hC hG hnl fu kn20 hk20 M y116 x3 x4 y46 y127 y135 0)
          · refine j_iconst (v := 1) hC dX8_holdsLine_151 (by decide) ?_
            refine j_goto (tgt := 218) hC dX8_holdsLine_152 (by decide) ?_
            exact j_sub [4, 2, 5, 6, 3, 1, 0] rfl (wX8_holdsLine_218 hC hG hnl fu kn20 hk20 M y116 x3 x4 y46 y127 y135 1)
        · refine j_iload hC 3 dX8_holdsLine_159 rfl ?_
          refine j_bipush (v := 11) hC dX8_holdsLine_161 (by decide) ?_
          refine j_icmp_ne (tgt := 181) hC dX8_holdsLine_163 (by decide) (fun h163 => ?_) (fun h163 => ?_)
          · refine j_iload hC 1 dX8_holdsLine_166 rfl ?_
            refine j_iload hC 0 dX8_holdsLine_168 rfl ?_
            refine j_icmp_le (tgt := 177) hC dX8_holdsLine_170 (by decide) (fun h170 => ?_) (fun h170 => ?_)
            · refine j_iconst (v := 0) hC dX8_holdsLine_177 (by decide) ?_
              refine j_goto (tgt := 218) hC dX8_holdsLine_178 (by decide) ?_
              exact j_sub [4, 2, 5, 6, 3, 1, 0] rfl (wX8_holdsLine_218 hC hG hnl fu kn20 hk20 M y116 x3 x4 y46 y127 y135 0)
            · refine j_iconst (v := 1) hC dX8_holdsLine_173 (by decide) ?_
              refine j_goto (tgt := 218) hC dX8_holdsLine_174 (by decide) ?_
              exact j_sub [4, 2, 5, 6, 3, 1, 0] rfl (wX8_holdsLine_218 hC hG hnl fu kn20 hk20 M y116 x3 x4 y46 y127 y135 1)
          · refine j_iload hC 3 dX8_holdsLine_181 rfl ?_
            refine j_bipush (v := 13) hC dX8_holdsLine_183 (by decide) ?_
            refine j_icmp_ne (tgt := 205) hC dX8_holdsLine_185 (by decide) (fun h185 => ?_) (fun h185 => ?_)
            · refine j_iload hC 1 dX8_holdsLine_188 rfl ?_
              refine j_iload hC 0 dX8_holdsLine_190 rfl ?_
              refine j_iadd hC dX8_holdsLine_192 ?_
              refine j_iconst (v := 2) hC dX8_holdsLine_193 (by decide) ?_
              refine j_icmp_ne (tgt := 201) hC dX8_holdsLine_194 (by decide) (fun h194 => ?_) (fun h194 => ?_)
              · refine j_iconst (v := 1) hC dX8_holdsLine_197 (by decide) ?_
                refine j_goto (tgt := 218) hC dX8_holdsLine_198 (by decide) ?_
                exact j_sub [4, 2, 5, 6, 3, 1, 0] rfl (wX8_holdsLine_218 hC hG hnl fu kn20 hk20 M y116 x3 x4 y46 y127 y135 1)
              · refine j_iconst (v := 0) hC dX8_holdsLine_201 (by decide) ?_
                refine j_goto (tgt := 218) hC dX8_holdsLine_202 (by decide) ?_
                exact j_sub [4, 2, 5, 6, 3, 1, 0] rfl (wX8_holdsLine_218 hC hG hnl fu kn20 hk20 M y116 x3 x4 y46 y127 y135 0)
            · refine j_iload hC 1 dX8_holdsLine_205 rfl ?_
              refine j_iload hC 0 dX8_holdsLine_207 rfl ?_
              refine j_iadd hC dX8_holdsLine_209 ?_
              refine j_if_le (tgt := 217) hC dX8_holdsLine_210 (by decide) (fun h210 => ?_) (fun h210 => ?_)
              · refine j_iconst (v := 0) hC dX8_holdsLine_217 (by decide) ?_
                exact j_sub [4, 2, 5, 6, 3, 1, 0] rfl (wX8_holdsLine_218 hC hG hnl fu kn20 hk20 M y116 x3 x4 y46 y127 y135 0)
              · refine j_iconst (v := 1) hC dX8_holdsLine_213 (by decide) ?_
                refine j_goto (tgt := 218) hC dX8_holdsLine_214 (by decide) ?_
                exact j_sub [4, 2, 5, 6, 3, 1, 0] rfl (wX8_holdsLine_218 hC hG hnl fu kn20 hk20 M y116 x3 x4 y46 y127 y135 1)
    · refine j_aload_n hC 1 dX8_holdsLine_55 rfl ?_
      refine j_getR (fk := 17) hC (dmMo hG rfl) rfl rfl in_X8 rfl rfl q1481 rfl dX8_holdsLine_56 ?_
      refine j_iload_n hC 2 dX8_holdsLine_59 rfl ?_
      refine j_aload_n hC 1 dX8_holdsLine_60 rfl ?_
      refine j_iload hC 0 dX8_holdsLine_61 rfl ?_
      refine j_aload_n hC 1 dX8_holdsLine_63 rfl ?_
      refine j_getR (fk := 1) hC (dmMo hG rfl) rfl rfl in_X8 rfl rfl q1465 rfl dX8_holdsLine_64 ?_
      refine j_sipush (v := 531) hC dX8_holdsLine_67 (by decide) ?_
      refine j_iconst (v := 2) hC dX8_holdsLine_70 (by decide) ?_
      refine j_iload hC 4 dX8_holdsLine_71 rfl ?_
      refine j_imul hC dX8_holdsLine_73 ?_
      refine j_iadd hC dX8_holdsLine_74 ?_
      refine j_iconst (v := 1) hC dX8_holdsLine_75 (by decide) ?_
      refine j_iadd hC dX8_holdsLine_76 ?_
      refine j_iald hC (dmMo hG rfl) rfl dX8_holdsLine_77 (fun h77 => ?_)
      refine j_callV (nA := 2) (rest := [.int x2, .ref (gadr (XG X) (5, 0, 8))]) hC [.int y46, .int (M (5, 0, 1) (((531 + (2 * x4)) + 1).toNatClampNeg))] rfl (fun r hr => mX8_factOf (XL X) (XG X) hG fu (XD X) M y46 (M (5, 0, 1) (((531 + (2 * x4)) + 1).toNatClampNeg)) r hr) q1790 q1792 qs83 q136 q1793 (dmMo hG rfl) rfl rfl (by decide +kernel) rfl rfl rfl rfl rfl rfl dX8_holdsLine_78 (fun v78 => [.int v78, .int x2, .ref (gadr (XG X) (5, 0, 8))]) (fun _ => rfl) (fun v78 M78 => ?_)
      refine j_iast hC (dmMo hG rfl) rfl dX8_holdsLine_81 (fun h81 => ?_)
      refine j_lt (fun M81 => ?_)
      refine j_iincL hC 2 (fun y82 => [(2, .int y82), (5, .int y46), (0, .ref (gadr (XG X) (5, 0, 0))), (3, .int x3), (4, .int x4)]) hnl dX8_holdsLine_82 rfl (by decide) rfl (fun _ => rfl) (fun y82 => ?_)
      refine j_goto (tgt := 253) hC dX8_holdsLine_85 (by decide) ?_
      exact j_sub [2, 0, 3, 4] rfl (wX8_holdsLine_253 hC hG hnl fu kn20 hk20 M81 y82 x3 x4)
set_option linter.unusedVariables false in
set_option maxRecDepth 100000 in
theorem wX8_holdsLine_20 {X : JX} (hC : JC X cX8_holdsLine RX8 (some .boolean) 4 77 0 0) (hG : dmI dmM (XG X)) (hnl : nLof X = 9) (fu : Nat) (M : Mem) (x2 x3 x4 : Int32) : J X (ZN X foI) (FX8_holdsLine_20 fu (XD X) M x2 x3 x4) 20 [(0, .ref (gadr (XG X) (5, 0, 0))), (2, .int x2), (3, .int x3), (4, .int x4)] [] M 0 0 := by
  exact j_lp (lvf := fun z => [(0, .ref (gadr (XG X) (5, 0, 0))), (2, .int (z.2.1)), (3, .int (z.2.2.1)), (4, .int (z.2.2.2))]) (Mf := fun z => z.1) (fun kn hk z => wgX8_holdsLine_20 hC hG hnl fu kn (fun M x2 x3 x4 => hk (M, x2, x3, x4)) z.1 z.2.1 z.2.2.1 z.2.2.2) fu (M, x2, x3, x4)
set_option linter.unusedVariables false in
set_option maxRecDepth 100000 in
theorem wX8_holdsLine {X : JX} (hC : JC X cX8_holdsLine RX8 (some .boolean) 4 77 0 0) (hG : dmI dmM (XG X)) (hnl : nLof X = 9) (fu : Nat) (M : Mem) (x1 : Int32) : J X (ZN X foI) (FX8_holdsLine fu (XD X) M x1) 0 [(0, .ref (gadr (XG X) (5, 0, 0))), (1, .int x1)] [] M 0 0 := by
  unfold FX8_holdsLine
  refine j_iconst (v := 0) hC dX8_holdsLine_0 (by decide) ?_
  refine j_istore_n hC [(2, .int 0), (0, .ref (gadr (XG X) (5, 0, 0))), (1, .int x1)] hnl dX8_holdsLine_1 rfl rfl ?_
  refine j_sipush (v := 483) hC dX8_holdsLine_2 (by decide) ?_
  refine j_iconst (v := 4) hC dX8_holdsLine_5 (by decide) ?_
  refine j_iload_n hC 2 dX8_holdsLine_6 rfl ?_
  refine j_imul hC dX8_holdsLine_7 ?_
  refine j_iadd hC dX8_holdsLine_8 ?_
  refine j_ltT (fun y9 => ?_)
  refine j_istore_n hC [(3, .int y9), (2, .int 0), (0, .ref (gadr (XG X) (5, 0, 0))), (1, .int x1)] hnl dX8_holdsLine_9 rfl rfl ?_
  refine j_aload_n hC 2 dX8_holdsLine_10 rfl ?_
  refine j_getR (fk := 1) hC (dmMo hG rfl) rfl rfl in_X8 rfl rfl q1465 rfl dX8_holdsLine_11 ?_
  refine j_iload_n hC 0 dX8_holdsLine_14 rfl ?_
  refine j_iconst (v := 2) hC dX8_holdsLine_15 (by decide) ?_
  refine j_iadd hC dX8_holdsLine_16 ?_
  refine j_iald hC (dmMo hG rfl) rfl dX8_holdsLine_17 (fun h17 => ?_)
  refine j_ltT (fun y18 => ?_)
  refine j_istore hC [(4, .int y18), (3, .int y9), (2, .int 0), (0, .ref (gadr (XG X) (5, 0, 0))), (1, .int x1)] hnl dX8_holdsLine_18 rfl rfl ?_
  exact j_sub [3, 2, 1, 0] rfl (wX8_holdsLine_20 hC hG hnl fu M 0 y9 y18)
set_option linter.unusedVariables false in
set_option maxRecDepth 100000 in
theorem mX8_holdsLine (l : Launch) (Γ : xG) (hG : dmI dmM Γ) (fu : Nat) (D : List LDen) (M : Mem) (x1 : Int32) (r : Int32 × Mem) (hr : FX8_holdsLine fu D M x1 = some r) : CN l yX8_holdsLine (ws_ yX8_holdsLine cX8_holdsLine 9 (some .boolean)) 4 77 Γ D [.ref (gadr Γ (5, 0, 0)), .int x1] M (foI r.1) r.2 := by
  refine CN.of (own := RX8) (lv0 := lv_args 0 [.ref (gadr Γ (5, 0, 0)), .int x1]) (by decide +kernel) rfl (Nat.le_of_ble_eq_true rfl) rfl (fun X e1 e2 e3 e4 hC => ?_) r hr
  subst e1
  subst e2
  exact wX8_holdsLine hC hG e4 fu M x1
set_option linter.unusedVariables false in
set_option maxRecDepth 100000 in
theorem wX8_sumOf_73 {X : JX} (hC : JC X cX8_sumOf RX8 (some .int) 5 105 0 0) (hG : dmI dmM (XG X)) (hnl : nLof X = 4) (fu : Nat) (M : Mem) (x2 : Int32) : J X (ZN X foI) (FX8_sumOf_73 fu (XD X) M x2) 73 [(2, .int x2)] [] M 0 0 := by
  unfold FX8_sumOf_73
  refine j_iload_n hC 0 dX8_sumOf_73 rfl ?_
  exact j_iret hC dX8_sumOf_74
set_option linter.unusedVariables false in
set_option maxRecDepth 100000 in
theorem wX8_sumOf_67 {X : JX} (hC : JC X cX8_sumOf RX8 (some .int) 5 105 0 0) (hG : dmI dmM (XG X)) (hnl : nLof X = 4) (fu : Nat) (kn4 : Mem × Int32 × Int32 × Int32 → Option (Int32 × Mem)) (hk4 : ∀ (M : Mem) (x1 x2 x3 : Int32), J X (ZN X foI) (kn4 (M, x1, x2, x3)) 4 [(0, .ref (gadr (XG X) (5, 0, 0))), (1, .int x1), (2, .int x2), (3, .int x3)] [] M 0 0) (M : Mem) (x1 x2 x3 : Int32) : J X (ZN X foI) (FX8_sumOf_67 fu (XD X) kn4 M x1 x2 x3) 67 [(0, .ref (gadr (XG X) (5, 0, 0))), (1, .int x1), (2, .int x2), (3, .int x3)] [] M 0 0 := by
  unfold FX8_sumOf_67
  refine j_iincL hC 3 (fun y67 => [(3, .int y67), (0, .ref (gadr (XG X) (5, 0, 0))), (1, .int x1), (2, .int x2)]) hnl dX8_sumOf_67 rfl (by decide) rfl (fun _ => rfl) (fun y67 => ?_)
  refine j_goto (tgt := 4) hC dX8_sumOf_70 (by decide) ?_
  exact j_sub [1, 2, 3, 0] rfl (hk4 M x1 x2 y67)
set_option linter.unusedVariables false in
set_option maxRecDepth 100000 in
theorem wgX8_sumOf_4 {X : JX} (hC : JC X cX8_sumOf RX8 (some .int) 5 105 0 0) (hG : dmI dmM (XG X)) (hnl : nLof X = 4) (fu : Nat) (kn4 : Mem × Int32 × Int32 × Int32 → Option (Int32 × Mem)) (hk4 : ∀ (M : Mem) (x1 x2 x3 : Int32), J X (ZN X foI) (kn4 (M, x1, x2, x3)) 4 [(0, .ref (gadr (XG X) (5, 0, 0))), (1, .int x1), (2, .int x2), (3, .int x3)] [] M 0 0) (M : Mem) (x1 x2 x3 : Int32) : J X (ZN X foI) (GX8_sumOf_4 fu (XD X) kn4 M x1 x2 x3) 4 [(0, .ref (gadr (XG X) (5, 0, 0))), (1, .int x1), (2, .int x2), (3, .int x3)] [] M 0 0 := by
  unfold GX8_sumOf_4
  refine j_aload_n hC 0 dX8_sumOf_4 rfl ?_
  refine j_getR (fk := 1) hC (dmMo hG rfl) rfl rfl in_X8 rfl rfl q1465 rfl dX8_sumOf_5 ?_
  refine j_iconst (v := 4) hC dX8_sumOf_8 (by decide) ?_
  refine j_iald hC (dmMo hG rfl) rfl dX8_sumOf_9 (fun h9 => ?_)
  refine j_iconst (v := 1) hC dX8_sumOf_10 (by decide) ?_
  refine j_icmp_ne (tgt := 73) hC dX8_sumOf_11 (by decide) (fun h11 => ?_) (fun h11 => ?_)
  · refine j_iload_n hC 3 dX8_sumOf_14 rfl ?_
    refine j_aload_n hC 0 dX8_sumOf_15 rfl ?_
    refine j_getR (fk := 1) hC (dmMo hG rfl) rfl rfl in_X8 rfl rfl q1465 rfl dX8_sumOf_16 ?_
    refine j_sipush (v := 482) hC dX8_sumOf_19 (by decide) ?_
    refine j_iald hC (dmMo hG rfl) rfl dX8_sumOf_22 (fun h22 => ?_)
    refine j_icmp_ge (tgt := 73) hC dX8_sumOf_23 (by decide) (fun h23 => ?_) (fun h23 => ?_)
    · exact j_sub [2] rfl (wX8_sumOf_73 hC hG hnl fu M x2)
    · refine j_aload_n hC 0 dX8_sumOf_26 rfl ?_
      refine j_getR (fk := 1) hC (dmMo hG rfl) rfl rfl in_X8 rfl rfl q1465 rfl dX8_sumOf_27 ?_
      refine j_sipush (v := 483) hC dX8_sumOf_30 (by decide) ?_
      refine j_iconst (v := 4) hC dX8_sumOf_33 (by decide) ?_
      refine j_iload_n hC 3 dX8_sumOf_34 rfl ?_
      refine j_imul hC dX8_sumOf_35 ?_
      refine j_iadd hC dX8_sumOf_36 ?_
      refine j_iald hC (dmMo hG rfl) rfl dX8_sumOf_37 (fun h37 => ?_)
      refine j_iload_n hC 1 dX8_sumOf_38 rfl ?_
      refine j_icmp_ne (tgt := 67) hC dX8_sumOf_39 (by decide) (fun h39 => ?_) (fun h39 => ?_)
      · refine j_aload_n hC 0 dX8_sumOf_42 rfl ?_
        refine j_iload_n hC 3 dX8_sumOf_43 rfl ?_
        refine j_callV (nA := 1) (rest := []) hC [.int x3] rfl (fun r hr => mX8_holdsLine (XL X) (XG X) hG fu (XD X) M x3 r hr) q1786 q1788 qs82 q136 q1789 (dmMo hG rfl) rfl rfl (by decide +kernel) rfl rfl rfl rfl rfl rfl dX8_sumOf_44 (fun v44 => [.int v44]) (fun _ => rfl) (fun v44 M44 => ?_)
        refine j_if_eq (tgt := 67) hC dX8_sumOf_47 (by decide) (fun h47 => ?_) (fun h47 => ?_)
        · exact j_sub [0, 1, 2, 3] rfl (wX8_sumOf_67 hC hG hnl fu kn4 hk4 M44 x1 x2 x3)
        · refine j_iload_n hC 2 dX8_sumOf_50 rfl ?_
          refine j_aload_n hC 0 dX8_sumOf_51 rfl ?_
          refine j_getR (fk := 1) hC (dmMo hG rfl) rfl rfl in_X8 rfl rfl q1465 rfl dX8_sumOf_52 ?_
          refine j_sipush (v := 483) hC dX8_sumOf_55 (by decide) ?_
          refine j_iconst (v := 4) hC dX8_sumOf_58 (by decide) ?_
          refine j_iload_n hC 3 dX8_sumOf_59 rfl ?_
          refine j_imul hC dX8_sumOf_60 ?_
          refine j_iadd hC dX8_sumOf_61 ?_
          refine j_iconst (v := 1) hC dX8_sumOf_62 (by decide) ?_
          refine j_iadd hC dX8_sumOf_63 ?_
          refine j_iald hC (dmMo hG rfl) rfl dX8_sumOf_64 (fun h64 => ?_)
          refine j_iadd hC dX8_sumOf_65 ?_
          refine j_ltT (fun y66 => ?_)
          refine j_istore_n hC [(2, .int y66), (0, .ref (gadr (XG X) (5, 0, 0))), (1, .int x1), (3, .int x3)] hnl dX8_sumOf_66 rfl rfl ?_
          exact j_sub [1, 2, 0, 3] rfl (wX8_sumOf_67 hC hG hnl fu kn4 hk4 M44 x1 y66 x3)
      · exact j_sub [0, 1, 2, 3] rfl (wX8_sumOf_67 hC hG hnl fu kn4 hk4 M x1 x2 x3)
  · exact j_sub [2] rfl (wX8_sumOf_73 hC hG hnl fu M x2)
set_option linter.unusedVariables false in
set_option maxRecDepth 100000 in
theorem wX8_sumOf_4 {X : JX} (hC : JC X cX8_sumOf RX8 (some .int) 5 105 0 0) (hG : dmI dmM (XG X)) (hnl : nLof X = 4) (fu : Nat) (M : Mem) (x1 x2 x3 : Int32) : J X (ZN X foI) (FX8_sumOf_4 fu (XD X) M x1 x2 x3) 4 [(0, .ref (gadr (XG X) (5, 0, 0))), (1, .int x1), (2, .int x2), (3, .int x3)] [] M 0 0 := by
  exact j_lp (lvf := fun z => [(0, .ref (gadr (XG X) (5, 0, 0))), (1, .int (z.2.1)), (2, .int (z.2.2.1)), (3, .int (z.2.2.2))]) (Mf := fun z => z.1) (fun kn hk z => wgX8_sumOf_4 hC hG hnl fu kn (fun M x1 x2 x3 => hk (M, x1, x2, x3)) z.1 z.2.1 z.2.2.1 z.2.2.2) fu (M, x1, x2, x3)
set_option linter.unusedVariables false in
set_option maxRecDepth 100000 in
theorem wX8_sumOf {X : JX} (hC : JC X cX8_sumOf RX8 (some .int) 5 105 0 0) (hG : dmI dmM (XG X)) (hnl : nLof X = 4) (fu : Nat) (M : Mem) (x1 : Int32) : J X (ZN X foI) (FX8_sumOf fu (XD X) M x1) 0 [(0, .ref (gadr (XG X) (5, 0, 0))), (1, .int x1)] [] M 0 0 := by
  unfold FX8_sumOf
  refine j_iconst (v := 0) hC dX8_sumOf_0 (by decide) ?_
  refine j_istore_n hC [(2, .int 0), (0, .ref (gadr (XG X) (5, 0, 0))), (1, .int x1)] hnl dX8_sumOf_1 rfl rfl ?_
  refine j_iconst (v := 0) hC dX8_sumOf_2 (by decide) ?_
  refine j_istore_n hC [(3, .int 0), (2, .int 0), (0, .ref (gadr (XG X) (5, 0, 0))), (1, .int x1)] hnl dX8_sumOf_3 rfl rfl ?_
  exact j_sub [2, 3, 1, 0] rfl (wX8_sumOf_4 hC hG hnl fu M x1 0 0)
set_option linter.unusedVariables false in
set_option maxRecDepth 100000 in
theorem mX8_sumOf (l : Launch) (Γ : xG) (hG : dmI dmM Γ) (fu : Nat) (D : List LDen) (M : Mem) (x1 : Int32) (r : Int32 × Mem) (hr : FX8_sumOf fu D M x1 = some r) : CN l yX8_sumOf (ws_ yX8_sumOf cX8_sumOf 4 (some .int)) 5 105 Γ D [.ref (gadr Γ (5, 0, 0)), .int x1] M (foI r.1) r.2 := by
  refine CN.of (own := RX8) (lv0 := lv_args 0 [.ref (gadr Γ (5, 0, 0)), .int x1]) (by decide +kernel) rfl (Nat.le_of_ble_eq_true rfl) rfl (fun X e1 e2 e3 e4 hC => ?_) r hr
  subst e1
  subst e2
  exact wX8_sumOf hC hG e4 fu M x1
set_option linter.unusedVariables false in
set_option maxRecDepth 100000 in
theorem wX8_carries {X : JX} (hC : JC X cX8_carries RX8 (some .int) 6 128 0 0) (hG : dmI dmM (XG X)) (hnl : nLof X = 1) (fu : Nat) (M : Mem) : J X (ZN X foI) (FX8_carries fu (XD X) M) 0 [(0, .ref (gadr (XG X) (5, 0, 0)))] [] M 0 0 := by
  unfold FX8_carries
  refine j_aload_n hC 0 dX8_carries_0 rfl ?_
  refine j_getR (fk := 1) hC (dmMo hG rfl) rfl rfl in_X8 rfl rfl q1465 rfl dX8_carries_1 ?_
  refine j_bipush (v := 13) hC dX8_carries_4 (by decide) ?_
  refine j_aload_n hC 0 dX8_carries_6 rfl ?_
  refine j_getI (fk := 19) hC (dmMo hG rfl) rfl rfl in_X8 rfl rfl q1483 rfl dX8_carries_7 ?_
  refine j_iadd hC dX8_carries_10 ?_
  refine j_iald hC (dmMo hG rfl) rfl dX8_carries_11 (fun h11 => ?_)
  refine j_aload_n hC 0 dX8_carries_12 rfl ?_
  refine j_aload_n hC 0 dX8_carries_13 rfl ?_
  refine j_getI (fk := 18) hC (dmMo hG rfl) rfl rfl in_X8 rfl rfl q1482 rfl dX8_carries_14 ?_
  refine j_iconst (v := 1) hC dX8_carries_17 (by decide) ?_
  refine j_callV (nA := 2) (rest := [.int (M (5, 0, 1) ((13 + (M (5, 0, 0) 19)).toNatClampNeg))]) hC [.int (M (5, 0, 0) 18), .int 1] rfl (fun r hr => mX8_ofBird (XL X) (XG X) hG fu (XD X) M (M (5, 0, 0) 18) 1 r hr) q1778 q1780 qs80 q136 q1781 (dmMo hG rfl) rfl rfl (by decide +kernel) rfl rfl rfl rfl rfl rfl dX8_carries_18 (fun v18 => [.int v18, .int (M (5, 0, 1) ((13 + (M (5, 0, 0) 19)).toNatClampNeg))]) (fun _ => rfl) (fun v18 M18 => ?_)
  refine j_imul hC dX8_carries_21 ?_
  refine j_aload_n hC 0 dX8_carries_22 rfl ?_
  refine j_iconst (v := 2) hC dX8_carries_23 (by decide) ?_
  refine j_callV (nA := 1) (rest := [.int ((M (5, 0, 1) ((13 + (M (5, 0, 0) 19)).toNatClampNeg)) * v18)]) hC [.int 2] rfl (fun r hr => mX8_sumOf (XL X) (XG X) hG fu (XD X) M18 2 r hr) q1782 q1784 qs81 q136 q1785 (dmMo hG rfl) rfl rfl (by decide +kernel) rfl rfl rfl rfl rfl rfl dX8_carries_24 (fun v24 => [.int v24, .int ((M (5, 0, 1) ((13 + (M (5, 0, 0) 19)).toNatClampNeg)) * v18)]) (fun _ => rfl) (fun v24 M24 => ?_)
  refine j_iadd hC dX8_carries_27 ?_
  refine j_aload_n hC 0 dX8_carries_28 rfl ?_
  refine j_iconst (v := 3) hC dX8_carries_29 (by decide) ?_
  refine j_callV (nA := 1) (rest := [.int (((M (5, 0, 1) ((13 + (M (5, 0, 0) 19)).toNatClampNeg)) * v18) + v24)]) hC [.int 3] rfl (fun r hr => mX8_sumOf (XL X) (XG X) hG fu (XD X) M24 3 r hr) q1782 q1784 qs81 q136 q1785 (dmMo hG rfl) rfl rfl (by decide +kernel) rfl rfl rfl rfl rfl rfl dX8_carries_30 (fun v30 => [.int v30, .int (((M (5, 0, 1) ((13 + (M (5, 0, 0) 19)).toNatClampNeg)) * v18) + v24)]) (fun _ => rfl) (fun v30 M30 => ?_)
  refine j_isub hC dX8_carries_33 ?_
  exact j_iret hC dX8_carries_34
set_option linter.unusedVariables false in
set_option maxRecDepth 100000 in
theorem mX8_carries (l : Launch) (Γ : xG) (hG : dmI dmM Γ) (fu : Nat) (D : List LDen) (M : Mem) (r : Int32 × Mem) (hr : FX8_carries fu D M = some r) : CN l yX8_carries (ws_ yX8_carries cX8_carries 1 (some .int)) 6 128 Γ D [.ref (gadr Γ (5, 0, 0))] M (foI r.1) r.2 := by
  refine CN.of (own := RX8) (lv0 := lv_args 0 [.ref (gadr Γ (5, 0, 0))]) (by decide +kernel) rfl (Nat.le_of_ble_eq_true rfl) rfl (fun X e1 e2 e3 e4 hC => ?_) r hr
  subst e1
  subst e2
  exact wX8_carries hC hG e4 fu M
set_option linter.unusedVariables false in
set_option maxRecDepth 100000 in
theorem wX8_sinks {X : JX} (hC : JC X cX8_sinks RX8 (some .int) 6 128 0 0) (hG : dmI dmM (XG X)) (hnl : nLof X = 2) (fu : Nat) (M : Mem) : J X (ZN X foI) (FX8_sinks fu (XD X) M) 0 [(0, .ref (gadr (XG X) (5, 0, 0)))] [] M 0 0 := by
  unfold FX8_sinks
  refine j_aload_n hC 0 dX8_sinks_0 rfl ?_
  refine j_aload_n hC 0 dX8_sinks_1 rfl ?_
  refine j_getI (fk := 18) hC (dmMo hG rfl) rfl rfl in_X8 rfl rfl q1482 rfl dX8_sinks_2 ?_
  refine j_iconst (v := 0) hC dX8_sinks_5 (by decide) ?_
  refine j_callV (nA := 2) (rest := []) hC [.int (M (5, 0, 0) 18), .int 0] rfl (fun r hr => mX8_ofBird (XL X) (XG X) hG fu (XD X) M (M (5, 0, 0) 18) 0 r hr) q1778 q1780 qs80 q136 q1781 (dmMo hG rfl) rfl rfl (by decide +kernel) rfl rfl rfl rfl rfl rfl dX8_sinks_6 (fun v6 => [.int v6]) (fun _ => rfl) (fun v6 M6 => ?_)
  refine j_aload_n hC 0 dX8_sinks_9 rfl ?_
  refine j_iconst (v := 0) hC dX8_sinks_10 (by decide) ?_
  refine j_callV (nA := 1) (rest := [.int v6]) hC [.int 0] rfl (fun r hr => mX8_sumOf (XL X) (XG X) hG fu (XD X) M6 0 r hr) q1782 q1784 qs81 q136 q1785 (dmMo hG rfl) rfl rfl (by decide +kernel) rfl rfl rfl rfl rfl rfl dX8_sinks_11 (fun v11 => [.int v11, .int v6]) (fun _ => rfl) (fun v11 M11 => ?_)
  refine j_iadd hC dX8_sinks_14 ?_
  refine j_aload_n hC 0 dX8_sinks_15 rfl ?_
  refine j_iconst (v := 1) hC dX8_sinks_16 (by decide) ?_
  refine j_callV (nA := 1) (rest := [.int (v6 + v11)]) hC [.int 1] rfl (fun r hr => mX8_sumOf (XL X) (XG X) hG fu (XD X) M11 1 r hr) q1782 q1784 qs81 q136 q1785 (dmMo hG rfl) rfl rfl (by decide +kernel) rfl rfl rfl rfl rfl rfl dX8_sinks_17 (fun v17 => [.int v17, .int (v6 + v11)]) (fun _ => rfl) (fun v17 M17 => ?_)
  refine j_isub hC dX8_sinks_20 ?_
  refine j_ltT (fun y21 => ?_)
  refine j_istore_n hC [(1, .int y21), (0, .ref (gadr (XG X) (5, 0, 0)))] hnl dX8_sinks_21 rfl rfl ?_
  refine j_iconst (v := 0) hC dX8_sinks_22 (by decide) ?_
  refine j_bipush (v := 12) hC dX8_sinks_23 (by decide) ?_
  refine j_iload_n hC 0 dX8_sinks_25 rfl ?_
  refine j_min hC q1802 q640 q155 q641 dX8_sinks_26 rfl (Nat.le_of_ble_eq_true rfl) (Nat.le_of_ble_eq_true rfl) (Nat.le_of_ble_eq_true rfl) ?_
  refine j_max hC q1803 q643 q155 q644 dX8_sinks_29 rfl (Nat.le_of_ble_eq_true rfl) (Nat.le_of_ble_eq_true rfl) (Nat.le_of_ble_eq_true rfl) ?_
  exact j_iret hC dX8_sinks_32
set_option linter.unusedVariables false in
set_option maxRecDepth 100000 in
theorem mX8_sinks (l : Launch) (Γ : xG) (hG : dmI dmM Γ) (fu : Nat) (D : List LDen) (M : Mem) (r : Int32 × Mem) (hr : FX8_sinks fu D M = some r) : CN l yX8_sinks (ws_ yX8_sinks cX8_sinks 2 (some .int)) 6 128 Γ D [.ref (gadr Γ (5, 0, 0))] M (foI r.1) r.2 := by
  refine CN.of (own := RX8) (lv0 := lv_args 0 [.ref (gadr Γ (5, 0, 0))]) (by decide +kernel) rfl (Nat.le_of_ble_eq_true rfl) rfl (fun X e1 e2 e3 e4 hC => ?_) r hr
  subst e1
  subst e2
  exact wX8_sinks hC hG e4 fu M
set_option linter.unusedVariables false in
set_option maxRecDepth 100000 in
theorem wX8_moves_68 {X : JX} (hC : JC X cX8_moves RX8 (some .int) 7 149 0 0) (hG : dmI dmM (XG X)) (hnl : nLof X = 6) (fu : Nat) (M : Mem) : J X (ZN X foI) (FX8_moves_68 fu (XD X) M) 68 [] [] M 0 0 := by
  unfold FX8_moves_68
  refine j_iconst (v := 0) hC dX8_moves_68 (by decide) ?_
  exact j_iret hC dX8_moves_69
set_option linter.unusedVariables false in
set_option maxRecDepth 100000 in
theorem wX8_moves_95 {X : JX} (hC : JC X cX8_moves RX8 (some .int) 7 149 0 0) (hG : dmI dmM (XG X)) (hnl : nLof X = 6) (fu : Nat) (M : Mem) (t0 : Int32) : J X (ZN X foI) (FX8_moves_95 fu (XD X) M t0) 95 [] [.int t0] M 0 0 := by
  unfold FX8_moves_95
  exact j_iret hC dX8_moves_95
set_option linter.unusedVariables false in
set_option maxRecDepth 100000 in
theorem wX8_moves_61 {X : JX} (hC : JC X cX8_moves RX8 (some .int) 7 149 0 0) (hG : dmI dmM (XG X)) (hnl : nLof X = 6) (fu : Nat) (M : Mem) (x1 x2 x3 x4 x5 t0 : Int32) : J X (ZN X foI) (FX8_moves_61 fu (XD X) M x1 x2 x3 x4 x5 t0) 61 [(0, .ref (gadr (XG X) (5, 0, 0))), (1, .int x1), (2, .int x2), (3, .int x3), (4, .int x4), (5, .int x5)] [.int t0, .ref (gadr (XG X) (5, 0, 0))] M 0 0 := by
  unfold FX8_moves_61
  refine j_iconst (v := 2) hC dX8_moves_61 (by decide) ?_
  refine j_callV (nA := 2) (rest := []) hC [.int t0, .int 2] rfl (fun r hr => mX8_throwsIf (XL X) (XG X) hG fu (XD X) M t0 2 r hr) q1748 q1750 qs76 q136 q1751 (dmMo hG rfl) rfl rfl (by decide +kernel) rfl rfl rfl rfl rfl rfl dX8_moves_62 (fun v62 => [.int v62]) (fun _ => rfl) (fun v62 M62 => ?_)
  refine j_if_eq (tgt := 70) hC dX8_moves_65 (by decide) (fun h65 => ?_) (fun h65 => ?_)
  · refine j_aload_n hC 0 dX8_moves_70 rfl ?_
    refine j_iload_n hC 1 dX8_moves_71 rfl ?_
    refine j_iload_n hC 2 dX8_moves_72 rfl ?_
    refine j_iload_n hC 3 dX8_moves_73 rfl ?_
    refine j_iload hC 4 dX8_moves_74 rfl ?_
    refine j_callV (nA := 4) (rest := []) hC [.int x1, .int x2, .int x3, .int x4] rfl (fun r hr => mX8_looks (XL X) (XG X) hG fu (XD X) M62 x1 x2 x3 x4 r hr) q1770 q1772 qs78 q136 q1773 (dmMo hG rfl) rfl rfl (by decide +kernel) rfl rfl rfl rfl rfl rfl dX8_moves_76 (fun _ => []) (fun _ => rfl) (fun v76 M76 => ?_)
    refine j_iload hC 5 dX8_moves_79 rfl ?_
    refine j_if_eq (tgt := 91) hC dX8_moves_81 (by decide) (fun h81 => ?_) (fun h81 => ?_)
    · refine j_aload_n hC 0 dX8_moves_91 rfl ?_
      refine j_callV (nA := 0) (rest := []) hC [] rfl (fun r hr => mX8_sinks (XL X) (XG X) hG fu (XD X) M76 r hr) q1798 q1800 qs85 q136 q1801 (dmMo hG rfl) rfl rfl (by decide +kernel) rfl rfl rfl rfl rfl rfl dX8_moves_92 (fun v92 => [.int v92]) (fun _ => rfl) (fun v92 M92 => ?_)
      exact j_sub [] rfl (wX8_moves_95 hC hG hnl fu M92 v92)
    · refine j_aload_n hC 0 dX8_moves_84 rfl ?_
      refine j_callV (nA := 0) (rest := []) hC [] rfl (fun r hr => mX8_carries (XL X) (XG X) hG fu (XD X) M76 r hr) q1774 q1776 qs79 q136 q1777 (dmMo hG rfl) rfl rfl (by decide +kernel) rfl rfl rfl rfl rfl rfl dX8_moves_85 (fun v85 => [.int v85]) (fun _ => rfl) (fun v85 M85 => ?_)
      refine j_goto (tgt := 95) hC dX8_moves_88 (by decide) ?_
      exact j_sub [] rfl (wX8_moves_95 hC hG hnl fu M85 v85)
  · exact j_sub [] rfl (wX8_moves_68 hC hG hnl fu M62)
set_option linter.unusedVariables false in
set_option maxRecDepth 100000 in
theorem wX8_moves_37 {X : JX} (hC : JC X cX8_moves RX8 (some .int) 7 149 0 0) (hG : dmI dmM (XG X)) (hnl : nLof X = 6) (fu : Nat) (M : Mem) (x1 x2 x3 x4 x5 t0 : Int32) : J X (ZN X foI) (FX8_moves_37 fu (XD X) M x1 x2 x3 x4 x5 t0) 37 [(0, .ref (gadr (XG X) (5, 0, 0))), (1, .int x1), (2, .int x2), (3, .int x3), (4, .int x4), (5, .int x5)] [.int t0, .ref (gadr (XG X) (5, 0, 0))] M 0 0 := by
  unfold FX8_moves_37
  refine j_iconst (v := 1) hC dX8_moves_37 (by decide) ?_
  refine j_callV (nA := 2) (rest := []) hC [.int t0, .int 1] rfl (fun r hr => mX8_throwsIf (XL X) (XG X) hG fu (XD X) M t0 1 r hr) q1748 q1750 qs76 q136 q1751 (dmMo hG rfl) rfl rfl (by decide +kernel) rfl rfl rfl rfl rfl rfl dX8_moves_38 (fun v38 => [.int v38]) (fun _ => rfl) (fun v38 M38 => ?_)
  refine j_if_ne (tgt := 68) hC dX8_moves_41 (by decide) (fun h41 => ?_) (fun h41 => ?_)
  · refine j_aload_n hC 0 dX8_moves_44 rfl ?_
    refine j_iload hC 4 dX8_moves_45 rfl ?_
    refine j_iconst (v := 0) hC dX8_moves_47 (by decide) ?_
    refine j_bipush (v := 7) hC dX8_moves_48 (by decide) ?_
    refine j_callS (nA := 3) (rest := [.ref (gadr (XG X) (5, 0, 0))]) hC [.int x4, .int 0, .int 7] rfl (fun r hr => mX8_in (XL X) (XG X) hG fu (XD X) M38 x4 0 7 r hr) q1641 q1642 q136 q1643 (by decide +kernel) rfl rfl rfl rfl rfl rfl dX8_moves_50 (fun v50 => [.int v50, .ref (gadr (XG X) (5, 0, 0))]) (fun _ => rfl) (fun v50 M50 => ?_)
    refine j_if_ne (tgt := 60) hC dX8_moves_53 (by decide) (fun h53 => ?_) (fun h53 => ?_)
    · refine j_iconst (v := 1) hC dX8_moves_56 (by decide) ?_
      refine j_goto (tgt := 61) hC dX8_moves_57 (by decide) ?_
      exact j_sub [0, 1, 2, 3, 4, 5] rfl (wX8_moves_61 hC hG hnl fu M50 x1 x2 x3 x4 x5 1)
    · refine j_iconst (v := 0) hC dX8_moves_60 (by decide) ?_
      exact j_sub [0, 1, 2, 3, 4, 5] rfl (wX8_moves_61 hC hG hnl fu M50 x1 x2 x3 x4 x5 0)
  · exact j_sub [] rfl (wX8_moves_68 hC hG hnl fu M38)
set_option linter.unusedVariables false in
set_option maxRecDepth 100000 in
theorem wX8_moves_32 {X : JX} (hC : JC X cX8_moves RX8 (some .int) 7 149 0 0) (hG : dmI dmM (XG X)) (hnl : nLof X = 6) (fu : Nat) (M : Mem) (x1 x2 x3 x4 x5 : Int32) : J X (ZN X foI) (FX8_moves_32 fu (XD X) M x1 x2 x3 x4 x5) 32 [(0, .ref (gadr (XG X) (5, 0, 0))), (1, .int x1), (2, .int x2), (3, .int x3), (4, .int x4), (5, .int x5)] [.ref (gadr (XG X) (5, 0, 0))] M 0 0 := by
  unfold FX8_moves_32
  refine j_iconst (v := 1) hC dX8_moves_32 (by decide) ?_
  refine j_goto (tgt := 37) hC dX8_moves_33 (by decide) ?_
  exact j_sub [0, 1, 2, 3, 4, 5] rfl (wX8_moves_37 hC hG hnl fu M x1 x2 x3 x4 x5 1)
set_option linter.unusedVariables false in
set_option maxRecDepth 100000 in
theorem wX8_moves {X : JX} (hC : JC X cX8_moves RX8 (some .int) 7 149 0 0) (hG : dmI dmM (XG X)) (hnl : nLof X = 6) (fu : Nat) (M : Mem) (x1 x2 x3 x4 x5 : Int32) : J X (ZN X foI) (FX8_moves fu (XD X) M x1 x2 x3 x4 x5) 0 [(0, .ref (gadr (XG X) (5, 0, 0))), (1, .int x1), (2, .int x2), (3, .int x3), (4, .int x4), (5, .int x5)] [] M 0 0 := by
  unfold FX8_moves
  refine j_aload_n hC 0 dX8_moves_0 rfl ?_
  refine j_iconst (v := 0) hC dX8_moves_1 (by decide) ?_
  refine j_put (fk := 0) (ty := .int) hC (dmMo hG rfl) rfl rfl in_X8 rfl rfl q1464 tyX8 tyX8_ok nmX8 rfl rfl (by decide +kernel) rfl rfl dX8_moves_2 ?_
  refine j_lt (fun M2 => ?_)
  refine j_aload_n hC 0 dX8_moves_5 rfl ?_
  refine j_aload_n hC 0 dX8_moves_6 rfl ?_
  refine j_iload_n hC 1 dX8_moves_7 rfl ?_
  refine j_callV (nA := 1) (rest := [.ref (gadr (XG X) (5, 0, 0))]) hC [.int x1] rfl (fun r hr => mX8_noBird (XL X) (XG X) hG fu (XD X) M2 x1 r hr) q1760 q1762 qs77 q136 q1763 (dmMo hG rfl) rfl rfl (by decide +kernel) rfl rfl rfl rfl rfl rfl dX8_moves_8 (fun v8 => [.int v8, .ref (gadr (XG X) (5, 0, 0))]) (fun _ => rfl) (fun v8 M8 => ?_)
  refine j_if_ne (tgt := 32) hC dX8_moves_11 (by decide) (fun h11 => ?_) (fun h11 => ?_)
  · refine j_iload_n hC 2 dX8_moves_14 rfl ?_
    refine j_callS (nA := 1) (rest := [.ref (gadr (XG X) (5, 0, 0))]) hC [.int x2] rfl (fun r hr => mX8_noLevel (XL X) (XG X) hG fu (XD X) M8 x2 r hr) q1764 q1765 q136 q1766 (by decide +kernel) rfl rfl rfl rfl rfl rfl dX8_moves_15 (fun v15 => [.int v15, .ref (gadr (XG X) (5, 0, 0))]) (fun _ => rfl) (fun v15 M15 => ?_)
    refine j_if_ne (tgt := 32) hC dX8_moves_18 (by decide) (fun h18 => ?_) (fun h18 => ?_)
    · refine j_iload_n hC 2 dX8_moves_21 rfl ?_
      refine j_if_eq (tgt := 32) hC dX8_moves_22 (by decide) (fun h22 => ?_) (fun h22 => ?_)
      · exact j_sub [0, 1, 2, 3, 4, 5] rfl (wX8_moves_32 hC hG hnl fu M15 x1 x2 x3 x4 x5)
      · refine j_iload_n hC 3 dX8_moves_25 rfl ?_
        refine j_callS (nA := 1) (rest := [.ref (gadr (XG X) (5, 0, 0))]) hC [.int x3] rfl (fun r hr => mX8_noColumn (XL X) (XG X) hG fu (XD X) M15 x3 r hr) q1767 q1768 q136 q1769 (by decide +kernel) rfl rfl rfl rfl rfl rfl dX8_moves_26 (fun v26 => [.int v26, .ref (gadr (XG X) (5, 0, 0))]) (fun _ => rfl) (fun v26 M26 => ?_)
        refine j_if_eq (tgt := 36) hC dX8_moves_29 (by decide) (fun h29 => ?_) (fun h29 => ?_)
        · refine j_iconst (v := 0) hC dX8_moves_36 (by decide) ?_
          exact j_sub [0, 1, 2, 3, 4, 5] rfl (wX8_moves_37 hC hG hnl fu M26 x1 x2 x3 x4 x5 0)
        · exact j_sub [0, 1, 2, 3, 4, 5] rfl (wX8_moves_32 hC hG hnl fu M26 x1 x2 x3 x4 x5)
    · exact j_sub [0, 1, 2, 3, 4, 5] rfl (wX8_moves_32 hC hG hnl fu M15 x1 x2 x3 x4 x5)
  · exact j_sub [0, 1, 2, 3, 4, 5] rfl (wX8_moves_32 hC hG hnl fu M8 x1 x2 x3 x4 x5)
set_option linter.unusedVariables false in
set_option maxRecDepth 100000 in
theorem mX8_moves (l : Launch) (Γ : xG) (hG : dmI dmM Γ) (fu : Nat) (D : List LDen) (M : Mem) (x1 x2 x3 x4 x5 : Int32) (r : Int32 × Mem) (hr : FX8_moves fu D M x1 x2 x3 x4 x5 = some r) : CN l yX8_moves (ws_ yX8_moves cX8_moves 6 (some .int)) 7 149 Γ D [.ref (gadr Γ (5, 0, 0)), .int x1, .int x2, .int x3, .int x4, .int x5] M (foI r.1) r.2 := by
  refine CN.of (own := RX8) (lv0 := lv_args 0 [.ref (gadr Γ (5, 0, 0)), .int x1, .int x2, .int x3, .int x4, .int x5]) (by decide +kernel) rfl (Nat.le_of_ble_eq_true rfl) rfl (fun X e1 e2 e3 e4 hC => ?_) r hr
  subst e1
  subst e2
  exact wX8_moves hC hG e4 fu M x1 x2 x3 x4 x5
set_option linter.unusedVariables false in
set_option maxRecDepth 100000 in
theorem wX8_at {X : JX} (hC : JC X cX8_at RX8 (some .int) 1 12 0 0) (hG : dmI dmM (XG X)) (hnl : nLof X = 2) (fu : Nat) (M : Mem) (x0 x1 : Int32) : J X (ZN X foI) (FX8_at fu (XD X) M x0 x1) 0 [(0, .int x0), (1, .int x1)] [] M 0 0 := by
  unfold FX8_at
  refine j_bipush (v := 16) hC dX8_at_0 (by decide) ?_
  refine j_iload_n hC 0 dX8_at_2 rfl ?_
  refine j_imul hC dX8_at_3 ?_
  refine j_iload_n hC 1 dX8_at_4 rfl ?_
  refine j_iadd hC dX8_at_5 ?_
  exact j_iret hC dX8_at_6
set_option linter.unusedVariables false in
set_option maxRecDepth 100000 in
theorem mX8_at (l : Launch) (Γ : xG) (hG : dmI dmM Γ) (fu : Nat) (D : List LDen) (M : Mem) (x0 x1 : Int32) (r : Int32 × Mem) (hr : FX8_at fu D M x0 x1 = some r) : CN l yX8_at (ws_ yX8_at cX8_at 2 (some .int)) 1 12 Γ D [.int x0, .int x1] M (foI r.1) r.2 := by
  refine CN.of (own := RX8) (lv0 := lv_args 0 [.int x0, .int x1]) (by decide +kernel) rfl (Nat.le_of_ble_eq_true rfl) rfl (fun X e1 e2 e3 e4 hC => ?_) r hr
  subst e1
  subst e2
  exact wX8_at hC hG e4 fu M x0 x1
set_option linter.unusedVariables false in
set_option maxRecDepth 100000 in
theorem wX8_driftOf_14 {X : JX} (hC : JC X cX8_driftOf RX8 (some .int) 2 34 0 0) (hG : dmI dmM (XG X)) (hnl : nLof X = 3) (fu : Nat) (M : Mem) (t0 : Int32) : J X (ZN X foI) (FX8_driftOf_14 fu (XD X) M t0) 14 [] [.int t0] M 0 0 := by
  unfold FX8_driftOf_14
  exact j_iret hC dX8_driftOf_14
set_option linter.unusedVariables false in
set_option maxRecDepth 100000 in
theorem wX8_driftOf {X : JX} (hC : JC X cX8_driftOf RX8 (some .int) 2 34 0 0) (hG : dmI dmM (XG X)) (hnl : nLof X = 3) (fu : Nat) (M : Mem) (x1 x2 : Int32) : J X (ZN X foI) (FX8_driftOf fu (XD X) M x1 x2) 0 [(0, .ref (gadr (XG X) (5, 0, 0))), (1, .int x1), (2, .int x2)] [] M 0 0 := by
  unfold FX8_driftOf
  refine j_aload_n hC 0 dX8_driftOf_0 rfl ?_
  refine j_iload_n hC 1 dX8_driftOf_1 rfl ?_
  refine j_iconst (v := 1) hC dX8_driftOf_2 (by decide) ?_
  refine j_callV (nA := 2) (rest := []) hC [.int x1, .int 1] rfl (fun r hr => mX8_ofBird (XL X) (XG X) hG fu (XD X) M x1 1 r hr) q1778 q1780 qs80 q136 q1781 (dmMo hG rfl) rfl rfl (by decide +kernel) rfl rfl rfl rfl rfl rfl dX8_driftOf_3 (fun v3 => [.int v3]) (fun _ => rfl) (fun v3 M3 => ?_)
  refine j_if_le (tgt := 13) hC dX8_driftOf_6 (by decide) (fun h6 => ?_) (fun h6 => ?_)
  · refine j_iconst (v := 0) hC dX8_driftOf_13 (by decide) ?_
    exact j_sub [] rfl (wX8_driftOf_14 hC hG hnl fu M3 0)
  · refine j_iload_n hC 2 dX8_driftOf_9 rfl ?_
    refine j_goto (tgt := 14) hC dX8_driftOf_10 (by decide) ?_
    exact j_sub [] rfl (wX8_driftOf_14 hC hG hnl fu M3 x2)
set_option linter.unusedVariables false in
set_option maxRecDepth 100000 in
theorem mX8_driftOf (l : Launch) (Γ : xG) (hG : dmI dmM Γ) (fu : Nat) (D : List LDen) (M : Mem) (x1 x2 : Int32) (r : Int32 × Mem) (hr : FX8_driftOf fu D M x1 x2 = some r) : CN l yX8_driftOf (ws_ yX8_driftOf cX8_driftOf 3 (some .int)) 2 34 Γ D [.ref (gadr Γ (5, 0, 0)), .int x1, .int x2] M (foI r.1) r.2 := by
  refine CN.of (own := RX8) (lv0 := lv_args 0 [.ref (gadr Γ (5, 0, 0)), .int x1, .int x2]) (by decide +kernel) rfl (Nat.le_of_ble_eq_true rfl) rfl (fun X e1 e2 e3 e4 hC => ?_) r hr
  subst e1
  subst e2
  exact wX8_driftOf hC hG e4 fu M x1 x2
set_option linter.unusedVariables false in
set_option maxRecDepth 100000 in
theorem wgX8_waysLeft_4 {X : JX} (hC : JC X cX8_waysLeft RX8 (some .int) 1 12 0 0) (hG : dmI dmM (XG X)) (hnl : nLof X = 3) (fu : Nat) (kn4 : Mem × Int32 × Int32 → Option (Int32 × Mem)) (hk4 : ∀ (M : Mem) (x1 x2 : Int32), J X (ZN X foI) (kn4 (M, x1, x2)) 4 [(1, .int x1), (2, .int x2)] [] M 0 0) (M : Mem) (x1 x2 : Int32) : J X (ZN X foI) (GX8_waysLeft_4 fu (XD X) kn4 M x1 x2) 4 [(1, .int x1), (2, .int x2)] [] M 0 0 := by
  unfold GX8_waysLeft_4
  refine j_iload_n hC 1 dX8_waysLeft_4 rfl ?_
  refine j_bipush (v := 8) hC dX8_waysLeft_5 (by decide) ?_
  refine j_icmp_ge (tgt := 20) hC dX8_waysLeft_7 (by decide) (fun h7 => ?_) (fun h7 => ?_)
  · refine j_iload_n hC 0 dX8_waysLeft_20 rfl ?_
    exact j_iret hC dX8_waysLeft_21
  · refine j_iload_n hC 0 dX8_waysLeft_10 rfl ?_
    refine j_iconst (v := 3) hC dX8_waysLeft_11 (by decide) ?_
    refine j_imul hC dX8_waysLeft_12 ?_
    refine j_ltT (fun y13 => ?_)
    refine j_istore_n hC [(1, .int y13), (2, .int x2)] hnl dX8_waysLeft_13 rfl rfl ?_
    refine j_iincL hC 1 (fun y14 => [(2, .int y14), (1, .int y13)]) hnl dX8_waysLeft_14 rfl (by decide) rfl (fun _ => rfl) (fun y14 => ?_)
    refine j_goto (tgt := 4) hC dX8_waysLeft_17 (by decide) ?_
    exact j_sub [1, 0] rfl (hk4 M y13 y14)
set_option linter.unusedVariables false in
set_option maxRecDepth 100000 in
theorem wX8_waysLeft_4 {X : JX} (hC : JC X cX8_waysLeft RX8 (some .int) 1 12 0 0) (hG : dmI dmM (XG X)) (hnl : nLof X = 3) (fu : Nat) (M : Mem) (x1 x2 : Int32) : J X (ZN X foI) (FX8_waysLeft_4 fu (XD X) M x1 x2) 4 [(1, .int x1), (2, .int x2)] [] M 0 0 := by
  exact j_lp (lvf := fun z => [(1, .int (z.2.1)), (2, .int (z.2.2))]) (Mf := fun z => z.1) (fun kn hk z => wgX8_waysLeft_4 hC hG hnl fu kn (fun M x1 x2 => hk (M, x1, x2)) z.1 z.2.1 z.2.2) fu (M, x1, x2)
set_option linter.unusedVariables false in
set_option maxRecDepth 100000 in
theorem wX8_waysLeft {X : JX} (hC : JC X cX8_waysLeft RX8 (some .int) 1 12 0 0) (hG : dmI dmM (XG X)) (hnl : nLof X = 3) (fu : Nat) (M : Mem) (x0 : Int32) : J X (ZN X foI) (FX8_waysLeft fu (XD X) M x0) 0 [(0, .int x0)] [] M 0 0 := by
  unfold FX8_waysLeft
  refine j_iconst (v := 1) hC dX8_waysLeft_0 (by decide) ?_
  refine j_istore_n hC [(1, .int 1), (0, .int x0)] hnl dX8_waysLeft_1 rfl rfl ?_
  refine j_iload_n hC 1 dX8_waysLeft_2 rfl ?_
  refine j_istore_n hC [(2, .int x0), (1, .int 1), (0, .int x0)] hnl dX8_waysLeft_3 rfl rfl ?_
  exact j_sub [1, 0] rfl (wX8_waysLeft_4 hC hG hnl fu M 1 x0)
set_option linter.unusedVariables false in
set_option maxRecDepth 100000 in
theorem mX8_waysLeft (l : Launch) (Γ : xG) (hG : dmI dmM Γ) (fu : Nat) (D : List LDen) (M : Mem) (x0 : Int32) (r : Int32 × Mem) (hr : FX8_waysLeft fu D M x0 = some r) : CN l yX8_waysLeft (ws_ yX8_waysLeft cX8_waysLeft 3 (some .int)) 1 12 Γ D [.int x0] M (foI r.1) r.2 := by
  refine CN.of (own := RX8) (lv0 := lv_args 0 [.int x0]) (by decide +kernel) rfl (Nat.le_of_ble_eq_true rfl) rfl (fun X e1 e2 e3 e4 hC => ?_) r hr
  subst e1
  subst e2
  exact wX8_waysLeft hC hG e4 fu M x0
set_option linter.unusedVariables false in
set_option maxRecDepth 100000 in
theorem wX8_goesOn_143 {X : JX} (hC : JC X cX8_goesOn RX8 none 7 149 0 0) (hG : dmI dmM (XG X)) (hnl : nLof X = 9) (fu : Nat) (kn40 : Mem × Int32 × Int32 × Int32 × Int32 × Int32 × Int32 → Option (Int32 × Mem)) (hk40 : ∀ (M : Mem) (x2 x3 x4 x5 x6 x7 : Int32), J X (ZN X foV) (kn40 (M, x2, x3, x4, x5, x6, x7)) 40 [(0, .ref (gadr (XG X) (5, 0, 0))), (2, .int x2), (3, .int x3), (4, .int x4), (5, .int x5), (6, .int x6), (7, .int x7)] [] M 0 0) (M : Mem) (x2 x3 x4 x5 x6 x7 : Int32) : J X (ZN X foV) (FX8_goesOn_143 fu (XD X) kn40 M x2 x3 x4 x5 x6 x7) 143 [(0, .ref (gadr (XG X) (5, 0, 0))), (2, .int x2), (3, .int x3), (4, .int x4), (5, .int x5), (6, .int x6), (7, .int x7)] [] M 0 0 := by
  unfold FX8_goesOn_143
  refine j_iincL hC 6 (fun y143 => [(7, .int y143), (0, .ref (gadr (XG X) (5, 0, 0))), (2, .int x2), (3, .int x3), (4, .int x4), (5, .int x5), (6, .int x6)]) hnl dX8_goesOn_143 rfl (by decide) rfl (fun _ => rfl) (fun y143 => ?_)
  refine j_goto (tgt := 40) hC dX8_goesOn_146 (by decide) ?_
  exact j_sub [1, 2, 3, 4, 5, 6, 0] rfl (hk40 M x2 x3 x4 x5 x6 y143)
set_option linter.unusedVariables false in
set_option maxRecDepth 100000 in
theorem wgX8_goesOn_40 {X : JX} (hC : JC X cX8_goesOn RX8 none 7 149 0 0) (hG : dmI dmM (XG X)) (hnl : nLof X = 9) (fu : Nat) (kn40 : Mem × Int32 × Int32 × Int32 × Int32 × Int32 × Int32 → Option (Int32 × Mem)) (hk40 : ∀ (M : Mem) (x2 x3 x4 x5 x6 x7 : Int32), J X (ZN X foV) (kn40 (M, x2, x3, x4, x5, x6, x7)) 40 [(0, .ref (gadr (XG X) (5, 0, 0))), (2, .int x2), (3, .int x3), (4, .int x4), (5, .int x5), (6, .int x6), (7, .int x7)] [] M 0 0) (M : Mem) (x2 x3 x4 x5 x6 x7 : Int32) : J X (ZN X foV) (GX8_goesOn_40 fu (XD X) kn40 M x2 x3 x4 x5 x6 x7) 40 [(0, .ref (gadr (XG X) (5, 0, 0))), (2, .int x2), (3, .int x3), (4, .int x4), (5, .int x5), (6, .int x6), (7, .int x7)] [] M 0 0 := by
  unfold GX8_goesOn_40
  refine j_iload hC 6 dX8_goesOn_40 rfl ?_
  refine j_iconst (v := 1) hC dX8_goesOn_42 (by decide) ?_
  refine j_icmp_gt (tgt := 149) hC dX8_goesOn_43 (by decide) (fun h43 => ?_) (fun h43 => ?_)
  · exact j_vret hC dX8_goesOn_149
  · refine j_iload_n hC 1 dX8_goesOn_46 rfl ?_
    refine j_iload hC 5 dX8_goesOn_47 rfl ?_
    refine j_iadd hC dX8_goesOn_49 ?_
    refine j_aload_n hC 0 dX8_goesOn_50 rfl ?_
    refine j_aload_n hC 0 dX8_goesOn_51 rfl ?_
    refine j_getI (fk := 18) hC (dmMo hG rfl) rfl rfl in_X8 rfl rfl q1482 rfl dX8_goesOn_52 ?_
    refine j_iload hC 6 dX8_goesOn_55 rfl ?_
    refine j_callV (nA := 2) (rest := [.int (x2 + x6)]) hC [.int (M (5, 0, 0) 18), .int x7] rfl (fun r hr => mX8_driftOf (XL X) (XG X) hG fu (XD X) M (M (5, 0, 0) 18) x7 r hr) q1819 q1821 qs88 q136 q1822 (dmMo hG rfl) rfl rfl (by decide +kernel) rfl rfl rfl rfl rfl rfl dX8_goesOn_57 (fun v57 => [.int v57, .int (x2 + x6)]) (fun _ => rfl) (fun v57 M57 => ?_)
    refine j_iadd hC dX8_goesOn_60 ?_
    refine j_ltT (fun y61 => ?_)
    refine j_istore hC [(8, .int y61), (0, .ref (gadr (XG X) (5, 0, 0))), (2, .int x2), (3, .int x3), (4, .int x4), (5, .int x5), (6, .int x6), (7, .int x7)] hnl dX8_goesOn_61 rfl rfl ?_
    refine j_iload hC 0 dX8_goesOn_63 rfl ?_
    refine j_callS (nA := 1) (rest := []) hC [.int y61] rfl (fun r hr => mX8_noColumn (XL X) (XG X) hG fu (XD X) M57 y61 r hr) q1767 q1768 q136 q1769 (by decide +kernel) rfl rfl rfl rfl rfl rfl dX8_goesOn_65 (fun v65 => [.int v65]) (fun _ => rfl) (fun v65 M65 => ?_)
    refine j_if_eq (tgt := 92) hC dX8_goesOn_68 (by decide) (fun h68 => ?_) (fun h68 => ?_)
    · refine j_iload hC 5 dX8_goesOn_92 rfl ?_
      refine j_if_gt (tgt := 126) hC dX8_goesOn_94 (by decide) (fun h94 => ?_) (fun h94 => ?_)
      · refine j_aload_n hC 1 dX8_goesOn_126 rfl ?_
        refine j_getR (fk := 23) hC (dmMo hG rfl) rfl rfl in_X8 rfl rfl q1487 rfl dX8_goesOn_127 ?_
        refine j_iload hC 5 dX8_goesOn_130 rfl ?_
        refine j_iload hC 0 dX8_goesOn_132 rfl ?_
        refine j_callS (nA := 2) (rest := [.ref (gadr (XG X) (5, 0, 10))]) hC [.int x5, .int y61] rfl (fun r hr => mX8_at (XL X) (XG X) hG fu (XD X) M65 x5 y61 r hr) q1812 q1813 q136 q1814 (by decide +kernel) rfl rfl rfl rfl rfl rfl dX8_goesOn_134 (fun v134 => [.int v134, .ref (gadr (XG X) (5, 0, 10))]) (fun _ => rfl) (fun v134 M134 => ?_)
        refine j_dup2 hC dX8_goesOn_137 rfl rfl ?_
        refine j_iald hC (dmMo hG rfl) rfl dX8_goesOn_138 (fun h138 => ?_)
        refine j_iload hC 4 dX8_goesOn_139 rfl ?_
        refine j_iadd hC dX8_goesOn_141 ?_
        refine j_iast hC (dmMo hG rfl) rfl dX8_goesOn_142 (fun h142 => ?_)
        refine j_lt (fun M142 => ?_)
        exact j_sub [1, 2, 3, 4, 5, 6, 7] rfl (wX8_goesOn_143 hC hG hnl fu kn40 hk40 M142 x2 x3 x4 x5 x6 x7)
      · refine j_aload_n hC 1 dX8_goesOn_97 rfl ?_
        refine j_getR (fk := 24) hC (dmMo hG rfl) rfl rfl in_X8 rfl rfl q1488 rfl dX8_goesOn_98 ?_
        refine j_bipush (v := 16) hC dX8_goesOn_101 (by decide) ?_
        refine j_iload_n hC 3 dX8_goesOn_103 rfl ?_
        refine j_iconst (v := 1) hC dX8_goesOn_104 (by decide) ?_
        refine j_iadd hC dX8_goesOn_105 ?_
        refine j_imul hC dX8_goesOn_106 ?_
        refine j_iload hC 0 dX8_goesOn_107 rfl ?_
        refine j_iadd hC dX8_goesOn_109 ?_
        refine j_dup2 hC dX8_goesOn_110 rfl rfl ?_
        refine j_iald hC (dmMo hG rfl) rfl dX8_goesOn_111 (fun h111 => ?_)
        refine j_iload hC 4 dX8_goesOn_112 rfl ?_
        refine j_iload_n hC 3 dX8_goesOn_114 rfl ?_
        refine j_iconst (v := 1) hC dX8_goesOn_115 (by decide) ?_
        refine j_iadd hC dX8_goesOn_116 ?_
        refine j_callS (nA := 1) (rest := [.int x4, .int (M65 (5, 0, 11) (((16 * (x3 + 1)) + y61).toNatClampNeg)), .int ((16 * (x3 + 1)) + y61), .ref (gadr (XG X) (5, 0, 11))]) hC [.int (x3 + 1)] rfl (fun r hr => mX8_waysLeft (XL X) (XG X) hG fu (XD X) M65 (x3 + 1) r hr) q1823 q1824 q136 q1825 (by decide +kernel) rfl rfl rfl rfl rfl rfl dX8_goesOn_117 (fun v117 => [.int v117, .int x4, .int (M65 (5, 0, 11) (((16 * (x3 + 1)) + y61).toNatClampNeg)), .int ((16 * (x3 + 1)) + y61), .ref (gadr (XG X) (5, 0, 11))]) (fun _ => rfl) (fun v117 M117 => ?_)
        refine j_imul hC dX8_goesOn_120 ?_
        refine j_iadd hC dX8_goesOn_121 ?_
        refine j_iast hC (dmMo hG rfl) rfl dX8_goesOn_122 (fun h122 => ?_)
        refine j_lt (fun M122 => ?_)
        refine j_goto (tgt := 143) hC dX8_goesOn_123 (by decide) ?_
        exact j_sub [1, 2, 3, 4, 5, 6, 7] rfl (wX8_goesOn_143 hC hG hnl fu kn40 hk40 M122 x2 x3 x4 x5 x6 x7)
    · refine j_aload_n hC 1 dX8_goesOn_71 rfl ?_
      refine j_dup hC dX8_goesOn_72 rfl ?_
      refine j_getI (fk := 25) hC (dmMo hG rfl) rfl rfl in_X8 rfl rfl q1489 rfl dX8_goesOn_73 ?_
      refine j_iload hC 4 dX8_goesOn_76 rfl ?_
      refine j_iload_n hC 3 dX8_goesOn_78 rfl ?_
      refine j_iconst (v := 1) hC dX8_goesOn_79 (by decide) ?_
      refine j_iadd hC dX8_goesOn_80 ?_
      refine j_callS (nA := 1) (rest := [.int x4, .int (M65 (5, 0, 0) 25), .ref (gadr (XG X) (5, 0, 0))]) hC [.int (x3 + 1)] rfl (fun r hr => mX8_waysLeft (XL X) (XG X) hG fu (XD X) M65 (x3 + 1) r hr) q1823 q1824 q136 q1825 (by decide +kernel) rfl rfl rfl rfl rfl rfl dX8_goesOn_81 (fun v81 => [.int v81, .int x4, .int (M65 (5, 0, 0) 25), .ref (gadr (XG X) (5, 0, 0))]) (fun _ => rfl) (fun v81 M81 => ?_)
      refine j_imul hC dX8_goesOn_84 ?_
      refine j_iadd hC dX8_goesOn_85 ?_
      refine j_put (fk := 25) (ty := .int) hC (dmMo hG rfl) rfl rfl in_X8 rfl rfl q1489 tyX8 tyX8_ok nmX8 rfl rfl (by decide +kernel) rfl rfl dX8_goesOn_86 ?_
      refine j_lt (fun M86 => ?_)
      refine j_goto (tgt := 143) hC dX8_goesOn_89 (by decide) ?_
      exact j_sub [1, 2, 3, 4, 5, 6, 7] rfl (wX8_goesOn_143 hC hG hnl fu kn40 hk40 M86 x2 x3 x4 x5 x6 x7)
set_option linter.unusedVariables false in
set_option maxRecDepth 100000 in
theorem wX8_goesOn_40 {X : JX} (hC : JC X cX8_goesOn RX8 none 7 149 0 0) (hG : dmI dmM (XG X)) (hnl : nLof X = 9) (fu : Nat) (M : Mem) (x2 x3 x4 x5 x6 x7 : Int32) : J X (ZN X foV) (FX8_goesOn_40 fu (XD X) M x2 x3 x4 x5 x6 x7) 40 [(0, .ref (gadr (XG X) (5, 0, 0))), (2, .int x2), (3, .int x3), (4, .int x4), (5, .int x5), (6, .int x6), (7, .int x7)] [] M 0 0 := by
  exact j_lp (lvf := fun z => [(0, .ref (gadr (XG X) (5, 0, 0))), (2, .int (z.2.1)), (3, .int (z.2.2.1)), (4, .int (z.2.2.2.1)), (5, .int (z.2.2.2.2.1)), (6, .int (z.2.2.2.2.2.1)), (7, .int (z.2.2.2.2.2.2))]) (Mf := fun z => z.1) (fun kn hk z => wgX8_goesOn_40 hC hG hnl fu kn (fun M x2 x3 x4 x5 x6 x7 => hk (M, x2, x3, x4, x5, x6, x7)) z.1 z.2.1 z.2.2.1 z.2.2.2.1 z.2.2.2.2.1 z.2.2.2.2.2.1 z.2.2.2.2.2.2) fu (M, x2, x3, x4, x5, x6, x7)
set_option linter.unusedVariables false in
set_option maxRecDepth 100000 in
theorem wX8_goesOn {X : JX} (hC : JC X cX8_goesOn RX8 none 7 149 0 0) (hG : dmI dmM (XG X)) (hnl : nLof X = 9) (fu : Nat) (M : Mem) (x1 x2 x3 : Int32) : J X (ZN X foV) (FX8_goesOn fu (XD X) M x1 x2 x3) 0 [(0, .ref (gadr (XG X) (5, 0, 0))), (1, .int x1), (2, .int x2), (3, .int x3)] [] M 0 0 := by
  unfold FX8_goesOn
  refine j_aload_n hC 0 dX8_goesOn_0 rfl ?_
  refine j_getR (fk := 22) hC (dmMo hG rfl) rfl rfl in_X8 rfl rfl q1486 rfl dX8_goesOn_1 ?_
  refine j_iload_n hC 1 dX8_goesOn_4 rfl ?_
  refine j_iload_n hC 2 dX8_goesOn_5 rfl ?_
  refine j_callS (nA := 2) (rest := [.ref (gadr (XG X) (5, 0, 9))]) hC [.int x1, .int x2] rfl (fun r hr => mX8_at (XL X) (XG X) hG fu (XD X) M x1 x2 r hr) q1812 q1813 q136 q1814 (by decide +kernel) rfl rfl rfl rfl rfl rfl dX8_goesOn_6 (fun v6 => [.int v6, .ref (gadr (XG X) (5, 0, 9))]) (fun _ => rfl) (fun v6 M6 => ?_)
  refine j_iald hC (dmMo hG rfl) rfl dX8_goesOn_9 (fun h9 => ?_)
  refine j_ltT (fun y10 => ?_)
  refine j_istore hC [(4, .int y10), (0, .ref (gadr (XG X) (5, 0, 0))), (1, .int x1), (2, .int x2), (3, .int x3)] hnl dX8_goesOn_10 rfl rfl ?_
  refine j_aload_n hC 1 dX8_goesOn_12 rfl ?_
  refine j_aload_n hC 1 dX8_goesOn_13 rfl ?_
  refine j_getI (fk := 18) hC (dmMo hG rfl) rfl rfl in_X8 rfl rfl q1482 rfl dX8_goesOn_14 ?_
  refine j_iload_n hC 2 dX8_goesOn_17 rfl ?_
  refine j_iload_n hC 3 dX8_goesOn_18 rfl ?_
  refine j_iload_n hC 4 dX8_goesOn_19 rfl ?_
  refine j_callV (nA := 4) (rest := []) hC [.int (M6 (5, 0, 0) 18), .int x1, .int x2, .int x3] rfl (fun r hr => mX8_looks (XL X) (XG X) hG fu (XD X) M6 (M6 (5, 0, 0) 18) x1 x2 x3 r hr) q1770 q1772 qs78 q136 q1773 (dmMo hG rfl) rfl rfl (by decide +kernel) rfl rfl rfl rfl rfl rfl dX8_goesOn_20 (fun _ => []) (fun _ => rfl) (fun v20 M20 => ?_)
  refine j_iload_n hC 2 dX8_goesOn_23 rfl ?_
  refine j_aload_n hC 1 dX8_goesOn_24 rfl ?_
  refine j_callV (nA := 0) (rest := [.int x1]) hC [] rfl (fun r hr => mX8_sinks (XL X) (XG X) hG fu (XD X) M20 r hr) q1798 q1800 qs85 q136 q1801 (dmMo hG rfl) rfl rfl (by decide +kernel) rfl rfl rfl rfl rfl rfl dX8_goesOn_25 (fun v25 => [.int v25, .int x1]) (fun _ => rfl) (fun v25 M25 => ?_)
  refine j_isub hC dX8_goesOn_28 ?_
  refine j_ltT (fun y29 => ?_)
  refine j_istore hC [(5, .int y29), (4, .int y10), (0, .ref (gadr (XG X) (5, 0, 0))), (1, .int x1), (2, .int x2), (3, .int x3)] hnl dX8_goesOn_29 rfl rfl ?_
  refine j_aload_n hC 2 dX8_goesOn_31 rfl ?_
  refine j_callV (nA := 0) (rest := []) hC [] rfl (fun r hr => mX8_carries (XL X) (XG X) hG fu (XD X) M25 r hr) q1774 q1776 qs79 q136 q1777 (dmMo hG rfl) rfl rfl (by decide +kernel) rfl rfl rfl rfl rfl rfl dX8_goesOn_32 (fun v32 => [.int v32]) (fun _ => rfl) (fun v32 M32 => ?_)
  refine j_istore hC [(6, .int v32), (5, .int y29), (4, .int y10), (0, .ref (gadr (XG X) (5, 0, 0))), (1, .int x1), (2, .int x2), (3, .int x3)] hnl dX8_goesOn_35 rfl rfl ?_
  refine j_iconst (v := (-1)) hC dX8_goesOn_37 (by decide) ?_
  refine j_istore hC [(7, .int ((-1))), (6, .int v32), (5, .int y29), (4, .int y10), (0, .ref (gadr (XG X) (5, 0, 0))), (1, .int x1), (2, .int x2), (3, .int x3)] hnl dX8_goesOn_38 rfl rfl ?_
  exact j_sub [4, 6, 7, 3, 2, 1, 0] rfl (wX8_goesOn_40 hC hG hnl fu M32 x2 x3 y10 y29 v32 (-1))
set_option linter.unusedVariables false in
set_option maxRecDepth 100000 in
theorem mX8_goesOn (l : Launch) (Γ : xG) (hG : dmI dmM Γ) (fu : Nat) (D : List LDen) (M : Mem) (x1 x2 x3 : Int32) (r : Int32 × Mem) (hr : FX8_goesOn fu D M x1 x2 x3 = some r) : CN l yX8_goesOn (ws_ yX8_goesOn cX8_goesOn 9 none) 7 149 Γ D [.ref (gadr Γ (5, 0, 0)), .int x1, .int x2, .int x3] M (foV r.1) r.2 := by
  refine CN.of (own := RX8) (lv0 := lv_args 0 [.ref (gadr Γ (5, 0, 0)), .int x1, .int x2, .int x3]) (by decide +kernel) rfl (Nat.le_of_ble_eq_true rfl) rfl (fun X e1 e2 e3 e4 hC => ?_) r hr
  subst e1
  subst e2
  exact wX8_goesOn hC hG e4 fu M x1 x2 x3
set_option linter.unusedVariables false in
set_option maxRecDepth 100000 in
theorem wgX8_laysWays_199 {X : JX} (hC : JC X cX8_laysWays RX8 none 8 177 0 0) (hG : dmI dmM (XG X)) (hnl : nLof X = 5) (fu : Nat) (kn199 : Mem × Int32 → Option (Int32 × Mem)) (hk199 : ∀ (M : Mem) (x2 : Int32), J X (ZN X foV) (kn199 (M, x2)) 199 [(0, .ref (gadr (XG X) (5, 0, 0))), (2, .int x2)] [] M 0 0) (M : Mem) (x2 : Int32) : J X (ZN X foV) (GX8_laysWays_199 fu (XD X) kn199 M x2) 199 [(0, .ref (gadr (XG X) (5, 0, 0))), (2, .int x2)] [] M 0 0 := by
  unfold GX8_laysWays_199
  refine j_iload_n hC 1 dX8_laysWays_199 rfl ?_
  refine j_sipush (v := 208) hC dX8_laysWays_200 (by decide) ?_
  refine j_icmp_ge (tgt := 227) hC dX8_laysWays_203 (by decide) (fun h203 => ?_) (fun h203 => ?_)
  · exact j_vret hC dX8_laysWays_227
  · refine j_aload_n hC 0 dX8_laysWays_206 rfl ?_
    refine j_dup hC dX8_laysWays_207 rfl ?_
    refine j_getI (fk := 26) hC (dmMo hG rfl) rfl rfl in_X8 rfl rfl q1490 rfl dX8_laysWays_208 ?_
    refine j_aload_n hC 0 dX8_laysWays_211 rfl ?_
    refine j_getR (fk := 22) hC (dmMo hG rfl) rfl rfl in_X8 rfl rfl q1486 rfl dX8_laysWays_212 ?_
    refine j_iload_n hC 1 dX8_laysWays_215 rfl ?_
    refine j_iald hC (dmMo hG rfl) rfl dX8_laysWays_216 (fun h216 => ?_)
    refine j_iadd hC dX8_laysWays_217 ?_
    refine j_put (fk := 26) (ty := .int) hC (dmMo hG rfl) rfl rfl in_X8 rfl rfl q1490 tyX8 tyX8_ok nmX8 rfl rfl (by decide +kernel) rfl rfl dX8_laysWays_218 ?_
    refine j_lt (fun M218 => ?_)
    refine j_iincL hC 1 (fun y221 => [(2, .int y221), (0, .ref (gadr (XG X) (5, 0, 0)))]) hnl dX8_laysWays_221 rfl (by decide) rfl (fun _ => rfl) (fun y221 => ?_)
    refine j_goto (tgt := 199) hC dX8_laysWays_224 (by decide) ?_
    exact j_sub [1, 0] rfl (hk199 M218 y221)
set_option linter.unusedVariables false in
set_option maxRecDepth 100000 in
theorem wX8_laysWays_199 {X : JX} (hC : JC X cX8_laysWays RX8 none 8 177 0 0) (hG : dmI dmM (XG X)) (hnl : nLof X = 5) (fu : Nat) (M : Mem) (x2 : Int32) : J X (ZN X foV) (FX8_laysWays_199 fu (XD X) M x2) 199 [(0, .ref (gadr (XG X) (5, 0, 0))), (2, .int x2)] [] M 0 0 := by
  exact j_lp (lvf := fun z => [(0, .ref (gadr (XG X) (5, 0, 0))), (2, .int (z.2))]) (Mf := fun z => z.1) (fun kn hk z => wgX8_laysWays_199 hC hG hnl fu kn (fun M x2 => hk (M, x2)) z.1 z.2) fu (M, x2)
set_option linter.unusedVariables false in
set_option maxRecDepth 100000 in
theorem wgX8_laysWays_166 {X : JX} (hC : JC X cX8_laysWays RX8 none 8 177 0 0) (hG : dmI dmM (XG X)) (hnl : nLof X = 5) (fu : Nat) (kn166 : Mem × Int32 × Int32 → Option (Int32 × Mem)) (hk166 : ∀ (M : Mem) (x2 x3 : Int32), J X (ZN X foV) (kn166 (M, x2, x3)) 166 [(0, .ref (gadr (XG X) (5, 0, 0))), (2, .int x2), (3, .int x3)] [] M 0 0) (kn84 : Mem × Int32 → Option (Int32 × Mem)) (hk84 : ∀ (M : Mem) (x2 : Int32), J X (ZN X foV) (kn84 (M, x2)) 84 [(0, .ref (gadr (XG X) (5, 0, 0))), (2, .int x2)] [] M 0 0) (M : Mem) (x2 x3 : Int32) : J X (ZN X foV) (GX8_laysWays_166 fu (XD X) kn166 kn84 M x2 x3) 166 [(0, .ref (gadr (XG X) (5, 0, 0))), (2, .int x2), (3, .int x3)] [] M 0 0 := by
  unfold GX8_laysWays_166
  refine j_iload_n hC 2 dX8_laysWays_166 rfl ?_
  refine j_sipush (v := 208) hC dX8_laysWays_167 (by decide) ?_
  refine j_icmp_ge (tgt := 191) hC dX8_laysWays_170 (by decide) (fun h170 => ?_) (fun h170 => ?_)
  · refine j_iincL hC 1 (fun y191 => [(2, .int y191), (0, .ref (gadr (XG X) (5, 0, 0))), (3, .int x3)]) hnl dX8_laysWays_191 rfl (by decide) rfl (fun _ => rfl) (fun y191 => ?_)
    refine j_goto (tgt := 84) hC dX8_laysWays_194 (by decide) ?_
    exact j_sub [1, 0] rfl (hk84 M y191)
  · refine j_aload_n hC 0 dX8_laysWays_173 rfl ?_
    refine j_getR (fk := 22) hC (dmMo hG rfl) rfl rfl in_X8 rfl rfl q1486 rfl dX8_laysWays_174 ?_
    refine j_iload_n hC 2 dX8_laysWays_177 rfl ?_
    refine j_aload_n hC 0 dX8_laysWays_178 rfl ?_
    refine j_getR (fk := 23) hC (dmMo hG rfl) rfl rfl in_X8 rfl rfl q1487 rfl dX8_laysWays_179 ?_
    refine j_iload_n hC 2 dX8_laysWays_182 rfl ?_
    refine j_iald hC (dmMo hG rfl) rfl dX8_laysWays_183 (fun h183 => ?_)
    refine j_iast hC (dmMo hG rfl) rfl dX8_laysWays_184 (fun h184 => ?_)
    refine j_lt (fun M184 => ?_)
    refine j_iincL hC 2 (fun y185 => [(3, .int y185), (0, .ref (gadr (XG X) (5, 0, 0))), (2, .int x2)]) hnl dX8_laysWays_185 rfl (by decide) rfl (fun _ => rfl) (fun y185 => ?_)
    refine j_goto (tgt := 166) hC dX8_laysWays_188 (by decide) ?_
    exact j_sub [1, 2, 0] rfl (hk166 M184 x2 y185)
set_option linter.unusedVariables false in
set_option maxRecDepth 100000 in
theorem wX8_laysWays_166 {X : JX} (hC : JC X cX8_laysWays RX8 none 8 177 0 0) (hG : dmI dmM (XG X)) (hnl : nLof X = 5) (fu : Nat) (kn84 : Mem × Int32 → Option (Int32 × Mem)) (hk84 : ∀ (M : Mem) (x2 : Int32), J X (ZN X foV) (kn84 (M, x2)) 84 [(0, .ref (gadr (XG X) (5, 0, 0))), (2, .int x2)] [] M 0 0) (M : Mem) (x2 x3 : Int32) : J X (ZN X foV) (FX8_laysWays_166 fu (XD X) kn84 M x2 x3) 166 [(0, .ref (gadr (XG X) (5, 0, 0))), (2, .int x2), (3, .int x3)] [] M 0 0 := by
  exact j_lp (lvf := fun z => [(0, .ref (gadr (XG X) (5, 0, 0))), (2, .int (z.2.1)), (3, .int (z.2.2))]) (Mf := fun z => z.1) (fun kn hk z => wgX8_laysWays_166 hC hG hnl fu kn (fun M x2 x3 => hk (M, x2, x3)) kn84 hk84 z.1 z.2.1 z.2.2) fu (M, x2, x3)
set_option linter.unusedVariables false in
set_option maxRecDepth 100000 in
theorem wX8_laysWays_152 {X : JX} (hC : JC X cX8_laysWays RX8 none 8 177 0 0) (hG : dmI dmM (XG X)) (hnl : nLof X = 5) (fu : Nat) (kn123 : Mem × Int32 × Int32 × Int32 → Option (Int32 × Mem)) (hk123 : ∀ (M : Mem) (x2 x3 x4 : Int32), J X (ZN X foV) (kn123 (M, x2, x3, x4)) 123 [(0, .ref (gadr (XG X) (5, 0, 0))), (2, .int x2), (3, .int x3), (4, .int x4)] [] M 0 0) (M : Mem) (x2 x3 x4 : Int32) : J X (ZN X foV) (FX8_laysWays_152 fu (XD X) kn123 M x2 x3 x4) 152 [(0, .ref (gadr (XG X) (5, 0, 0))), (2, .int x2), (3, .int x3), (4, .int x4)] [] M 0 0 := by
  unfold FX8_laysWays_152
  refine j_iincL hC 3 (fun y152 => [(4, .int y152), (0, .ref (gadr (XG X) (5, 0, 0))), (2, .int x2), (3, .int x3)]) hnl dX8_laysWays_152 rfl (by decide) rfl (fun _ => rfl) (fun y152 => ?_)
  refine j_goto (tgt := 123) hC dX8_laysWays_155 (by decide) ?_
  exact j_sub [1, 2, 3, 0] rfl (hk123 M x2 x3 y152)
set_option linter.unusedVariables false in
set_option maxRecDepth 100000 in
theorem wgX8_laysWays_123 {X : JX} (hC : JC X cX8_laysWays RX8 none 8 177 0 0) (hG : dmI dmM (XG X)) (hnl : nLof X = 5) (fu : Nat) (kn123 : Mem × Int32 × Int32 × Int32 → Option (Int32 × Mem)) (hk123 : ∀ (M : Mem) (x2 x3 x4 : Int32), J X (ZN X foV) (kn123 (M, x2, x3, x4)) 123 [(0, .ref (gadr (XG X) (5, 0, 0))), (2, .int x2), (3, .int x3), (4, .int x4)] [] M 0 0) (kn114 : Mem × Int32 × Int32 → Option (Int32 × Mem)) (hk114 : ∀ (M : Mem) (x2 x3 : Int32), J X (ZN X foV) (kn114 (M, x2, x3)) 114 [(0, .ref (gadr (XG X) (5, 0, 0))), (2, .int x2), (3, .int x3)] [] M 0 0) (M : Mem) (x2 x3 x4 : Int32) : J X (ZN X foV) (GX8_laysWays_123 fu (XD X) kn123 kn114 M x2 x3 x4) 123 [(0, .ref (gadr (XG X) (5, 0, 0))), (2, .int x2), (3, .int x3), (4, .int x4)] [] M 0 0 := by
  unfold GX8_laysWays_123
  refine j_iload hC 3 dX8_laysWays_123 rfl ?_
  refine j_bipush (v := 16) hC dX8_laysWays_125 (by decide) ?_
  refine j_icmp_ge (tgt := 158) hC dX8_laysWays_127 (by decide) (fun h127 => ?_) (fun h127 => ?_)
  · refine j_iincL hC 2 (fun y158 => [(3, .int y158), (0, .ref (gadr (XG X) (5, 0, 0))), (2, .int x2), (4, .int x4)]) hnl dX8_laysWays_158 rfl (by decide) rfl (fun _ => rfl) (fun y158 => ?_)
    refine j_goto (tgt := 114) hC dX8_laysWays_161 (by decide) ?_
    exact j_sub [1, 2, 0] rfl (hk114 M x2 y158)
  · refine j_aload_n hC 0 dX8_laysWays_130 rfl ?_
    refine j_getR (fk := 22) hC (dmMo hG rfl) rfl rfl in_X8 rfl rfl q1486 rfl dX8_laysWays_131 ?_
    refine j_iload_n hC 2 dX8_laysWays_134 rfl ?_
    refine j_iload hC 3 dX8_laysWays_135 rfl ?_
    refine j_callS (nA := 2) (rest := [.ref (gadr (XG X) (5, 0, 9))]) hC [.int x3, .int x4] rfl (fun r hr => mX8_at (XL X) (XG X) hG fu (XD X) M x3 x4 r hr) q1812 q1813 q136 q1814 (by decide +kernel) rfl rfl rfl rfl rfl rfl dX8_laysWays_137 (fun v137 => [.int v137, .ref (gadr (XG X) (5, 0, 9))]) (fun _ => rfl) (fun v137 M137 => ?_)
    refine j_iald hC (dmMo hG rfl) rfl dX8_laysWays_140 (fun h140 => ?_)
    refine j_if_le (tgt := 152) hC dX8_laysWays_141 (by decide) (fun h141 => ?_) (fun h141 => ?_)
    · exact j_sub [0, 1, 2, 3] rfl (wX8_laysWays_152 hC hG hnl fu kn123 hk123 M137 x2 x3 x4)
    · refine j_aload_n hC 0 dX8_laysWays_144 rfl ?_
      refine j_iload_n hC 2 dX8_laysWays_145 rfl ?_
      refine j_iload hC 3 dX8_laysWays_146 rfl ?_
      refine j_iload_n hC 1 dX8_laysWays_148 rfl ?_
      refine j_callV (nA := 3) (rest := []) hC [.int x3, .int x4, .int x2] rfl (fun r hr => mX8_goesOn (XL X) (XG X) hG fu (XD X) M137 x3 x4 x2 r hr) q1815 q1817 qs87 q136 q1818 (dmMo hG rfl) rfl rfl (by decide +kernel) rfl rfl rfl rfl rfl rfl dX8_laysWays_149 (fun _ => []) (fun _ => rfl) (fun v149 M149 => ?_)
      exact j_sub [0, 1, 2, 3] rfl (wX8_laysWays_152 hC hG hnl fu kn123 hk123 M149 x2 x3 x4)
set_option linter.unusedVariables false in
set_option maxRecDepth 100000 in
theorem wX8_laysWays_123 {X : JX} (hC : JC X cX8_laysWays RX8 none 8 177 0 0) (hG : dmI dmM (XG X)) (hnl : nLof X = 5) (fu : Nat) (kn114 : Mem × Int32 × Int32 → Option (Int32 × Mem)) (hk114 : ∀ (M : Mem) (x2 x3 : Int32), J X (ZN X foV) (kn114 (M, x2, x3)) 114 [(0, .ref (gadr (XG X) (5, 0, 0))), (2, .int x2), (3, .int x3)] [] M 0 0) (M : Mem) (x2 x3 x4 : Int32) : J X (ZN X foV) (FX8_laysWays_123 fu (XD X) kn114 M x2 x3 x4) 123 [(0, .ref (gadr (XG X) (5, 0, 0))), (2, .int x2), (3, .int x3), (4, .int x4)] [] M 0 0 := by
  exact j_lp (lvf := fun z => [(0, .ref (gadr (XG X) (5, 0, 0))), (2, .int (z.2.1)), (3, .int (z.2.2.1)), (4, .int (z.2.2.2))]) (Mf := fun z => z.1) (fun kn hk z => wgX8_laysWays_123 hC hG hnl fu kn (fun M x2 x3 x4 => hk (M, x2, x3, x4)) kn114 hk114 z.1 z.2.1 z.2.2.1 z.2.2.2) fu (M, x2, x3, x4)
set_option linter.unusedVariables false in
set_option maxRecDepth 100000 in
theorem wgX8_laysWays_114 {X : JX} (hC : JC X cX8_laysWays RX8 none 8 177 0 0) (hG : dmI dmM (XG X)) (hnl : nLof X = 5) (fu : Nat) (kn114 : Mem × Int32 × Int32 → Option (Int32 × Mem)) (hk114 : ∀ (M : Mem) (x2 x3 : Int32), J X (ZN X foV) (kn114 (M, x2, x3)) 114 [(0, .ref (gadr (XG X) (5, 0, 0))), (2, .int x2), (3, .int x3)] [] M 0 0) (kn84 : Mem × Int32 → Option (Int32 × Mem)) (hk84 : ∀ (M : Mem) (x2 : Int32), J X (ZN X foV) (kn84 (M, x2)) 84 [(0, .ref (gadr (XG X) (5, 0, 0))), (2, .int x2)] [] M 0 0) (M : Mem) (x2 x3 : Int32) : J X (ZN X foV) (GX8_laysWays_114 fu (XD X) kn114 kn84 M x2 x3) 114 [(0, .ref (gadr (XG X) (5, 0, 0))), (2, .int x2), (3, .int x3)] [] M 0 0 := by
  unfold GX8_laysWays_114
  refine j_iload_n hC 2 dX8_laysWays_114 rfl ?_
  refine j_bipush (v := 13) hC dX8_laysWays_115 (by decide) ?_
  refine j_icmp_ge (tgt := 164) hC dX8_laysWays_117 (by decide) (fun h117 => ?_) (fun h117 => ?_)
  · refine j_iconst (v := 0) hC dX8_laysWays_164 (by decide) ?_
    refine j_istore_n hC [(3, .int 0), (0, .ref (gadr (XG X) (5, 0, 0))), (2, .int x2)] hnl dX8_laysWays_165 rfl rfl ?_
    exact j_sub [1, 2, 0] rfl (wX8_laysWays_166 hC hG hnl fu kn84 hk84 M x2 0)
  · refine j_iconst (v := 0) hC dX8_laysWays_120 (by decide) ?_
    refine j_istore hC [(4, .int 0), (0, .ref (gadr (XG X) (5, 0, 0))), (2, .int x2), (3, .int x3)] hnl dX8_laysWays_121 rfl rfl ?_
    exact j_sub [1, 2, 3, 0] rfl (wX8_laysWays_123 hC hG hnl fu kn114 hk114 M x2 x3 0)
set_option linter.unusedVariables false in
set_option maxRecDepth 100000 in
theorem wX8_laysWays_114 {X : JX} (hC : JC X cX8_laysWays RX8 none 8 177 0 0) (hG : dmI dmM (XG X)) (hnl : nLof X = 5) (fu : Nat) (kn84 : Mem × Int32 → Option (Int32 × Mem)) (hk84 : ∀ (M : Mem) (x2 : Int32), J X (ZN X foV) (kn84 (M, x2)) 84 [(0, .ref (gadr (XG X) (5, 0, 0))), (2, .int x2)] [] M 0 0) (M : Mem) (x2 x3 : Int32) : J X (ZN X foV) (FX8_laysWays_114 fu (XD X) kn84 M x2 x3) 114 [(0, .ref (gadr (XG X) (5, 0, 0))), (2, .int x2), (3, .int x3)] [] M 0 0 := by
  exact j_lp (lvf := fun z => [(0, .ref (gadr (XG X) (5, 0, 0))), (2, .int (z.2.1)), (3, .int (z.2.2))]) (Mf := fun z => z.1) (fun kn hk z => wgX8_laysWays_114 hC hG hnl fu kn (fun M x2 x3 => hk (M, x2, x3)) kn84 hk84 z.1 z.2.1 z.2.2) fu (M, x2, x3)
set_option linter.unusedVariables false in
set_option maxRecDepth 100000 in
theorem wgX8_laysWays_92 {X : JX} (hC : JC X cX8_laysWays RX8 none 8 177 0 0) (hG : dmI dmM (XG X)) (hnl : nLof X = 5) (fu : Nat) (kn92 : Mem × Int32 × Int32 → Option (Int32 × Mem)) (hk92 : ∀ (M : Mem) (x2 x3 : Int32), J X (ZN X foV) (kn92 (M, x2, x3)) 92 [(0, .ref (gadr (XG X) (5, 0, 0))), (2, .int x2), (3, .int x3)] [] M 0 0) (kn84 : Mem × Int32 → Option (Int32 × Mem)) (hk84 : ∀ (M : Mem) (x2 : Int32), J X (ZN X foV) (kn84 (M, x2)) 84 [(0, .ref (gadr (XG X) (5, 0, 0))), (2, .int x2)] [] M 0 0) (M : Mem) (x2 x3 : Int32) : J X (ZN X foV) (GX8_laysWays_92 fu (XD X) kn92 kn84 M x2 x3) 92 [(0, .ref (gadr (XG X) (5, 0, 0))), (2, .int x2), (3, .int x3)] [] M 0 0 := by
  unfold GX8_laysWays_92
  refine j_iload_n hC 2 dX8_laysWays_92 rfl ?_
  refine j_sipush (v := 208) hC dX8_laysWays_93 (by decide) ?_
  refine j_icmp_ge (tgt := 112) hC dX8_laysWays_96 (by decide) (fun h96 => ?_) (fun h96 => ?_)
  · refine j_iconst (v := 1) hC dX8_laysWays_112 (by decide) ?_
    refine j_istore_n hC [(3, .int 1), (0, .ref (gadr (XG X) (5, 0, 0))), (2, .int x2)] hnl dX8_laysWays_113 rfl rfl ?_
    exact j_sub [1, 2, 0] rfl (wX8_laysWays_114 hC hG hnl fu kn84 hk84 M x2 1)
  · refine j_aload_n hC 0 dX8_laysWays_99 rfl ?_
    refine j_getR (fk := 23) hC (dmMo hG rfl) rfl rfl in_X8 rfl rfl q1487 rfl dX8_laysWays_100 ?_
    refine j_iload_n hC 2 dX8_laysWays_103 rfl ?_
    refine j_iconst (v := 0) hC dX8_laysWays_104 (by decide) ?_
    refine j_iast hC (dmMo hG rfl) rfl dX8_laysWays_105 (fun h105 => ?_)
    refine j_lt (fun M105 => ?_)
    refine j_iincL hC 2 (fun y106 => [(3, .int y106), (0, .ref (gadr (XG X) (5, 0, 0))), (2, .int x2)]) hnl dX8_laysWays_106 rfl (by decide) rfl (fun _ => rfl) (fun y106 => ?_)
    refine j_goto (tgt := 92) hC dX8_laysWays_109 (by decide) ?_
    exact j_sub [1, 2, 0] rfl (hk92 M105 x2 y106)
set_option linter.unusedVariables false in
set_option maxRecDepth 100000 in
theorem wX8_laysWays_92 {X : JX} (hC : JC X cX8_laysWays RX8 none 8 177 0 0) (hG : dmI dmM (XG X)) (hnl : nLof X = 5) (fu : Nat) (kn84 : Mem × Int32 → Option (Int32 × Mem)) (hk84 : ∀ (M : Mem) (x2 : Int32), J X (ZN X foV) (kn84 (M, x2)) 84 [(0, .ref (gadr (XG X) (5, 0, 0))), (2, .int x2)] [] M 0 0) (M : Mem) (x2 x3 : Int32) : J X (ZN X foV) (FX8_laysWays_92 fu (XD X) kn84 M x2 x3) 92 [(0, .ref (gadr (XG X) (5, 0, 0))), (2, .int x2), (3, .int x3)] [] M 0 0 := by
  exact j_lp (lvf := fun z => [(0, .ref (gadr (XG X) (5, 0, 0))), (2, .int (z.2.1)), (3, .int (z.2.2))]) (Mf := fun z => z.1) (fun kn hk z => wgX8_laysWays_92 hC hG hnl fu kn (fun M x2 x3 => hk (M, x2, x3)) kn84 hk84 z.1 z.2.1 z.2.2) fu (M, x2, x3)
set_option linter.unusedVariables false in
set_option maxRecDepth 100000 in
theorem wgX8_laysWays_84 {X : JX} (hC : JC X cX8_laysWays RX8 none 8 177 0 0) (hG : dmI dmM (XG X)) (hnl : nLof X = 5) (fu : Nat) (kn84 : Mem × Int32 → Option (Int32 × Mem)) (hk84 : ∀ (M : Mem) (x2 : Int32), J X (ZN X foV) (kn84 (M, x2)) 84 [(0, .ref (gadr (XG X) (5, 0, 0))), (2, .int x2)] [] M 0 0) (M : Mem) (x2 : Int32) : J X (ZN X foV) (GX8_laysWays_84 fu (XD X) kn84 M x2) 84 [(0, .ref (gadr (XG X) (5, 0, 0))), (2, .int x2)] [] M 0 0 := by
  unfold GX8_laysWays_84
  refine j_iload_n hC 1 dX8_laysWays_84 rfl ?_
  refine j_bipush (v := 8) hC dX8_laysWays_85 (by decide) ?_
  refine j_icmp_ge (tgt := 197) hC dX8_laysWays_87 (by decide) (fun h87 => ?_) (fun h87 => ?_)
  · refine j_iconst (v := 0) hC dX8_laysWays_197 (by decide) ?_
    refine j_istore_n hC [(2, .int 0), (0, .ref (gadr (XG X) (5, 0, 0)))] hnl dX8_laysWays_198 rfl rfl ?_
    exact j_sub [1, 0] rfl (wX8_laysWays_199 hC hG hnl fu M 0)
  · refine j_iconst (v := 0) hC dX8_laysWays_90 (by decide) ?_
    refine j_istore_n hC [(3, .int 0), (0, .ref (gadr (XG X) (5, 0, 0))), (2, .int x2)] hnl dX8_laysWays_91 rfl rfl ?_
    exact j_sub [1, 2, 0] rfl (wX8_laysWays_92 hC hG hnl fu kn84 hk84 M x2 0)
set_option linter.unusedVariables false in
set_option maxRecDepth 100000 in
theorem wX8_laysWays_84 {X : JX} (hC : JC X cX8_laysWays RX8 none 8 177 0 0) (hG : dmI dmM (XG X)) (hnl : nLof X = 5) (fu : Nat) (M : Mem) (x2 : Int32) : J X (ZN X foV) (FX8_laysWays_84 fu (XD X) M x2) 84 [(0, .ref (gadr (XG X) (5, 0, 0))), (2, .int x2)] [] M 0 0 := by
  exact j_lp (lvf := fun z => [(0, .ref (gadr (XG X) (5, 0, 0))), (2, .int (z.2))]) (Mf := fun z => z.1) (fun kn hk z => wgX8_laysWays_84 hC hG hnl fu kn (fun M x2 => hk (M, x2)) z.1 z.2) fu (M, x2)
set_option linter.unusedVariables false in
set_option maxRecDepth 100000 in
theorem wgX8_laysWays_39 {X : JX} (hC : JC X cX8_laysWays RX8 none 8 177 0 0) (hG : dmI dmM (XG X)) (hnl : nLof X = 5) (fu : Nat) (kn39 : Mem × Int32 → Option (Int32 × Mem)) (hk39 : ∀ (M : Mem) (x2 : Int32), J X (ZN X foV) (kn39 (M, x2)) 39 [(0, .ref (gadr (XG X) (5, 0, 0))), (2, .int x2)] [] M 0 0) (M : Mem) (x2 : Int32) : J X (ZN X foV) (GX8_laysWays_39 fu (XD X) kn39 M x2) 39 [(0, .ref (gadr (XG X) (5, 0, 0))), (2, .int x2)] [] M 0 0 := by
  unfold GX8_laysWays_39
  refine j_iload_n hC 1 dX8_laysWays_39 rfl ?_
  refine j_sipush (v := 144) hC dX8_laysWays_40 (by decide) ?_
  refine j_icmp_ge (tgt := 59) hC dX8_laysWays_43 (by decide) (fun h43 => ?_) (fun h43 => ?_)
  · refine j_aload_n hC 0 dX8_laysWays_59 rfl ?_
    refine j_getR (fk := 22) hC (dmMo hG rfl) rfl rfl in_X8 rfl rfl q1486 rfl dX8_laysWays_60 ?_
    refine j_aload_n hC 0 dX8_laysWays_63 rfl ?_
    refine j_getR (fk := 1) hC (dmMo hG rfl) rfl rfl in_X8 rfl rfl q1465 rfl dX8_laysWays_64 ?_
    refine j_bipush (v := 8) hC dX8_laysWays_67 (by decide) ?_
    refine j_iald hC (dmMo hG rfl) rfl dX8_laysWays_69 (fun h69 => ?_)
    refine j_aload_n hC 0 dX8_laysWays_70 rfl ?_
    refine j_getR (fk := 1) hC (dmMo hG rfl) rfl rfl in_X8 rfl rfl q1465 rfl dX8_laysWays_71 ?_
    refine j_bipush (v := 7) hC dX8_laysWays_74 (by decide) ?_
    refine j_iald hC (dmMo hG rfl) rfl dX8_laysWays_76 (fun h76 => ?_)
    refine j_callS (nA := 2) (rest := [.ref (gadr (XG X) (5, 0, 9))]) hC [.int (M (5, 0, 1) 8), .int (M (5, 0, 1) 7)] rfl (fun r hr => mX8_at (XL X) (XG X) hG fu (XD X) M (M (5, 0, 1) 8) (M (5, 0, 1) 7) r hr) q1812 q1813 q136 q1814 (by decide +kernel) rfl rfl rfl rfl rfl rfl dX8_laysWays_77 (fun v77 => [.int v77, .ref (gadr (XG X) (5, 0, 9))]) (fun _ => rfl) (fun v77 M77 => ?_)
    refine j_iconst (v := 1) hC dX8_laysWays_80 (by decide) ?_
    refine j_iast hC (dmMo hG rfl) rfl dX8_laysWays_81 (fun h81 => ?_)
    refine j_lt (fun M81 => ?_)
    refine j_iconst (v := 0) hC dX8_laysWays_82 (by decide) ?_
    refine j_istore_n hC [(2, .int 0), (0, .ref (gadr (XG X) (5, 0, 0)))] hnl dX8_laysWays_83 rfl rfl ?_
    exact j_sub [1, 0] rfl (wX8_laysWays_84 hC hG hnl fu M81 0)
  · refine j_aload_n hC 0 dX8_laysWays_46 rfl ?_
    refine j_getR (fk := 24) hC (dmMo hG rfl) rfl rfl in_X8 rfl rfl q1488 rfl dX8_laysWays_47 ?_
    refine j_iload_n hC 1 dX8_laysWays_50 rfl ?_
    refine j_iconst (v := 0) hC dX8_laysWays_51 (by decide) ?_
    refine j_iast hC (dmMo hG rfl) rfl dX8_laysWays_52 (fun h52 => ?_)
    refine j_lt (fun M52 => ?_)
    refine j_iincL hC 1 (fun y53 => [(2, .int y53), (0, .ref (gadr (XG X) (5, 0, 0)))]) hnl dX8_laysWays_53 rfl (by decide) rfl (fun _ => rfl) (fun y53 => ?_)
    refine j_goto (tgt := 39) hC dX8_laysWays_56 (by decide) ?_
    exact j_sub [1, 0] rfl (hk39 M52 y53)
set_option linter.unusedVariables false in
set_option maxRecDepth 100000 in
theorem wX8_laysWays_39 {X : JX} (hC : JC X cX8_laysWays RX8 none 8 177 0 0) (hG : dmI dmM (XG X)) (hnl : nLof X = 5) (fu : Nat) (M : Mem) (x2 : Int32) : J X (ZN X foV) (FX8_laysWays_39 fu (XD X) M x2) 39 [(0, .ref (gadr (XG X) (5, 0, 0))), (2, .int x2)] [] M 0 0 := by
  exact j_lp (lvf := fun z => [(0, .ref (gadr (XG X) (5, 0, 0))), (2, .int (z.2))]) (Mf := fun z => z.1) (fun kn hk z => wgX8_laysWays_39 hC hG hnl fu kn (fun M x2 => hk (M, x2)) z.1 z.2) fu (M, x2)
set_option linter.unusedVariables false in
set_option maxRecDepth 100000 in
theorem wgX8_laysWays_17 {X : JX} (hC : JC X cX8_laysWays RX8 none 8 177 0 0) (hG : dmI dmM (XG X)) (hnl : nLof X = 5) (fu : Nat) (kn17 : Mem × Int32 → Option (Int32 × Mem)) (hk17 : ∀ (M : Mem) (x2 : Int32), J X (ZN X foV) (kn17 (M, x2)) 17 [(0, .ref (gadr (XG X) (5, 0, 0))), (2, .int x2)] [] M 0 0) (M : Mem) (x2 : Int32) : J X (ZN X foV) (GX8_laysWays_17 fu (XD X) kn17 M x2) 17 [(0, .ref (gadr (XG X) (5, 0, 0))), (2, .int x2)] [] M 0 0 := by
  unfold GX8_laysWays_17
  refine j_iload_n hC 1 dX8_laysWays_17 rfl ?_
  refine j_sipush (v := 208) hC dX8_laysWays_18 (by decide) ?_
  refine j_icmp_ge (tgt := 37) hC dX8_laysWays_21 (by decide) (fun h21 => ?_) (fun h21 => ?_)
  · refine j_iconst (v := 0) hC dX8_laysWays_37 (by decide) ?_
    refine j_istore_n hC [(2, .int 0), (0, .ref (gadr (XG X) (5, 0, 0)))] hnl dX8_laysWays_38 rfl rfl ?_
    exact j_sub [1, 0] rfl (wX8_laysWays_39 hC hG hnl fu M 0)
  · refine j_aload_n hC 0 dX8_laysWays_24 rfl ?_
    refine j_getR (fk := 22) hC (dmMo hG rfl) rfl rfl in_X8 rfl rfl q1486 rfl dX8_laysWays_25 ?_
    refine j_iload_n hC 1 dX8_laysWays_28 rfl ?_
    refine j_iconst (v := 0) hC dX8_laysWays_29 (by decide) ?_
    refine j_iast hC (dmMo hG rfl) rfl dX8_laysWays_30 (fun h30 => ?_)
    refine j_lt (fun M30 => ?_)
    refine j_iincL hC 1 (fun y31 => [(2, .int y31), (0, .ref (gadr (XG X) (5, 0, 0)))]) hnl dX8_laysWays_31 rfl (by decide) rfl (fun _ => rfl) (fun y31 => ?_)
    refine j_goto (tgt := 17) hC dX8_laysWays_34 (by decide) ?_
    exact j_sub [1, 0] rfl (hk17 M30 y31)
set_option linter.unusedVariables false in
set_option maxRecDepth 100000 in
theorem wX8_laysWays_17 {X : JX} (hC : JC X cX8_laysWays RX8 none 8 177 0 0) (hG : dmI dmM (XG X)) (hnl : nLof X = 5) (fu : Nat) (M : Mem) (x2 : Int32) : J X (ZN X foV) (FX8_laysWays_17 fu (XD X) M x2) 17 [(0, .ref (gadr (XG X) (5, 0, 0))), (2, .int x2)] [] M 0 0 := by
  exact j_lp (lvf := fun z => [(0, .ref (gadr (XG X) (5, 0, 0))), (2, .int (z.2))]) (Mf := fun z => z.1) (fun kn hk z => wgX8_laysWays_17 hC hG hnl fu kn (fun M x2 => hk (M, x2)) z.1 z.2) fu (M, x2)
set_option linter.unusedVariables false in
set_option maxRecDepth 100000 in
theorem wX8_laysWays {X : JX} (hC : JC X cX8_laysWays RX8 none 8 177 0 0) (hG : dmI dmM (XG X)) (hnl : nLof X = 5) (fu : Nat) (M : Mem) (x1 : Int32) : J X (ZN X foV) (FX8_laysWays fu (XD X) M x1) 0 [(0, .ref (gadr (XG X) (5, 0, 0))), (1, .int x1)] [] M 0 0 := by
  unfold FX8_laysWays
  refine j_aload_n hC 0 dX8_laysWays_0 rfl ?_
  refine j_iload_n hC 1 dX8_laysWays_1 rfl ?_
  refine j_put (fk := 18) (ty := .int) hC (dmMo hG rfl) rfl rfl in_X8 rfl rfl q1482 tyX8 tyX8_ok nmX8 rfl rfl (by decide +kernel) rfl rfl dX8_laysWays_2 ?_
  refine j_lt (fun M2 => ?_)
  refine j_aload_n hC 0 dX8_laysWays_5 rfl ?_
  refine j_iconst (v := 0) hC dX8_laysWays_6 (by decide) ?_
  refine j_put (fk := 25) (ty := .int) hC (dmMo hG rfl) rfl rfl in_X8 rfl rfl q1489 tyX8 tyX8_ok nmX8 rfl rfl (by decide +kernel) rfl rfl dX8_laysWays_7 ?_
  refine j_lt (fun M7 => ?_)
  refine j_aload_n hC 0 dX8_laysWays_10 rfl ?_
  refine j_iconst (v := 0) hC dX8_laysWays_11 (by decide) ?_
  refine j_put (fk := 26) (ty := .int) hC (dmMo hG rfl) rfl rfl in_X8 rfl rfl q1490 tyX8 tyX8_ok nmX8 rfl rfl (by decide +kernel) rfl rfl dX8_laysWays_12 ?_
  refine j_lt (fun M12 => ?_)
  refine j_iconst (v := 0) hC dX8_laysWays_15 (by decide) ?_
  refine j_istore_n hC [(2, .int 0), (0, .ref (gadr (XG X) (5, 0, 0))), (1, .int x1)] hnl dX8_laysWays_16 rfl rfl ?_
  exact j_sub [1, 0] rfl (wX8_laysWays_17 hC hG hnl fu M12 0)
set_option linter.unusedVariables false in
set_option maxRecDepth 100000 in
theorem mX8_laysWays (l : Launch) (Γ : xG) (hG : dmI dmM Γ) (fu : Nat) (D : List LDen) (M : Mem) (x1 : Int32) (r : Int32 × Mem) (hr : FX8_laysWays fu D M x1 = some r) : CN l yX8_laysWays (ws_ yX8_laysWays cX8_laysWays 5 none) 8 177 Γ D [.ref (gadr Γ (5, 0, 0)), .int x1] M (foV r.1) r.2 := by
  refine CN.of (own := RX8) (lv0 := lv_args 0 [.ref (gadr Γ (5, 0, 0)), .int x1]) (by decide +kernel) rfl (Nat.le_of_ble_eq_true rfl) rfl (fun X e1 e2 e3 e4 hC => ?_) r hr
  subst e1
  subst e2
  exact wX8_laysWays hC hG e4 fu M x1
set_option linter.unusedVariables false in
set_option maxRecDepth 100000 in
theorem wX8_landedAt {X : JX} (hC : JC X cX8_landedAt RX8 (some .int) 1 12 0 0) (hG : dmI dmM (XG X)) (hnl : nLof X = 3) (fu : Nat) (M : Mem) (x1 x2 : Int32) : J X (ZN X foI) (FX8_landedAt fu (XD X) M x1 x2) 0 [(0, .ref (gadr (XG X) (5, 0, 0))), (1, .int x1), (2, .int x2)] [] M 0 0 := by
  unfold FX8_landedAt
  refine j_aload_n hC 0 dX8_landedAt_0 rfl ?_
  refine j_getR (fk := 24) hC (dmMo hG rfl) rfl rfl in_X8 rfl rfl q1488 rfl dX8_landedAt_1 ?_
  refine j_bipush (v := 16) hC dX8_landedAt_4 (by decide) ?_
  refine j_iload_n hC 1 dX8_landedAt_6 rfl ?_
  refine j_imul hC dX8_landedAt_7 ?_
  refine j_iload_n hC 2 dX8_landedAt_8 rfl ?_
  refine j_iadd hC dX8_landedAt_9 ?_
  refine j_iald hC (dmMo hG rfl) rfl dX8_landedAt_10 (fun h10 => ?_)
  exact j_iret hC dX8_landedAt_11
set_option linter.unusedVariables false in
set_option maxRecDepth 100000 in
theorem mX8_landedAt (l : Launch) (Γ : xG) (hG : dmI dmM Γ) (fu : Nat) (D : List LDen) (M : Mem) (x1 x2 : Int32) (r : Int32 × Mem) (hr : FX8_landedAt fu D M x1 x2 = some r) : CN l yX8_landedAt (ws_ yX8_landedAt cX8_landedAt 3 (some .int)) 1 12 Γ D [.ref (gadr Γ (5, 0, 0)), .int x1, .int x2] M (foI r.1) r.2 := by
  refine CN.of (own := RX8) (lv0 := lv_args 0 [.ref (gadr Γ (5, 0, 0)), .int x1, .int x2]) (by decide +kernel) rfl (Nat.le_of_ble_eq_true rfl) rfl (fun X e1 e2 e3 e4 hC => ?_) r hr
  subst e1
  subst e2
  exact wX8_landedAt hC hG e4 fu M x1 x2
set_option linter.unusedVariables false in
set_option maxRecDepth 100000 in
theorem wgX8_goodAt_10 {X : JX} (hC : JC X cX8_goodAt RX8 (some .int) 2 34 0 0) (hG : dmI dmM (XG X)) (hnl : nLof X = 4) (fu : Nat) (kn10 : Mem × Int32 × Int32 × Int32 → Option (Int32 × Mem)) (hk10 : ∀ (M : Mem) (x1 x2 x3 : Int32), J X (ZN X foI) (kn10 (M, x1, x2, x3)) 10 [(0, .ref (gadr (XG X) (5, 0, 0))), (1, .int x1), (2, .int x2), (3, .int x3)] [] M 0 0) (M : Mem) (x1 x2 x3 : Int32) : J X (ZN X foI) (GX8_goodAt_10 fu (XD X) kn10 M x1 x2 x3) 10 [(0, .ref (gadr (XG X) (5, 0, 0))), (1, .int x1), (2, .int x2), (3, .int x3)] [] M 0 0 := by
  unfold GX8_goodAt_10
  refine j_iload_n hC 3 dX8_goodAt_10 rfl ?_
  refine j_aload_n hC 0 dX8_goodAt_11 rfl ?_
  refine j_getR (fk := 1) hC (dmMo hG rfl) rfl rfl in_X8 rfl rfl q1465 rfl dX8_goodAt_12 ?_
  refine j_bipush (v := 10) hC dX8_goodAt_15 (by decide) ?_
  refine j_iald hC (dmMo hG rfl) rfl dX8_goodAt_17 (fun h17 => ?_)
  refine j_icmp_gt (tgt := 36) hC dX8_goodAt_18 (by decide) (fun h18 => ?_) (fun h18 => ?_)
  · refine j_iload_n hC 2 dX8_goodAt_36 rfl ?_
    exact j_iret hC dX8_goodAt_37
  · refine j_iload_n hC 2 dX8_goodAt_21 rfl ?_
    refine j_aload_n hC 0 dX8_goodAt_22 rfl ?_
    refine j_iload_n hC 1 dX8_goodAt_23 rfl ?_
    refine j_iload_n hC 3 dX8_goodAt_24 rfl ?_
    refine j_callV (nA := 2) (rest := [.int x2]) hC [.int x1, .int x3] rfl (fun r hr => mX8_landedAt (XL X) (XG X) hG fu (XD X) M x1 x3 r hr) q1834 q1836 qs91 q136 q1837 (dmMo hG rfl) rfl rfl (by decide +kernel) rfl rfl rfl rfl rfl rfl dX8_goodAt_25 (fun v25 => [.int v25, .int x2]) (fun _ => rfl) (fun v25 M25 => ?_)
    refine j_iadd hC dX8_goodAt_28 ?_
    refine j_ltT (fun y29 => ?_)
    refine j_istore_n hC [(2, .int y29), (0, .ref (gadr (XG X) (5, 0, 0))), (1, .int x1), (3, .int x3)] hnl dX8_goodAt_29 rfl rfl ?_
    refine j_iincL hC 3 (fun y30 => [(3, .int y30), (2, .int y29), (0, .ref (gadr (XG X) (5, 0, 0))), (1, .int x1)]) hnl dX8_goodAt_30 rfl (by decide) rfl (fun _ => rfl) (fun y30 => ?_)
    refine j_goto (tgt := 10) hC dX8_goodAt_33 (by decide) ?_
    exact j_sub [2, 3, 1, 0] rfl (hk10 M25 x1 y29 y30)
set_option linter.unusedVariables false in
set_option maxRecDepth 100000 in
theorem wX8_goodAt_10 {X : JX} (hC : JC X cX8_goodAt RX8 (some .int) 2 34 0 0) (hG : dmI dmM (XG X)) (hnl : nLof X = 4) (fu : Nat) (M : Mem) (x1 x2 x3 : Int32) : J X (ZN X foI) (FX8_goodAt_10 fu (XD X) M x1 x2 x3) 10 [(0, .ref (gadr (XG X) (5, 0, 0))), (1, .int x1), (2, .int x2), (3, .int x3)] [] M 0 0 := by
  exact j_lp (lvf := fun z => [(0, .ref (gadr (XG X) (5, 0, 0))), (1, .int (z.2.1)), (2, .int (z.2.2.1)), (3, .int (z.2.2.2))]) (Mf := fun z => z.1) (fun kn hk z => wgX8_goodAt_10 hC hG hnl fu kn (fun M x1 x2 x3 => hk (M, x1, x2, x3)) z.1 z.2.1 z.2.2.1 z.2.2.2) fu (M, x1, x2, x3)
set_option linter.unusedVariables false in
set_option maxRecDepth 100000 in
theorem wX8_goodAt {X : JX} (hC : JC X cX8_goodAt RX8 (some .int) 2 34 0 0) (hG : dmI dmM (XG X)) (hnl : nLof X = 4) (fu : Nat) (M : Mem) (x1 : Int32) : J X (ZN X foI) (FX8_goodAt fu (XD X) M x1) 0 [(0, .ref (gadr (XG X) (5, 0, 0))), (1, .int x1)] [] M 0 0 := by
  unfold FX8_goodAt
  refine j_iconst (v := 0) hC dX8_goodAt_0 (by decide) ?_
  refine j_istore_n hC [(2, .int 0), (0, .ref (gadr (XG X) (5, 0, 0))), (1, .int x1)] hnl dX8_goodAt_1 rfl rfl ?_
  refine j_aload_n hC 1 dX8_goodAt_2 rfl ?_
  refine j_getR (fk := 1) hC (dmMo hG rfl) rfl rfl in_X8 rfl rfl q1465 rfl dX8_goodAt_3 ?_
  refine j_bipush (v := 9) hC dX8_goodAt_6 (by decide) ?_
  refine j_iald hC (dmMo hG rfl) rfl dX8_goodAt_8 (fun h8 => ?_)
  refine j_ltT (fun y9 => ?_)
  refine j_istore_n hC [(3, .int y9), (2, .int 0), (0, .ref (gadr (XG X) (5, 0, 0))), (1, .int x1)] hnl dX8_goodAt_9 rfl rfl ?_
  exact j_sub [2, 3, 1, 0] rfl (wX8_goodAt_10 hC hG hnl fu M x1 0 y9)
set_option linter.unusedVariables false in
set_option maxRecDepth 100000 in
theorem mX8_goodAt (l : Launch) (Γ : xG) (hG : dmI dmM Γ) (fu : Nat) (D : List LDen) (M : Mem) (x1 : Int32) (r : Int32 × Mem) (hr : FX8_goodAt fu D M x1 = some r) : CN l yX8_goodAt (ws_ yX8_goodAt cX8_goodAt 4 (some .int)) 2 34 Γ D [.ref (gadr Γ (5, 0, 0)), .int x1] M (foI r.1) r.2 := by
  refine CN.of (own := RX8) (lv0 := lv_args 0 [.ref (gadr Γ (5, 0, 0)), .int x1]) (by decide +kernel) rfl (Nat.le_of_ble_eq_true rfl) rfl (fun X e1 e2 e3 e4 hC => ?_) r hr
  subst e1
  subst e2
  exact wX8_goodAt hC hG e4 fu M x1
set_option linter.unusedVariables false in
set_option maxRecDepth 100000 in
theorem wgX8_goodAll_4 {X : JX} (hC : JC X cX8_goodAll RX8 (some .int) 3 57 0 0) (hG : dmI dmM (XG X)) (hnl : nLof X = 3) (fu : Nat) (kn4 : Mem × Int32 × Int32 → Option (Int32 × Mem)) (hk4 : ∀ (M : Mem) (x1 x2 : Int32), J X (ZN X foI) (kn4 (M, x1, x2)) 4 [(0, .ref (gadr (XG X) (5, 0, 0))), (1, .int x1), (2, .int x2)] [] M 0 0) (M : Mem) (x1 x2 : Int32) : J X (ZN X foI) (GX8_goodAll_4 fu (XD X) kn4 M x1 x2) 4 [(0, .ref (gadr (XG X) (5, 0, 0))), (1, .int x1), (2, .int x2)] [] M 0 0 := by
  unfold GX8_goodAll_4
  refine j_iload_n hC 2 dX8_goodAll_4 rfl ?_
  refine j_bipush (v := 8) hC dX8_goodAll_5 (by decide) ?_
  refine j_icmp_gt (tgt := 24) hC dX8_goodAll_7 (by decide) (fun h7 => ?_) (fun h7 => ?_)
  · refine j_iload_n hC 1 dX8_goodAll_24 rfl ?_
    exact j_iret hC dX8_goodAll_25
  · refine j_iload_n hC 1 dX8_goodAll_10 rfl ?_
    refine j_aload_n hC 0 dX8_goodAll_11 rfl ?_
    refine j_iload_n hC 2 dX8_goodAll_12 rfl ?_
    refine j_callV (nA := 1) (rest := [.int x1]) hC [.int x2] rfl (fun r hr => mX8_goodAt (XL X) (XG X) hG fu (XD X) M x2 r hr) q1830 q1832 qs90 q136 q1833 (dmMo hG rfl) rfl rfl (by decide +kernel) rfl rfl rfl rfl rfl rfl dX8_goodAll_13 (fun v13 => [.int v13, .int x1]) (fun _ => rfl) (fun v13 M13 => ?_)
    refine j_iadd hC dX8_goodAll_16 ?_
    refine j_ltT (fun y17 => ?_)
    refine j_istore_n hC [(1, .int y17), (0, .ref (gadr (XG X) (5, 0, 0))), (2, .int x2)] hnl dX8_goodAll_17 rfl rfl ?_
    refine j_iincL hC 2 (fun y18 => [(2, .int y18), (1, .int y17), (0, .ref (gadr (XG X) (5, 0, 0)))]) hnl dX8_goodAll_18 rfl (by decide) rfl (fun _ => rfl) (fun y18 => ?_)
    refine j_goto (tgt := 4) hC dX8_goodAll_21 (by decide) ?_
    exact j_sub [2, 1, 0] rfl (hk4 M13 y17 y18)
set_option linter.unusedVariables false in
set_option maxRecDepth 100000 in
theorem wX8_goodAll_4 {X : JX} (hC : JC X cX8_goodAll RX8 (some .int) 3 57 0 0) (hG : dmI dmM (XG X)) (hnl : nLof X = 3) (fu : Nat) (M : Mem) (x1 x2 : Int32) : J X (ZN X foI) (FX8_goodAll_4 fu (XD X) M x1 x2) 4 [(0, .ref (gadr (XG X) (5, 0, 0))), (1, .int x1), (2, .int x2)] [] M 0 0 := by
  exact j_lp (lvf := fun z => [(0, .ref (gadr (XG X) (5, 0, 0))), (1, .int (z.2.1)), (2, .int (z.2.2))]) (Mf := fun z => z.1) (fun kn hk z => wgX8_goodAll_4 hC hG hnl fu kn (fun M x1 x2 => hk (M, x1, x2)) z.1 z.2.1 z.2.2) fu (M, x1, x2)
set_option linter.unusedVariables false in
set_option maxRecDepth 100000 in
theorem wX8_goodAll {X : JX} (hC : JC X cX8_goodAll RX8 (some .int) 3 57 0 0) (hG : dmI dmM (XG X)) (hnl : nLof X = 3) (fu : Nat) (M : Mem) : J X (ZN X foI) (FX8_goodAll fu (XD X) M) 0 [(0, .ref (gadr (XG X) (5, 0, 0)))] [] M 0 0 := by
  unfold FX8_goodAll
  refine j_iconst (v := 0) hC dX8_goodAll_0 (by decide) ?_
  refine j_istore_n hC [(1, .int 0), (0, .ref (gadr (XG X) (5, 0, 0)))] hnl dX8_goodAll_1 rfl rfl ?_
  refine j_iconst (v := 1) hC dX8_goodAll_2 (by decide) ?_
  refine j_istore_n hC [(2, .int 1), (1, .int 0), (0, .ref (gadr (XG X) (5, 0, 0)))] hnl dX8_goodAll_3 rfl rfl ?_
  exact j_sub [2, 1, 0] rfl (wX8_goodAll_4 hC hG hnl fu M 0 1)
set_option linter.unusedVariables false in
set_option maxRecDepth 100000 in
theorem mX8_goodAll (l : Launch) (Γ : xG) (hG : dmI dmM Γ) (fu : Nat) (D : List LDen) (M : Mem) (r : Int32 × Mem) (hr : FX8_goodAll fu D M = some r) : CN l yX8_goodAll (ws_ yX8_goodAll cX8_goodAll 3 (some .int)) 3 57 Γ D [.ref (gadr Γ (5, 0, 0))] M (foI r.1) r.2 := by
  refine CN.of (own := RX8) (lv0 := lv_args 0 [.ref (gadr Γ (5, 0, 0))]) (by decide +kernel) rfl (Nat.le_of_ble_eq_true rfl) rfl (fun X e1 e2 e3 e4 hC => ?_) r hr
  subst e1
  subst e2
  exact wX8_goodAll hC hG e4 fu M
set_option linter.unusedVariables false in
set_option maxRecDepth 100000 in
theorem wX8_ways_40 {X : JX} (hC : JC X cX8_ways RX8 (some .int) 9 201 0 0) (hG : dmI dmM (XG X)) (hnl : nLof X = 4) (fu : Nat) (M : Mem) : J X (ZN X foI) (FX8_ways_40 fu (XD X) M) 40 [] [] M 0 0 := by
  unfold FX8_ways_40
  refine j_iconst (v := 0) hC dX8_ways_40 (by decide) ?_
  exact j_iret hC dX8_ways_41
set_option linter.unusedVariables false in
set_option maxRecDepth 100000 in
theorem wX8_ways_99 {X : JX} (hC : JC X cX8_ways RX8 (some .int) 9 201 0 0) (hG : dmI dmM (XG X)) (hnl : nLof X = 4) (fu : Nat) (M : Mem) (t0 : Int32) : J X (ZN X foI) (FX8_ways_99 fu (XD X) M t0) 99 [] [.int t0] M 0 0 := by
  unfold FX8_ways_99
  exact j_iret hC dX8_ways_99
set_option linter.unusedVariables false in
set_option maxRecDepth 100000 in
theorem wX8_ways_33 {X : JX} (hC : JC X cX8_ways RX8 (some .int) 9 201 0 0) (hG : dmI dmM (XG X)) (hnl : nLof X = 4) (fu : Nat) (M : Mem) (x1 x2 t0 : Int32) : J X (ZN X foI) (FX8_ways_33 fu (XD X) M x1 x2 t0) 33 [(0, .ref (gadr (XG X) (5, 0, 0))), (1, .int x1), (2, .int x2)] [.int t0, .ref (gadr (XG X) (5, 0, 0))] M 0 0 := by
  unfold FX8_ways_33
  refine j_iconst (v := 2) hC dX8_ways_33 (by decide) ?_
  refine j_callV (nA := 2) (rest := []) hC [.int t0, .int 2] rfl (fun r hr => mX8_throwsIf (XL X) (XG X) hG fu (XD X) M t0 2 r hr) q1748 q1750 qs76 q136 q1751 (dmMo hG rfl) rfl rfl (by decide +kernel) rfl rfl rfl rfl rfl rfl dX8_ways_34 (fun v34 => [.int v34]) (fun _ => rfl) (fun v34 M34 => ?_)
  refine j_if_eq (tgt := 42) hC dX8_ways_37 (by decide) (fun h37 => ?_) (fun h37 => ?_)
  · refine j_aload_n hC 0 dX8_ways_42 rfl ?_
    refine j_iload_n hC 1 dX8_ways_43 rfl ?_
    refine j_callV (nA := 1) (rest := []) hC [.int x1] rfl (fun r hr => mX8_laysWays (XL X) (XG X) hG fu (XD X) M34 x1 r hr) q1808 q1810 qs86 q136 q1811 (dmMo hG rfl) rfl rfl (by decide +kernel) rfl rfl rfl rfl rfl rfl dX8_ways_44 (fun _ => []) (fun _ => rfl) (fun v44 M44 => ?_)
    refine j_aload_n hC 0 dX8_ways_47 rfl ?_
    refine j_callV (nA := 0) (rest := []) hC [] rfl (fun r hr => mX8_goodAll (XL X) (XG X) hG fu (XD X) M44 r hr) q1826 q1828 qs89 q136 q1829 (dmMo hG rfl) rfl rfl (by decide +kernel) rfl rfl rfl rfl rfl rfl dX8_ways_48 (fun v48 => [.int v48]) (fun _ => rfl) (fun v48 M48 => ?_)
    refine j_istore_n hC [(3, .int v48), (0, .ref (gadr (XG X) (5, 0, 0))), (1, .int x1), (2, .int x2)] hnl dX8_ways_51 rfl rfl ?_
    refine j_iload_n hC 3 dX8_ways_52 rfl ?_
    refine j_if_ne (tgt := 60) hC dX8_ways_53 (by decide) (fun h53 => ?_) (fun h53 => ?_)
    · refine j_iload_n hC 0 dX8_ways_56 rfl ?_
      refine j_goto (tgt := 99) hC dX8_ways_57 (by decide) ?_
      exact j_sub [] rfl (wX8_ways_99 hC hG hnl fu M48 v48)
    · refine j_iload_n hC 3 dX8_ways_60 rfl ?_
      refine j_iconst (v := 1) hC dX8_ways_61 (by decide) ?_
      refine j_icmp_ne (tgt := 72) hC dX8_ways_62 (by decide) (fun h62 => ?_) (fun h62 => ?_)
      · refine j_aload_n hC 1 dX8_ways_65 rfl ?_
        refine j_getI (fk := 25) hC (dmMo hG rfl) rfl rfl in_X8 rfl rfl q1489 rfl dX8_ways_66 ?_
        refine j_goto (tgt := 99) hC dX8_ways_69 (by decide) ?_
        exact j_sub [] rfl (wX8_ways_99 hC hG hnl fu M48 (M48 (5, 0, 0) 25))
      · refine j_iload_n hC 3 dX8_ways_72 rfl ?_
        refine j_iconst (v := 2) hC dX8_ways_73 (by decide) ?_
        refine j_icmp_ne (tgt := 84) hC dX8_ways_74 (by decide) (fun h74 => ?_) (fun h74 => ?_)
        · refine j_aload_n hC 1 dX8_ways_77 rfl ?_
          refine j_getI (fk := 26) hC (dmMo hG rfl) rfl rfl in_X8 rfl rfl q1490 rfl dX8_ways_78 ?_
          refine j_goto (tgt := 99) hC dX8_ways_81 (by decide) ?_
          exact j_sub [] rfl (wX8_ways_99 hC hG hnl fu M48 (M48 (5, 0, 0) 26))
        · refine j_sipush (v := 6561) hC dX8_ways_84 (by decide) ?_
          refine j_iload_n hC 0 dX8_ways_87 rfl ?_
          refine j_isub hC dX8_ways_88 ?_
          refine j_aload_n hC 1 dX8_ways_89 rfl ?_
          refine j_getI (fk := 25) hC (dmMo hG rfl) rfl rfl in_X8 rfl rfl q1489 rfl dX8_ways_90 ?_
          refine j_isub hC dX8_ways_93 ?_
          refine j_aload_n hC 1 dX8_ways_94 rfl ?_
          refine j_getI (fk := 26) hC (dmMo hG rfl) rfl rfl in_X8 rfl rfl q1490 rfl dX8_ways_95 ?_
          refine j_isub hC dX8_ways_98 ?_
          exact j_sub [] rfl (wX8_ways_99 hC hG hnl fu M48 (((6561 - v48) - (M48 (5, 0, 0) 25)) - (M48 (5, 0, 0) 26)))
  · exact j_sub [] rfl (wX8_ways_40 hC hG hnl fu M34)
set_option linter.unusedVariables false in
set_option maxRecDepth 100000 in
theorem wX8_ways {X : JX} (hC : JC X cX8_ways RX8 (some .int) 9 201 0 0) (hG : dmI dmM (XG X)) (hnl : nLof X = 4) (fu : Nat) (M : Mem) (x1 x2 : Int32) : J X (ZN X foI) (FX8_ways fu (XD X) M x1 x2) 0 [(0, .ref (gadr (XG X) (5, 0, 0))), (1, .int x1), (2, .int x2)] [] M 0 0 := by
  unfold FX8_ways
  refine j_aload_n hC 0 dX8_ways_0 rfl ?_
  refine j_iconst (v := 0) hC dX8_ways_1 (by decide) ?_
  refine j_put (fk := 0) (ty := .int) hC (dmMo hG rfl) rfl rfl in_X8 rfl rfl q1464 tyX8 tyX8_ok nmX8 rfl rfl (by decide +kernel) rfl rfl dX8_ways_2 ?_
  refine j_lt (fun M2 => ?_)
  refine j_aload_n hC 0 dX8_ways_5 rfl ?_
  refine j_aload_n hC 0 dX8_ways_6 rfl ?_
  refine j_iload_n hC 1 dX8_ways_7 rfl ?_
  refine j_callV (nA := 1) (rest := [.ref (gadr (XG X) (5, 0, 0))]) hC [.int x1] rfl (fun r hr => mX8_noBird (XL X) (XG X) hG fu (XD X) M2 x1 r hr) q1760 q1762 qs77 q136 q1763 (dmMo hG rfl) rfl rfl (by decide +kernel) rfl rfl rfl rfl rfl rfl dX8_ways_8 (fun v8 => [.int v8, .ref (gadr (XG X) (5, 0, 0))]) (fun _ => rfl) (fun v8 M8 => ?_)
  refine j_iconst (v := 1) hC dX8_ways_11 (by decide) ?_
  refine j_callV (nA := 2) (rest := []) hC [.int v8, .int 1] rfl (fun r hr => mX8_throwsIf (XL X) (XG X) hG fu (XD X) M8 v8 1 r hr) q1748 q1750 qs76 q136 q1751 (dmMo hG rfl) rfl rfl (by decide +kernel) rfl rfl rfl rfl rfl rfl dX8_ways_12 (fun v12 => [.int v12]) (fun _ => rfl) (fun v12 M12 => ?_)
  refine j_if_ne (tgt := 40) hC dX8_ways_15 (by decide) (fun h15 => ?_) (fun h15 => ?_)
  · refine j_aload_n hC 0 dX8_ways_18 rfl ?_
    refine j_iload_n hC 2 dX8_ways_19 rfl ?_
    refine j_iconst (v := 0) hC dX8_ways_20 (by decide) ?_
    refine j_iconst (v := 3) hC dX8_ways_21 (by decide) ?_
    refine j_callS (nA := 3) (rest := [.ref (gadr (XG X) (5, 0, 0))]) hC [.int x2, .int 0, .int 3] rfl (fun r hr => mX8_in (XL X) (XG X) hG fu (XD X) M12 x2 0 3 r hr) q1641 q1642 q136 q1643 (by decide +kernel) rfl rfl rfl rfl rfl rfl dX8_ways_22 (fun v22 => [.int v22, .ref (gadr (XG X) (5, 0, 0))]) (fun _ => rfl) (fun v22 M22 => ?_)
    refine j_if_ne (tgt := 32) hC dX8_ways_25 (by decide) (fun h25 => ?_) (fun h25 => ?_)
    · refine j_iconst (v := 1) hC dX8_ways_28 (by decide) ?_
      refine j_goto (tgt := 33) hC dX8_ways_29 (by decide) ?_
      exact j_sub [0, 1, 2] rfl (wX8_ways_33 hC hG hnl fu M22 x1 x2 1)
    · refine j_iconst (v := 0) hC dX8_ways_32 (by decide) ?_
      exact j_sub [0, 1, 2] rfl (wX8_ways_33 hC hG hnl fu M22 x1 x2 0)
  · exact j_sub [] rfl (wX8_ways_40 hC hG hnl fu M12)
set_option linter.unusedVariables false in
set_option maxRecDepth 100000 in
theorem mX8_ways (l : Launch) (Γ : xG) (hG : dmI dmM Γ) (fu : Nat) (D : List LDen) (M : Mem) (x1 x2 : Int32) (r : Int32 × Mem) (hr : FX8_ways fu D M x1 x2 = some r) : CN l yX8_ways (ws_ yX8_ways cX8_ways 4 (some .int)) 9 201 Γ D [.ref (gadr Γ (5, 0, 0)), .int x1, .int x2] M (foI r.1) r.2 := by
  refine CN.of (own := RX8) (lv0 := lv_args 0 [.ref (gadr Γ (5, 0, 0)), .int x1, .int x2]) (by decide +kernel) rfl (Nat.le_of_ble_eq_true rfl) rfl (fun X e1 e2 e3 e4 hC => ?_) r hr
  subst e1
  subst e2
  exact wX8_ways hC hG e4 fu M x1 x2
set_option linter.unusedVariables false in
set_option maxRecDepth 100000 in
theorem wgX8_lands_45 {X : JX} (hC : JC X cX8_lands RX8 (some .int) 9 201 0 0) (hG : dmI dmM (XG X)) (hnl : nLof X = 5) (fu : Nat) (kn45 : Mem × Int32 × Int32 × Int32 → Option (Int32 × Mem)) (hk45 : ∀ (M : Mem) (x2 x3 x4 : Int32), J X (ZN X foI) (kn45 (M, x2, x3, x4)) 45 [(0, .ref (gadr (XG X) (5, 0, 0))), (2, .int x2), (3, .int x3), (4, .int x4)] [] M 0 0) (M : Mem) (x2 x3 x4 : Int32) : J X (ZN X foI) (GX8_lands_45 fu (XD X) kn45 M x2 x3 x4) 45 [(0, .ref (gadr (XG X) (5, 0, 0))), (2, .int x2), (3, .int x3), (4, .int x4)] [] M 0 0 := by
  unfold GX8_lands_45
  refine j_iload hC 3 dX8_lands_45 rfl ?_
  refine j_bipush (v := 8) hC dX8_lands_47 (by decide) ?_
  refine j_icmp_gt (tgt := 68) hC dX8_lands_49 (by decide) (fun h49 => ?_) (fun h49 => ?_)
  · refine j_iload_n hC 2 dX8_lands_68 rfl ?_
    exact j_iret hC dX8_lands_69
  · refine j_iload_n hC 2 dX8_lands_52 rfl ?_
    refine j_aload_n hC 0 dX8_lands_53 rfl ?_
    refine j_iload hC 3 dX8_lands_54 rfl ?_
    refine j_iload_n hC 1 dX8_lands_56 rfl ?_
    refine j_callV (nA := 2) (rest := [.int x3]) hC [.int x4, .int x2] rfl (fun r hr => mX8_landedAt (XL X) (XG X) hG fu (XD X) M x4 x2 r hr) q1834 q1836 qs91 q136 q1837 (dmMo hG rfl) rfl rfl (by decide +kernel) rfl rfl rfl rfl rfl rfl dX8_lands_57 (fun v57 => [.int v57, .int x3]) (fun _ => rfl) (fun v57 M57 => ?_)
    refine j_iadd hC dX8_lands_60 ?_
    refine j_ltT (fun y61 => ?_)
    refine j_istore_n hC [(3, .int y61), (0, .ref (gadr (XG X) (5, 0, 0))), (2, .int x2), (4, .int x4)] hnl dX8_lands_61 rfl rfl ?_
    refine j_iincL hC 3 (fun y62 => [(4, .int y62), (3, .int y61), (0, .ref (gadr (XG X) (5, 0, 0))), (2, .int x2)]) hnl dX8_lands_62 rfl (by decide) rfl (fun _ => rfl) (fun y62 => ?_)
    refine j_goto (tgt := 45) hC dX8_lands_65 (by decide) ?_
    exact j_sub [2, 3, 1, 0] rfl (hk45 M57 x2 y61 y62)
set_option linter.unusedVariables false in
set_option maxRecDepth 100000 in
theorem wX8_lands_45 {X : JX} (hC : JC X cX8_lands RX8 (some .int) 9 201 0 0) (hG : dmI dmM (XG X)) (hnl : nLof X = 5) (fu : Nat) (M : Mem) (x2 x3 x4 : Int32) : J X (ZN X foI) (FX8_lands_45 fu (XD X) M x2 x3 x4) 45 [(0, .ref (gadr (XG X) (5, 0, 0))), (2, .int x2), (3, .int x3), (4, .int x4)] [] M 0 0 := by
  exact j_lp (lvf := fun z => [(0, .ref (gadr (XG X) (5, 0, 0))), (2, .int (z.2.1)), (3, .int (z.2.2.1)), (4, .int (z.2.2.2))]) (Mf := fun z => z.1) (fun kn hk z => wgX8_lands_45 hC hG hnl fu kn (fun M x2 x3 x4 => hk (M, x2, x3, x4)) z.1 z.2.1 z.2.2.1 z.2.2.2) fu (M, x2, x3, x4)
set_option linter.unusedVariables false in
set_option maxRecDepth 100000 in
theorem wX8_lands_26 {X : JX} (hC : JC X cX8_lands RX8 (some .int) 9 201 0 0) (hG : dmI dmM (XG X)) (hnl : nLof X = 5) (fu : Nat) (M : Mem) (x1 x2 t0 : Int32) : J X (ZN X foI) (FX8_lands_26 fu (XD X) M x1 x2 t0) 26 [(0, .ref (gadr (XG X) (5, 0, 0))), (1, .int x1), (2, .int x2)] [.int t0, .ref (gadr (XG X) (5, 0, 0))] M 0 0 := by
  unfold FX8_lands_26
  refine j_iconst (v := 1) hC dX8_lands_26 (by decide) ?_
  refine j_callV (nA := 2) (rest := []) hC [.int t0, .int 1] rfl (fun r hr => mX8_throwsIf (XL X) (XG X) hG fu (XD X) M t0 1 r hr) q1748 q1750 qs76 q136 q1751 (dmMo hG rfl) rfl rfl (by decide +kernel) rfl rfl rfl rfl rfl rfl dX8_lands_27 (fun v27 => [.int v27]) (fun _ => rfl) (fun v27 M27 => ?_)
  refine j_if_eq (tgt := 35) hC dX8_lands_30 (by decide) (fun h30 => ?_) (fun h30 => ?_)
  · refine j_aload_n hC 0 dX8_lands_35 rfl ?_
    refine j_iload_n hC 1 dX8_lands_36 rfl ?_
    refine j_callV (nA := 1) (rest := []) hC [.int x1] rfl (fun r hr => mX8_laysWays (XL X) (XG X) hG fu (XD X) M27 x1 r hr) q1808 q1810 qs86 q136 q1811 (dmMo hG rfl) rfl rfl (by decide +kernel) rfl rfl rfl rfl rfl rfl dX8_lands_37 (fun _ => []) (fun _ => rfl) (fun v37 M37 => ?_)
    refine j_iconst (v := 0) hC dX8_lands_40 (by decide) ?_
    refine j_istore_n hC [(3, .int 0), (0, .ref (gadr (XG X) (5, 0, 0))), (1, .int x1), (2, .int x2)] hnl dX8_lands_41 rfl rfl ?_
    refine j_iconst (v := 1) hC dX8_lands_42 (by decide) ?_
    refine j_istore hC [(4, .int 1), (3, .int 0), (0, .ref (gadr (XG X) (5, 0, 0))), (1, .int x1), (2, .int x2)] hnl dX8_lands_43 rfl rfl ?_
    exact j_sub [2, 4, 1, 0] rfl (wX8_lands_45 hC hG hnl fu M37 x2 0 1)
  · refine j_iconst (v := 0) hC dX8_lands_33 (by decide) ?_
    exact j_iret hC dX8_lands_34
set_option linter.unusedVariables false in
set_option maxRecDepth 100000 in
theorem wX8_lands_21 {X : JX} (hC : JC X cX8_lands RX8 (some .int) 9 201 0 0) (hG : dmI dmM (XG X)) (hnl : nLof X = 5) (fu : Nat) (M : Mem) (x1 x2 : Int32) : J X (ZN X foI) (FX8_lands_21 fu (XD X) M x1 x2) 21 [(0, .ref (gadr (XG X) (5, 0, 0))), (1, .int x1), (2, .int x2)] [.ref (gadr (XG X) (5, 0, 0))] M 0 0 := by
  unfold FX8_lands_21
  refine j_iconst (v := 1) hC dX8_lands_21 (by decide) ?_
  refine j_goto (tgt := 26) hC dX8_lands_22 (by decide) ?_
  exact j_sub [0, 1, 2] rfl (wX8_lands_26 hC hG hnl fu M x1 x2 1)
set_option linter.unusedVariables false in
set_option maxRecDepth 100000 in
theorem wX8_lands {X : JX} (hC : JC X cX8_lands RX8 (some .int) 9 201 0 0) (hG : dmI dmM (XG X)) (hnl : nLof X = 5) (fu : Nat) (M : Mem) (x1 x2 : Int32) : J X (ZN X foI) (FX8_lands fu (XD X) M x1 x2) 0 [(0, .ref (gadr (XG X) (5, 0, 0))), (1, .int x1), (2, .int x2)] [] M 0 0 := by
  unfold FX8_lands
  refine j_aload_n hC 0 dX8_lands_0 rfl ?_
  refine j_iconst (v := 0) hC dX8_lands_1 (by decide) ?_
  refine j_put (fk := 0) (ty := .int) hC (dmMo hG rfl) rfl rfl in_X8 rfl rfl q1464 tyX8 tyX8_ok nmX8 rfl rfl (by decide +kernel) rfl rfl dX8_lands_2 ?_
  refine j_lt (fun M2 => ?_)
  refine j_aload_n hC 0 dX8_lands_5 rfl ?_
  refine j_aload_n hC 0 dX8_lands_6 rfl ?_
  refine j_iload_n hC 1 dX8_lands_7 rfl ?_
  refine j_callV (nA := 1) (rest := [.ref (gadr (XG X) (5, 0, 0))]) hC [.int x1] rfl (fun r hr => mX8_noBird (XL X) (XG X) hG fu (XD X) M2 x1 r hr) q1760 q1762 qs77 q136 q1763 (dmMo hG rfl) rfl rfl (by decide +kernel) rfl rfl rfl rfl rfl rfl dX8_lands_8 (fun v8 => [.int v8, .ref (gadr (XG X) (5, 0, 0))]) (fun _ => rfl) (fun v8 M8 => ?_)
  refine j_if_ne (tgt := 21) hC dX8_lands_11 (by decide) (fun h11 => ?_) (fun h11 => ?_)
  · refine j_iload_n hC 2 dX8_lands_14 rfl ?_
    refine j_callS (nA := 1) (rest := [.ref (gadr (XG X) (5, 0, 0))]) hC [.int x2] rfl (fun r hr => mX8_noColumn (XL X) (XG X) hG fu (XD X) M8 x2 r hr) q1767 q1768 q136 q1769 (by decide +kernel) rfl rfl rfl rfl rfl rfl dX8_lands_15 (fun v15 => [.int v15, .ref (gadr (XG X) (5, 0, 0))]) (fun _ => rfl) (fun v15 M15 => ?_)
    refine j_if_eq (tgt := 25) hC dX8_lands_18 (by decide) (fun h18 => ?_) (fun h18 => ?_)
    · refine j_iconst (v := 0) hC dX8_lands_25 (by decide) ?_
      exact j_sub [0, 1, 2] rfl (wX8_lands_26 hC hG hnl fu M15 x1 x2 0)
    · exact j_sub [0, 1, 2] rfl (wX8_lands_21 hC hG hnl fu M15 x1 x2)
  · exact j_sub [0, 1, 2] rfl (wX8_lands_21 hC hG hnl fu M8 x1 x2)
set_option linter.unusedVariables false in
set_option maxRecDepth 100000 in
theorem mX8_lands (l : Launch) (Γ : xG) (hG : dmI dmM Γ) (fu : Nat) (D : List LDen) (M : Mem) (x1 x2 : Int32) (r : Int32 × Mem) (hr : FX8_lands fu D M x1 x2 = some r) : CN l yX8_lands (ws_ yX8_lands cX8_lands 5 (some .int)) 9 201 Γ D [.ref (gadr Γ (5, 0, 0)), .int x1, .int x2] M (foI r.1) r.2 := by
  refine CN.of (own := RX8) (lv0 := lv_args 0 [.ref (gadr Γ (5, 0, 0)), .int x1, .int x2]) (by decide +kernel) rfl (Nat.le_of_ble_eq_true rfl) rfl (fun X e1 e2 e3 e4 hC => ?_) r hr
  subst e1
  subst e2
  exact wX8_lands hC hG e4 fu M x1 x2
set_option linter.unusedVariables false in
set_option maxRecDepth 100000 in
theorem wX8_good_41 {X : JX} (hC : JC X cX8_good RX8 (some .int) 9 201 0 0) (hG : dmI dmM (XG X)) (hnl : nLof X = 3) (fu : Nat) (M : Mem) : J X (ZN X foI) (FX8_good_41 fu (XD X) M) 41 [] [] M 0 0 := by
  unfold FX8_good_41
  refine j_iconst (v := 0) hC dX8_good_41 (by decide) ?_
  exact j_iret hC dX8_good_42
set_option linter.unusedVariables false in
set_option maxRecDepth 100000 in
theorem wX8_good_34 {X : JX} (hC : JC X cX8_good RX8 (some .int) 9 201 0 0) (hG : dmI dmM (XG X)) (hnl : nLof X = 3) (fu : Nat) (M : Mem) (x1 x2 t0 : Int32) : J X (ZN X foI) (FX8_good_34 fu (XD X) M x1 x2 t0) 34 [(0, .ref (gadr (XG X) (5, 0, 0))), (1, .int x1), (2, .int x2)] [.int t0, .ref (gadr (XG X) (5, 0, 0))] M 0 0 := by
  unfold FX8_good_34
  refine j_iconst (v := 2) hC dX8_good_34 (by decide) ?_
  refine j_callV (nA := 2) (rest := []) hC [.int t0, .int 2] rfl (fun r hr => mX8_throwsIf (XL X) (XG X) hG fu (XD X) M t0 2 r hr) q1748 q1750 qs76 q136 q1751 (dmMo hG rfl) rfl rfl (by decide +kernel) rfl rfl rfl rfl rfl rfl dX8_good_35 (fun v35 => [.int v35]) (fun _ => rfl) (fun v35 M35 => ?_)
  refine j_if_eq (tgt := 43) hC dX8_good_38 (by decide) (fun h38 => ?_) (fun h38 => ?_)
  · refine j_aload_n hC 0 dX8_good_43 rfl ?_
    refine j_iload_n hC 1 dX8_good_44 rfl ?_
    refine j_callV (nA := 1) (rest := []) hC [.int x1] rfl (fun r hr => mX8_laysWays (XL X) (XG X) hG fu (XD X) M35 x1 r hr) q1808 q1810 qs86 q136 q1811 (dmMo hG rfl) rfl rfl (by decide +kernel) rfl rfl rfl rfl rfl rfl dX8_good_45 (fun _ => []) (fun _ => rfl) (fun v45 M45 => ?_)
    refine j_aload_n hC 0 dX8_good_48 rfl ?_
    refine j_iload_n hC 2 dX8_good_49 rfl ?_
    refine j_callV (nA := 1) (rest := []) hC [.int x2] rfl (fun r hr => mX8_goodAt (XL X) (XG X) hG fu (XD X) M45 x2 r hr) q1830 q1832 qs90 q136 q1833 (dmMo hG rfl) rfl rfl (by decide +kernel) rfl rfl rfl rfl rfl rfl dX8_good_50 (fun v50 => [.int v50]) (fun _ => rfl) (fun v50 M50 => ?_)
    exact j_iret hC dX8_good_53
  · exact j_sub [] rfl (wX8_good_41 hC hG hnl fu M35)
set_option linter.unusedVariables false in
set_option maxRecDepth 100000 in
theorem wX8_good {X : JX} (hC : JC X cX8_good RX8 (some .int) 9 201 0 0) (hG : dmI dmM (XG X)) (hnl : nLof X = 3) (fu : Nat) (M : Mem) (x1 x2 : Int32) : J X (ZN X foI) (FX8_good fu (XD X) M x1 x2) 0 [(0, .ref (gadr (XG X) (5, 0, 0))), (1, .int x1), (2, .int x2)] [] M 0 0 := by
  unfold FX8_good
  refine j_aload_n hC 0 dX8_good_0 rfl ?_
  refine j_iconst (v := 0) hC dX8_good_1 (by decide) ?_
  refine j_put (fk := 0) (ty := .int) hC (dmMo hG rfl) rfl rfl in_X8 rfl rfl q1464 tyX8 tyX8_ok nmX8 rfl rfl (by decide +kernel) rfl rfl dX8_good_2 ?_
  refine j_lt (fun M2 => ?_)
  refine j_aload_n hC 0 dX8_good_5 rfl ?_
  refine j_aload_n hC 0 dX8_good_6 rfl ?_
  refine j_iload_n hC 1 dX8_good_7 rfl ?_
  refine j_callV (nA := 1) (rest := [.ref (gadr (XG X) (5, 0, 0))]) hC [.int x1] rfl (fun r hr => mX8_noBird (XL X) (XG X) hG fu (XD X) M2 x1 r hr) q1760 q1762 qs77 q136 q1763 (dmMo hG rfl) rfl rfl (by decide +kernel) rfl rfl rfl rfl rfl rfl dX8_good_8 (fun v8 => [.int v8, .ref (gadr (XG X) (5, 0, 0))]) (fun _ => rfl) (fun v8 M8 => ?_)
  refine j_iconst (v := 1) hC dX8_good_11 (by decide) ?_
  refine j_callV (nA := 2) (rest := []) hC [.int v8, .int 1] rfl (fun r hr => mX8_throwsIf (XL X) (XG X) hG fu (XD X) M8 v8 1 r hr) q1748 q1750 qs76 q136 q1751 (dmMo hG rfl) rfl rfl (by decide +kernel) rfl rfl rfl rfl rfl rfl dX8_good_12 (fun v12 => [.int v12]) (fun _ => rfl) (fun v12 M12 => ?_)
  refine j_if_ne (tgt := 41) hC dX8_good_15 (by decide) (fun h15 => ?_) (fun h15 => ?_)
  · refine j_aload_n hC 0 dX8_good_18 rfl ?_
    refine j_iload_n hC 2 dX8_good_19 rfl ?_
    refine j_iconst (v := 1) hC dX8_good_20 (by decide) ?_
    refine j_bipush (v := 8) hC dX8_good_21 (by decide) ?_
    refine j_callS (nA := 3) (rest := [.ref (gadr (XG X) (5, 0, 0))]) hC [.int x2, .int 1, .int 8] rfl (fun r hr => mX8_in (XL X) (XG X) hG fu (XD X) M12 x2 1 8 r hr) q1641 q1642 q136 q1643 (by decide +kernel) rfl rfl rfl rfl rfl rfl dX8_good_23 (fun v23 => [.int v23, .ref (gadr (XG X) (5, 0, 0))]) (fun _ => rfl) (fun v23 M23 => ?_)
    refine j_if_ne (tgt := 33) hC dX8_good_26 (by decide) (fun h26 => ?_) (fun h26 => ?_)
    · refine j_iconst (v := 1) hC dX8_good_29 (by decide) ?_
      refine j_goto (tgt := 34) hC dX8_good_30 (by decide) ?_
      exact j_sub [0, 1, 2] rfl (wX8_good_34 hC hG hnl fu M23 x1 x2 1)
    · refine j_iconst (v := 0) hC dX8_good_33 (by decide) ?_
      exact j_sub [0, 1, 2] rfl (wX8_good_34 hC hG hnl fu M23 x1 x2 0)
  · exact j_sub [] rfl (wX8_good_41 hC hG hnl fu M12)
set_option linter.unusedVariables false in
set_option maxRecDepth 100000 in
theorem mX8_good (l : Launch) (Γ : xG) (hG : dmI dmM Γ) (fu : Nat) (D : List LDen) (M : Mem) (x1 x2 : Int32) (r : Int32 × Mem) (hr : FX8_good fu D M x1 x2 = some r) : CN l yX8_good (ws_ yX8_good cX8_good 3 (some .int)) 9 201 Γ D [.ref (gadr Γ (5, 0, 0)), .int x1, .int x2] M (foI r.1) r.2 := by
  refine CN.of (own := RX8) (lv0 := lv_args 0 [.ref (gadr Γ (5, 0, 0)), .int x1, .int x2]) (by decide +kernel) rfl (Nat.le_of_ble_eq_true rfl) rfl (fun X e1 e2 e3 e4 hC => ?_) r hr
  subst e1
  subst e2
  exact wX8_good hC hG e4 fu M x1 x2
set_option linter.unusedVariables false in
set_option maxRecDepth 100000 in
theorem wX8_tell_40 {X : JX} (hC : JC X cX8_tell RX8 (some .int) 9 201 0 0) (hG : dmI dmM (XG X)) (hnl : nLof X = 5) (fu : Nat) (M : Mem) : J X (ZN X foI) (FX8_tell_40 fu (XD X) M) 40 [] [] M 0 0 := by
  unfold FX8_tell_40
  refine j_iconst (v := 0) hC dX8_tell_40 (by decide) ?_
  exact j_iret hC dX8_tell_41
set_option linter.unusedVariables false in
set_option maxRecDepth 100000 in
theorem wX8_tell_80 {X : JX} (hC : JC X cX8_tell RX8 (some .int) 9 201 0 0) (hG : dmI dmM (XG X)) (hnl : nLof X = 5) (fu : Nat) (kn47 : Mem × Int32 × Int32 × Int32 × Int32 → Option (Int32 × Mem)) (hk47 : ∀ (M : Mem) (x1 x2 x3 x4 : Int32), J X (ZN X foI) (kn47 (M, x1, x2, x3, x4)) 47 [(0, .ref (gadr (XG X) (5, 0, 0))), (1, .int x1), (2, .int x2), (3, .int x3), (4, .int x4)] [] M 0 0) (M : Mem) (x1 x2 x4 t0 t1 : Int32) : J X (ZN X foI) (FX8_tell_80 fu (XD X) kn47 M x1 x2 x4 t0 t1) 80 [(0, .ref (gadr (XG X) (5, 0, 0))), (1, .int x1), (2, .int x2), (4, .int x4)] [.int t0, .int t1] M 0 0 := by
  unfold FX8_tell_80
  refine j_ior hC dX8_tell_80 ?_
  refine j_ltT (fun y81 => ?_)
  refine j_istore_n hC [(3, .int y81), (0, .ref (gadr (XG X) (5, 0, 0))), (1, .int x1), (2, .int x2), (4, .int x4)] hnl dX8_tell_81 rfl rfl ?_
  refine j_iincL hC 4 (fun y82 => [(4, .int y82), (3, .int y81), (0, .ref (gadr (XG X) (5, 0, 0))), (1, .int x1), (2, .int x2)]) hnl dX8_tell_82 rfl (by decide) rfl (fun _ => rfl) (fun y82 => ?_)
  refine j_goto (tgt := 47) hC dX8_tell_85 (by decide) ?_
  exact j_sub [2, 3, 4, 1, 0] rfl (hk47 M x1 x2 y81 y82)
set_option linter.unusedVariables false in
set_option maxRecDepth 100000 in
theorem wgX8_tell_47 {X : JX} (hC : JC X cX8_tell RX8 (some .int) 9 201 0 0) (hG : dmI dmM (XG X)) (hnl : nLof X = 5) (fu : Nat) (kn47 : Mem × Int32 × Int32 × Int32 × Int32 → Option (Int32 × Mem)) (hk47 : ∀ (M : Mem) (x1 x2 x3 x4 : Int32), J X (ZN X foI) (kn47 (M, x1, x2, x3, x4)) 47 [(0, .ref (gadr (XG X) (5, 0, 0))), (1, .int x1), (2, .int x2), (3, .int x3), (4, .int x4)] [] M 0 0) (M : Mem) (x1 x2 x3 x4 : Int32) : J X (ZN X foI) (GX8_tell_47 fu (XD X) kn47 M x1 x2 x3 x4) 47 [(0, .ref (gadr (XG X) (5, 0, 0))), (1, .int x1), (2, .int x2), (3, .int x3), (4, .int x4)] [] M 0 0 := by
  unfold GX8_tell_47
  refine j_iload hC 4 dX8_tell_47 rfl ?_
  refine j_aload_n hC 0 dX8_tell_49 rfl ?_
  refine j_callV (nA := 0) (rest := [.int x4]) hC [] rfl (fun r hr => mX8_birds (XL X) (XG X) hG fu (XD X) M r hr) q1622 q1624 qs54 q136 q1625 (dmMo hG rfl) rfl rfl (by decide +kernel) rfl rfl rfl rfl rfl rfl dX8_tell_50 (fun v50 => [.int v50, .int x4]) (fun _ => rfl) (fun v50 M50 => ?_)
  refine j_icmp_ge (tgt := 88) hC dX8_tell_53 (by decide) (fun h53 => ?_) (fun h53 => ?_)
  · refine j_iload_n hC 3 dX8_tell_88 rfl ?_
    exact j_iret hC dX8_tell_89
  · refine j_aload_n hC 0 dX8_tell_56 rfl ?_
    refine j_iload hC 4 dX8_tell_57 rfl ?_
    refine j_callV (nA := 1) (rest := []) hC [.int x4] rfl (fun r hr => mX8_laysWays (XL X) (XG X) hG fu (XD X) M50 x4 r hr) q1808 q1810 qs86 q136 q1811 (dmMo hG rfl) rfl rfl (by decide +kernel) rfl rfl rfl rfl rfl rfl dX8_tell_59 (fun _ => []) (fun _ => rfl) (fun v59 M59 => ?_)
    refine j_iload_n hC 3 dX8_tell_62 rfl ?_
    refine j_aload_n hC 0 dX8_tell_63 rfl ?_
    refine j_iload_n hC 2 dX8_tell_64 rfl ?_
    refine j_iload_n hC 1 dX8_tell_65 rfl ?_
    refine j_callV (nA := 2) (rest := [.int x3]) hC [.int x2, .int x1] rfl (fun r hr => mX8_landedAt (XL X) (XG X) hG fu (XD X) M59 x2 x1 r hr) q1834 q1836 qs91 q136 q1837 (dmMo hG rfl) rfl rfl (by decide +kernel) rfl rfl rfl rfl rfl rfl dX8_tell_66 (fun v66 => [.int v66, .int x3]) (fun _ => rfl) (fun v66 M66 => ?_)
    refine j_if_le (tgt := 79) hC dX8_tell_69 (by decide) (fun h69 => ?_) (fun h69 => ?_)
    · refine j_iconst (v := 0) hC dX8_tell_79 (by decide) ?_
      exact j_sub [0, 1, 2, 4] rfl (wX8_tell_80 hC hG hnl fu kn47 hk47 M66 x1 x2 x4 0 x3)
    · refine j_iconst (v := 1) hC dX8_tell_72 (by decide) ?_
      refine j_iload hC 4 dX8_tell_73 rfl ?_
      refine j_ishl hC dX8_tell_75 ?_
      refine j_goto (tgt := 80) hC dX8_tell_76 (by decide) ?_
      exact j_sub [0, 1, 2, 4] rfl (wX8_tell_80 hC hG hnl fu kn47 hk47 M66 x1 x2 x4 (1 <<< (x4 &&& 31)) x3)
set_option linter.unusedVariables false in
set_option maxRecDepth 100000 in
theorem wX8_tell_47 {X : JX} (hC : JC X cX8_tell RX8 (some .int) 9 201 0 0) (hG : dmI dmM (XG X)) (hnl : nLof X = 5) (fu : Nat) (M : Mem) (x1 x2 x3 x4 : Int32) : J X (ZN X foI) (FX8_tell_47 fu (XD X) M x1 x2 x3 x4) 47 [(0, .ref (gadr (XG X) (5, 0, 0))), (1, .int x1), (2, .int x2), (3, .int x3), (4, .int x4)] [] M 0 0 := by
  exact j_lp (lvf := fun z => [(0, .ref (gadr (XG X) (5, 0, 0))), (1, .int (z.2.1)), (2, .int (z.2.2.1)), (3, .int (z.2.2.2.1)), (4, .int (z.2.2.2.2))]) (Mf := fun z => z.1) (fun kn hk z => wgX8_tell_47 hC hG hnl fu kn (fun M x1 x2 x3 x4 => hk (M, x1, x2, x3, x4)) z.1 z.2.1 z.2.2.1 z.2.2.2.1 z.2.2.2.2) fu (M, x1, x2, x3, x4)
set_option linter.unusedVariables false in
set_option maxRecDepth 100000 in
theorem wX8_tell_33 {X : JX} (hC : JC X cX8_tell RX8 (some .int) 9 201 0 0) (hG : dmI dmM (XG X)) (hnl : nLof X = 5) (fu : Nat) (M : Mem) (x1 x2 t0 : Int32) : J X (ZN X foI) (FX8_tell_33 fu (XD X) M x1 x2 t0) 33 [(0, .ref (gadr (XG X) (5, 0, 0))), (1, .int x1), (2, .int x2)] [.int t0, .ref (gadr (XG X) (5, 0, 0))] M 0 0 := by
  unfold FX8_tell_33
  refine j_iconst (v := 2) hC dX8_tell_33 (by decide) ?_
  refine j_callV (nA := 2) (rest := []) hC [.int t0, .int 2] rfl (fun r hr => mX8_throwsIf (XL X) (XG X) hG fu (XD X) M t0 2 r hr) q1748 q1750 qs76 q136 q1751 (dmMo hG rfl) rfl rfl (by decide +kernel) rfl rfl rfl rfl rfl rfl dX8_tell_34 (fun v34 => [.int v34]) (fun _ => rfl) (fun v34 M34 => ?_)
  refine j_if_eq (tgt := 42) hC dX8_tell_37 (by decide) (fun h37 => ?_) (fun h37 => ?_)
  · refine j_iconst (v := 0) hC dX8_tell_42 (by decide) ?_
    refine j_istore_n hC [(3, .int 0), (0, .ref (gadr (XG X) (5, 0, 0))), (1, .int x1), (2, .int x2)] hnl dX8_tell_43 rfl rfl ?_
    refine j_iconst (v := 0) hC dX8_tell_44 (by decide) ?_
    refine j_istore hC [(4, .int 0), (3, .int 0), (0, .ref (gadr (XG X) (5, 0, 0))), (1, .int x1), (2, .int x2)] hnl dX8_tell_45 rfl rfl ?_
    exact j_sub [2, 3, 4, 1, 0] rfl (wX8_tell_47 hC hG hnl fu M34 x1 x2 0 0)
  · exact j_sub [] rfl (wX8_tell_40 hC hG hnl fu M34)
set_option linter.unusedVariables false in
set_option maxRecDepth 100000 in
theorem wX8_tell {X : JX} (hC : JC X cX8_tell RX8 (some .int) 9 201 0 0) (hG : dmI dmM (XG X)) (hnl : nLof X = 5) (fu : Nat) (M : Mem) (x1 x2 : Int32) : J X (ZN X foI) (FX8_tell fu (XD X) M x1 x2) 0 [(0, .ref (gadr (XG X) (5, 0, 0))), (1, .int x1), (2, .int x2)] [] M 0 0 := by
  unfold FX8_tell
  refine j_aload_n hC 0 dX8_tell_0 rfl ?_
  refine j_iconst (v := 0) hC dX8_tell_1 (by decide) ?_
  refine j_put (fk := 0) (ty := .int) hC (dmMo hG rfl) rfl rfl in_X8 rfl rfl q1464 tyX8 tyX8_ok nmX8 rfl rfl (by decide +kernel) rfl rfl dX8_tell_2 ?_
  refine j_lt (fun M2 => ?_)
  refine j_aload_n hC 0 dX8_tell_5 rfl ?_
  refine j_iload_n hC 1 dX8_tell_6 rfl ?_
  refine j_callS (nA := 1) (rest := [.ref (gadr (XG X) (5, 0, 0))]) hC [.int x1] rfl (fun r hr => mX8_noColumn (XL X) (XG X) hG fu (XD X) M2 x1 r hr) q1767 q1768 q136 q1769 (by decide +kernel) rfl rfl rfl rfl rfl rfl dX8_tell_7 (fun v7 => [.int v7, .ref (gadr (XG X) (5, 0, 0))]) (fun _ => rfl) (fun v7 M7 => ?_)
  refine j_iconst (v := 1) hC dX8_tell_10 (by decide) ?_
  refine j_callV (nA := 2) (rest := []) hC [.int v7, .int 1] rfl (fun r hr => mX8_throwsIf (XL X) (XG X) hG fu (XD X) M7 v7 1 r hr) q1748 q1750 qs76 q136 q1751 (dmMo hG rfl) rfl rfl (by decide +kernel) rfl rfl rfl rfl rfl rfl dX8_tell_11 (fun v11 => [.int v11]) (fun _ => rfl) (fun v11 M11 => ?_)
  refine j_if_ne (tgt := 40) hC dX8_tell_14 (by decide) (fun h14 => ?_) (fun h14 => ?_)
  · refine j_aload_n hC 0 dX8_tell_17 rfl ?_
    refine j_iload_n hC 2 dX8_tell_18 rfl ?_
    refine j_iconst (v := 1) hC dX8_tell_19 (by decide) ?_
    refine j_bipush (v := 8) hC dX8_tell_20 (by decide) ?_
    refine j_callS (nA := 3) (rest := [.ref (gadr (XG X) (5, 0, 0))]) hC [.int x2, .int 1, .int 8] rfl (fun r hr => mX8_in (XL X) (XG X) hG fu (XD X) M11 x2 1 8 r hr) q1641 q1642 q136 q1643 (by decide +kernel) rfl rfl rfl rfl rfl rfl dX8_tell_22 (fun v22 => [.int v22, .ref (gadr (XG X) (5, 0, 0))]) (fun _ => rfl) (fun v22 M22 => ?_)
    refine j_if_ne (tgt := 32) hC dX8_tell_25 (by decide) (fun h25 => ?_) (fun h25 => ?_)
    · refine j_iconst (v := 1) hC dX8_tell_28 (by decide) ?_
      refine j_goto (tgt := 33) hC dX8_tell_29 (by decide) ?_
      exact j_sub [0, 1, 2] rfl (wX8_tell_33 hC hG hnl fu M22 x1 x2 1)
    · refine j_iconst (v := 0) hC dX8_tell_32 (by decide) ?_
      exact j_sub [0, 1, 2] rfl (wX8_tell_33 hC hG hnl fu M22 x1 x2 0)
  · exact j_sub [] rfl (wX8_tell_40 hC hG hnl fu M11)
set_option linter.unusedVariables false in
set_option maxRecDepth 100000 in
theorem mX8_tell (l : Launch) (Γ : xG) (hG : dmI dmM Γ) (fu : Nat) (D : List LDen) (M : Mem) (x1 x2 : Int32) (r : Int32 × Mem) (hr : FX8_tell fu D M x1 x2 = some r) : CN l yX8_tell (ws_ yX8_tell cX8_tell 5 (some .int)) 9 201 Γ D [.ref (gadr Γ (5, 0, 0)), .int x1, .int x2] M (foI r.1) r.2 := by
  refine CN.of (own := RX8) (lv0 := lv_args 0 [.ref (gadr Γ (5, 0, 0)), .int x1, .int x2]) (by decide +kernel) rfl (Nat.le_of_ble_eq_true rfl) rfl (fun X e1 e2 e3 e4 hC => ?_) r hr
  subst e1
  subst e2
  exact wX8_tell hC hG e4 fu M x1 x2
set_option linter.unusedVariables false in
set_option maxRecDepth 100000 in
theorem wX8_widest_101 {X : JX} (hC : JC X cX8_widest RX8 (some .int) 9 201 0 0) (hG : dmI dmM (XG X)) (hnl : nLof X = 8) (fu : Nat) (kn47 : Mem × Int32 × Int32 × Int32 × Int32 × Int32 × Int32 → Option (Int32 × Mem)) (hk47 : ∀ (M : Mem) (x1 x2 x3 x4 x5 x6 : Int32), J X (ZN X foI) (kn47 (M, x1, x2, x3, x4, x5, x6)) 47 [(0, .ref (gadr (XG X) (5, 0, 0))), (1, .int x1), (2, .int x2), (3, .int x3), (4, .int x4), (5, .int x5), (6, .int x6)] [] M 0 0) (M : Mem) (x1 x2 x3 x5 x6 x7 t0 : Int32) : J X (ZN X foI) (FX8_widest_101 fu (XD X) kn47 M x1 x2 x3 x5 x6 x7 t0) 101 [(0, .ref (gadr (XG X) (5, 0, 0))), (1, .int x1), (2, .int x2), (3, .int x3), (5, .int x5), (6, .int x6), (7, .int x7)] [.int t0] M 0 0 := by
  unfold FX8_widest_101
  refine j_istore hC [(4, .int t0), (0, .ref (gadr (XG X) (5, 0, 0))), (1, .int x1), (2, .int x2), (3, .int x3), (5, .int x5), (6, .int x6), (7, .int x7)] hnl dX8_widest_101 rfl rfl ?_
  refine j_iload hC 5 dX8_widest_103 rfl ?_
  refine j_iload hC 7 dX8_widest_105 rfl ?_
  refine j_max hC q1803 q643 q155 q644 dX8_widest_107 rfl (Nat.le_of_ble_eq_true rfl) (Nat.le_of_ble_eq_true rfl) (Nat.le_of_ble_eq_true rfl) ?_
  refine j_ltT (fun y110 => ?_)
  refine j_istore hC [(5, .int y110), (4, .int t0), (0, .ref (gadr (XG X) (5, 0, 0))), (1, .int x1), (2, .int x2), (3, .int x3), (6, .int x6), (7, .int x7)] hnl dX8_widest_110 rfl rfl ?_
  refine j_iincL hC 6 (fun y112 => [(6, .int y112), (5, .int y110), (4, .int t0), (0, .ref (gadr (XG X) (5, 0, 0))), (1, .int x1), (2, .int x2), (3, .int x3), (7, .int x7)]) hnl dX8_widest_112 rfl (by decide) rfl (fun _ => rfl) (fun y112 => ?_)
  refine j_goto (tgt := 47) hC dX8_widest_115 (by decide) ?_
  exact j_sub [3, 4, 5, 6, 2, 1, 0] rfl (hk47 M x1 x2 x3 t0 y110 y112)
set_option linter.unusedVariables false in
set_option maxRecDepth 100000 in
theorem wgX8_widest_47 {X : JX} (hC : JC X cX8_widest RX8 (some .int) 9 201 0 0) (hG : dmI dmM (XG X)) (hnl : nLof X = 8) (fu : Nat) (kn47 : Mem × Int32 × Int32 × Int32 × Int32 × Int32 × Int32 → Option (Int32 × Mem)) (hk47 : ∀ (M : Mem) (x1 x2 x3 x4 x5 x6 : Int32), J X (ZN X foI) (kn47 (M, x1, x2, x3, x4, x5, x6)) 47 [(0, .ref (gadr (XG X) (5, 0, 0))), (1, .int x1), (2, .int x2), (3, .int x3), (4, .int x4), (5, .int x5), (6, .int x6)] [] M 0 0) (M : Mem) (x1 x2 x3 x4 x5 x6 : Int32) : J X (ZN X foI) (GX8_widest_47 fu (XD X) kn47 M x1 x2 x3 x4 x5 x6) 47 [(0, .ref (gadr (XG X) (5, 0, 0))), (1, .int x1), (2, .int x2), (3, .int x3), (4, .int x4), (5, .int x5), (6, .int x6)] [] M 0 0 := by
  unfold GX8_widest_47
  refine j_iload hC 6 dX8_widest_47 rfl ?_
  refine j_iload_n hC 3 dX8_widest_49 rfl ?_
  refine j_iadd hC dX8_widest_50 ?_
  refine j_bipush (v := 16) hC dX8_widest_51 (by decide) ?_
  refine j_icmp_ge (tgt := 118) hC dX8_widest_53 (by decide) (fun h53 => ?_) (fun h53 => ?_)
  · refine j_aload_n hC 0 dX8_widest_118 rfl ?_
    refine j_getR (fk := 1) hC (dmMo hG rfl) rfl rfl in_X8 rfl rfl q1465 rfl dX8_widest_119 ?_
    refine j_bipush (v := 9) hC dX8_widest_122 (by decide) ?_
    refine j_iload_n hC 2 dX8_widest_124 rfl ?_
    refine j_iast hC (dmMo hG rfl) rfl dX8_widest_125 (fun h125 => ?_)
    refine j_lt (fun M125 => ?_)
    refine j_aload_n hC 0 dX8_widest_126 rfl ?_
    refine j_getR (fk := 1) hC (dmMo hG rfl) rfl rfl in_X8 rfl rfl q1465 rfl dX8_widest_127 ?_
    refine j_bipush (v := 10) hC dX8_widest_130 (by decide) ?_
    refine j_iload_n hC 2 dX8_widest_132 rfl ?_
    refine j_iload_n hC 3 dX8_widest_133 rfl ?_
    refine j_iadd hC dX8_widest_134 ?_
    refine j_iast hC (dmMo hG rfl) rfl dX8_widest_135 (fun h135 => ?_)
    refine j_lt (fun M135 => ?_)
    refine j_iload hC 4 dX8_widest_136 rfl ?_
    exact j_iret hC dX8_widest_138
  · refine j_aload_n hC 0 dX8_widest_56 rfl ?_
    refine j_getR (fk := 1) hC (dmMo hG rfl) rfl rfl in_X8 rfl rfl q1465 rfl dX8_widest_57 ?_
    refine j_bipush (v := 9) hC dX8_widest_60 (by decide) ?_
    refine j_iload hC 6 dX8_widest_62 rfl ?_
    refine j_iast hC (dmMo hG rfl) rfl dX8_widest_64 (fun h64 => ?_)
    refine j_lt (fun M64 => ?_)
    refine j_aload_n hC 0 dX8_widest_65 rfl ?_
    refine j_getR (fk := 1) hC (dmMo hG rfl) rfl rfl in_X8 rfl rfl q1465 rfl dX8_widest_66 ?_
    refine j_bipush (v := 10) hC dX8_widest_69 (by decide) ?_
    refine j_iload hC 6 dX8_widest_71 rfl ?_
    refine j_iload_n hC 3 dX8_widest_73 rfl ?_
    refine j_iadd hC dX8_widest_74 ?_
    refine j_iast hC (dmMo hG rfl) rfl dX8_widest_75 (fun h75 => ?_)
    refine j_lt (fun M75 => ?_)
    refine j_aload_n hC 0 dX8_widest_76 rfl ?_
    refine j_iload_n hC 1 dX8_widest_77 rfl ?_
    refine j_callV (nA := 1) (rest := []) hC [.int x1] rfl (fun r hr => mX8_laysWays (XL X) (XG X) hG fu (XD X) M75 x1 r hr) q1808 q1810 qs86 q136 q1811 (dmMo hG rfl) rfl rfl (by decide +kernel) rfl rfl rfl rfl rfl rfl dX8_widest_78 (fun _ => []) (fun _ => rfl) (fun v78 M78 => ?_)
    refine j_aload_n hC 0 dX8_widest_81 rfl ?_
    refine j_callV (nA := 0) (rest := []) hC [] rfl (fun r hr => mX8_goodAll (XL X) (XG X) hG fu (XD X) M78 r hr) q1826 q1828 qs89 q136 q1829 (dmMo hG rfl) rfl rfl (by decide +kernel) rfl rfl rfl rfl rfl rfl dX8_widest_82 (fun v82 => [.int v82]) (fun _ => rfl) (fun v82 M82 => ?_)
    refine j_istore hC [(7, .int v82), (0, .ref (gadr (XG X) (5, 0, 0))), (1, .int x1), (2, .int x2), (3, .int x3), (4, .int x4), (5, .int x5), (6, .int x6)] hnl dX8_widest_85 rfl rfl ?_
    refine j_iload hC 0 dX8_widest_87 rfl ?_
    refine j_iload hC 6 dX8_widest_89 rfl ?_
    refine j_icmp_le (tgt := 99) hC dX8_widest_91 (by decide) (fun h91 => ?_) (fun h91 => ?_)
    · refine j_iload hC 5 dX8_widest_99 rfl ?_
      exact j_sub [1, 2, 3, 4, 6, 7, 0] rfl (wX8_widest_101 hC hG hnl fu kn47 hk47 M82 x1 x2 x3 x5 x6 v82 x4)
    · refine j_iload hC 7 dX8_widest_94 rfl ?_
      refine j_goto (tgt := 101) hC dX8_widest_96 (by decide) ?_
      exact j_sub [1, 2, 3, 4, 6, 7, 0] rfl (wX8_widest_101 hC hG hnl fu kn47 hk47 M82 x1 x2 x3 x5 x6 v82 x6)
set_option linter.unusedVariables false in
set_option maxRecDepth 100000 in
theorem wX8_widest_47 {X : JX} (hC : JC X cX8_widest RX8 (some .int) 9 201 0 0) (hG : dmI dmM (XG X)) (hnl : nLof X = 8) (fu : Nat) (M : Mem) (x1 x2 x3 x4 x5 x6 : Int32) : J X (ZN X foI) (FX8_widest_47 fu (XD X) M x1 x2 x3 x4 x5 x6) 47 [(0, .ref (gadr (XG X) (5, 0, 0))), (1, .int x1), (2, .int x2), (3, .int x3), (4, .int x4), (5, .int x5), (6, .int x6)] [] M 0 0 := by
  exact j_lp (lvf := fun z => [(0, .ref (gadr (XG X) (5, 0, 0))), (1, .int (z.2.1)), (2, .int (z.2.2.1)), (3, .int (z.2.2.2.1)), (4, .int (z.2.2.2.2.1)), (5, .int (z.2.2.2.2.2.1)), (6, .int (z.2.2.2.2.2.2))]) (Mf := fun z => z.1) (fun kn hk z => wgX8_widest_47 hC hG hnl fu kn (fun M x1 x2 x3 x4 x5 x6 => hk (M, x1, x2, x3, x4, x5, x6)) z.1 z.2.1 z.2.2.1 z.2.2.2.1 z.2.2.2.2.1 z.2.2.2.2.2.1 z.2.2.2.2.2.2) fu (M, x1, x2, x3, x4, x5, x6)
set_option linter.unusedVariables false in
set_option maxRecDepth 100000 in
theorem wX8_widest {X : JX} (hC : JC X cX8_widest RX8 (some .int) 9 201 0 0) (hG : dmI dmM (XG X)) (hnl : nLof X = 8) (fu : Nat) (M : Mem) (x1 : Int32) : J X (ZN X foI) (FX8_widest fu (XD X) M x1) 0 [(0, .ref (gadr (XG X) (5, 0, 0))), (1, .int x1)] [] M 0 0 := by
  unfold FX8_widest
  refine j_aload_n hC 0 dX8_widest_0 rfl ?_
  refine j_iconst (v := 0) hC dX8_widest_1 (by decide) ?_
  refine j_put (fk := 0) (ty := .int) hC (dmMo hG rfl) rfl rfl in_X8 rfl rfl q1464 tyX8 tyX8_ok nmX8 rfl rfl (by decide +kernel) rfl rfl dX8_widest_2 ?_
  refine j_lt (fun M2 => ?_)
  refine j_aload_n hC 0 dX8_widest_5 rfl ?_
  refine j_aload_n hC 0 dX8_widest_6 rfl ?_
  refine j_iload_n hC 1 dX8_widest_7 rfl ?_
  refine j_callV (nA := 1) (rest := [.ref (gadr (XG X) (5, 0, 0))]) hC [.int x1] rfl (fun r hr => mX8_noBird (XL X) (XG X) hG fu (XD X) M2 x1 r hr) q1760 q1762 qs77 q136 q1763 (dmMo hG rfl) rfl rfl (by decide +kernel) rfl rfl rfl rfl rfl rfl dX8_widest_8 (fun v8 => [.int v8, .ref (gadr (XG X) (5, 0, 0))]) (fun _ => rfl) (fun v8 M8 => ?_)
  refine j_iconst (v := 1) hC dX8_widest_11 (by decide) ?_
  refine j_callV (nA := 2) (rest := []) hC [.int v8, .int 1] rfl (fun r hr => mX8_throwsIf (XL X) (XG X) hG fu (XD X) M8 v8 1 r hr) q1748 q1750 qs76 q136 q1751 (dmMo hG rfl) rfl rfl (by decide +kernel) rfl rfl rfl rfl rfl rfl dX8_widest_12 (fun v12 => [.int v12]) (fun _ => rfl) (fun v12 M12 => ?_)
  refine j_if_eq (tgt := 20) hC dX8_widest_15 (by decide) (fun h15 => ?_) (fun h15 => ?_)
  · refine j_aload_n hC 0 dX8_widest_20 rfl ?_
    refine j_getR (fk := 1) hC (dmMo hG rfl) rfl rfl in_X8 rfl rfl q1465 rfl dX8_widest_21 ?_
    refine j_bipush (v := 9) hC dX8_widest_24 (by decide) ?_
    refine j_iald hC (dmMo hG rfl) rfl dX8_widest_26 (fun h26 => ?_)
    refine j_ltT (fun y27 => ?_)
    refine j_istore_n hC [(2, .int y27), (0, .ref (gadr (XG X) (5, 0, 0))), (1, .int x1)] hnl dX8_widest_27 rfl rfl ?_
    refine j_aload_n hC 1 dX8_widest_28 rfl ?_
    refine j_getR (fk := 1) hC (dmMo hG rfl) rfl rfl in_X8 rfl rfl q1465 rfl dX8_widest_29 ?_
    refine j_bipush (v := 10) hC dX8_widest_32 (by decide) ?_
    refine j_iald hC (dmMo hG rfl) rfl dX8_widest_34 (fun h34 => ?_)
    refine j_iload_n hC 0 dX8_widest_35 rfl ?_
    refine j_isub hC dX8_widest_36 ?_
    refine j_ltT (fun y37 => ?_)
    refine j_istore_n hC [(3, .int y37), (2, .int y27), (0, .ref (gadr (XG X) (5, 0, 0))), (1, .int x1)] hnl dX8_widest_37 rfl rfl ?_
    refine j_iconst (v := 0) hC dX8_widest_38 (by decide) ?_
    refine j_istore hC [(4, .int 0), (3, .int y37), (2, .int y27), (0, .ref (gadr (XG X) (5, 0, 0))), (1, .int x1)] hnl dX8_widest_39 rfl rfl ?_
    refine j_iconst (v := (-1)) hC dX8_widest_41 (by decide) ?_
    refine j_istore hC [(5, .int ((-1))), (4, .int 0), (3, .int y37), (2, .int y27), (0, .ref (gadr (XG X) (5, 0, 0))), (1, .int x1)] hnl dX8_widest_42 rfl rfl ?_
    refine j_iconst (v := 0) hC dX8_widest_44 (by decide) ?_
    refine j_istore hC [(6, .int 0), (5, .int ((-1))), (4, .int 0), (3, .int y37), (2, .int y27), (0, .ref (gadr (XG X) (5, 0, 0))), (1, .int x1)] hnl dX8_widest_45 rfl rfl ?_
    exact j_sub [5, 6, 4, 3, 2, 1, 0] rfl (wX8_widest_47 hC hG hnl fu M12 x1 y27 y37 0 (-1) 0)
  · refine j_iconst (v := 0) hC dX8_widest_18 (by decide) ?_
    exact j_iret hC dX8_widest_19
set_option linter.unusedVariables false in
set_option maxRecDepth 100000 in
theorem mX8_widest (l : Launch) (Γ : xG) (hG : dmI dmM Γ) (fu : Nat) (D : List LDen) (M : Mem) (x1 : Int32) (r : Int32 × Mem) (hr : FX8_widest fu D M x1 = some r) : CN l yX8_widest (ws_ yX8_widest cX8_widest 8 (some .int)) 9 201 Γ D [.ref (gadr Γ (5, 0, 0)), .int x1] M (foI r.1) r.2 := by
  refine CN.of (own := RX8) (lv0 := lv_args 0 [.ref (gadr Γ (5, 0, 0)), .int x1]) (by decide +kernel) rfl (Nat.le_of_ble_eq_true rfl) rfl (fun X e1 e2 e3 e4 hC => ?_) r hr
  subst e1
  subst e2
  exact wX8_widest hC hG e4 fu M x1
set_option linter.unusedVariables false in
set_option maxRecDepth 100000 in
theorem wX8_begins {X : JX} (hC : JC X cX8_begins RX8 none 1 12 0 0) (hG : dmI dmM (XG X)) (hnl : nLof X = 3) (fu : Nat) (M : Mem) (x1 x2 : Int32) : J X (ZN X foV) (FX8_begins fu (XD X) M x1 x2) 0 [(0, .ref (gadr (XG X) (5, 0, 0))), (1, .int x1), (2, .int x2)] [] M 0 0 := by
  unfold FX8_begins
  refine j_aload_n hC 0 dX8_begins_0 rfl ?_
  refine j_getR (fk := 28) hC (dmMo hG rfl) rfl rfl in_X8 rfl rfl q1492 rfl dX8_begins_1 ?_
  refine j_iload_n hC 1 dX8_begins_4 rfl ?_
  refine j_iload_n hC 2 dX8_begins_5 rfl ?_
  refine j_iast hC (dmMo hG rfl) rfl dX8_begins_6 (fun h6 => ?_)
  refine j_lt (fun M6 => ?_)
  refine j_aload_n hC 0 dX8_begins_7 rfl ?_
  refine j_getR (fk := 27) hC (dmMo hG rfl) rfl rfl in_X8 rfl rfl q1491 rfl dX8_begins_8 ?_
  refine j_iconst (v := 4) hC dX8_begins_11 (by decide) ?_
  refine j_iload_n hC 1 dX8_begins_12 rfl ?_
  refine j_imul hC dX8_begins_13 ?_
  refine j_aload_n hC 0 dX8_begins_14 rfl ?_
  refine j_getR (fk := 1) hC (dmMo hG rfl) rfl rfl in_X8 rfl rfl q1465 rfl dX8_begins_15 ?_
  refine j_bipush (v := 8) hC dX8_begins_18 (by decide) ?_
  refine j_iald hC (dmMo hG rfl) rfl dX8_begins_20 (fun h20 => ?_)
  refine j_iast hC (dmMo hG rfl) rfl dX8_begins_21 (fun h21 => ?_)
  refine j_lt (fun M21 => ?_)
  refine j_aload_n hC 0 dX8_begins_22 rfl ?_
  refine j_getR (fk := 27) hC (dmMo hG rfl) rfl rfl in_X8 rfl rfl q1491 rfl dX8_begins_23 ?_
  refine j_iconst (v := 4) hC dX8_begins_26 (by decide) ?_
  refine j_iload_n hC 1 dX8_begins_27 rfl ?_
  refine j_imul hC dX8_begins_28 ?_
  refine j_iconst (v := 1) hC dX8_begins_29 (by decide) ?_
  refine j_iadd hC dX8_begins_30 ?_
  refine j_aload_n hC 0 dX8_begins_31 rfl ?_
  refine j_getR (fk := 1) hC (dmMo hG rfl) rfl rfl in_X8 rfl rfl q1465 rfl dX8_begins_32 ?_
  refine j_bipush (v := 7) hC dX8_begins_35 (by decide) ?_
  refine j_iald hC (dmMo hG rfl) rfl dX8_begins_37 (fun h37 => ?_)
  refine j_iast hC (dmMo hG rfl) rfl dX8_begins_38 (fun h38 => ?_)
  refine j_lt (fun M38 => ?_)
  refine j_aload_n hC 0 dX8_begins_39 rfl ?_
  refine j_getR (fk := 27) hC (dmMo hG rfl) rfl rfl in_X8 rfl rfl q1491 rfl dX8_begins_40 ?_
  refine j_iconst (v := 4) hC dX8_begins_43 (by decide) ?_
  refine j_iload_n hC 1 dX8_begins_44 rfl ?_
  refine j_imul hC dX8_begins_45 ?_
  refine j_iconst (v := 2) hC dX8_begins_46 (by decide) ?_
  refine j_iadd hC dX8_begins_47 ?_
  refine j_iconst (v := 1) hC dX8_begins_48 (by decide) ?_
  refine j_iast hC (dmMo hG rfl) rfl dX8_begins_49 (fun h49 => ?_)
  refine j_lt (fun M49 => ?_)
  refine j_aload_n hC 0 dX8_begins_50 rfl ?_
  refine j_getR (fk := 27) hC (dmMo hG rfl) rfl rfl in_X8 rfl rfl q1491 rfl dX8_begins_51 ?_
  refine j_iconst (v := 4) hC dX8_begins_54 (by decide) ?_
  refine j_iload_n hC 1 dX8_begins_55 rfl ?_
  refine j_imul hC dX8_begins_56 ?_
  refine j_iconst (v := 3) hC dX8_begins_57 (by decide) ?_
  refine j_iadd hC dX8_begins_58 ?_
  refine j_iconst (v := 0) hC dX8_begins_59 (by decide) ?_
  refine j_iast hC (dmMo hG rfl) rfl dX8_begins_60 (fun h60 => ?_)
  refine j_lt (fun M60 => ?_)
  exact j_vret hC dX8_begins_61
set_option linter.unusedVariables false in
set_option maxRecDepth 100000 in
theorem mX8_begins (l : Launch) (Γ : xG) (hG : dmI dmM Γ) (fu : Nat) (D : List LDen) (M : Mem) (x1 x2 : Int32) (r : Int32 × Mem) (hr : FX8_begins fu D M x1 x2 = some r) : CN l yX8_begins (ws_ yX8_begins cX8_begins 3 none) 1 12 Γ D [.ref (gadr Γ (5, 0, 0)), .int x1, .int x2] M (foV r.1) r.2 := by
  refine CN.of (own := RX8) (lv0 := lv_args 0 [.ref (gadr Γ (5, 0, 0)), .int x1, .int x2]) (by decide +kernel) rfl (Nat.le_of_ble_eq_true rfl) rfl (fun X e1 e2 e3 e4 hC => ?_) r hr
  subst e1
  subst e2
  exact wX8_begins hC hG e4 fu M x1 x2
set_option linter.unusedVariables false in
set_option maxRecDepth 100000 in
theorem wX8_isFlying_19 {X : JX} (hC : JC X cX8_isFlying RX8 (some .boolean) 1 12 0 0) (hG : dmI dmM (XG X)) (hnl : nLof X = 2) (fu : Nat) (M : Mem) (t0 : Int32) : J X (ZN X foI) (FX8_isFlying_19 fu (XD X) M t0) 19 [] [.int t0] M 0 0 := by
  unfold FX8_isFlying_19
  exact j_zret hC rfl dX8_isFlying_19
set_option linter.unusedVariables false in
set_option maxRecDepth 100000 in
theorem wX8_isFlying {X : JX} (hC : JC X cX8_isFlying RX8 (some .boolean) 1 12 0 0) (hG : dmI dmM (XG X)) (hnl : nLof X = 2) (fu : Nat) (M : Mem) (x1 : Int32) : J X (ZN X foI) (FX8_isFlying fu (XD X) M x1) 0 [(0, .ref (gadr (XG X) (5, 0, 0))), (1, .int x1)] [] M 0 0 := by
  unfold FX8_isFlying
  refine j_aload_n hC 0 dX8_isFlying_0 rfl ?_
  refine j_getR (fk := 27) hC (dmMo hG rfl) rfl rfl in_X8 rfl rfl q1491 rfl dX8_isFlying_1 ?_
  refine j_iconst (v := 4) hC dX8_isFlying_4 (by decide) ?_
  refine j_iload_n hC 1 dX8_isFlying_5 rfl ?_
  refine j_imul hC dX8_isFlying_6 ?_
  refine j_iconst (v := 2) hC dX8_isFlying_7 (by decide) ?_
  refine j_iadd hC dX8_isFlying_8 ?_
  refine j_iald hC (dmMo hG rfl) rfl dX8_isFlying_9 (fun h9 => ?_)
  refine j_iconst (v := 1) hC dX8_isFlying_10 (by decide) ?_
  refine j_icmp_ne (tgt := 18) hC dX8_isFlying_11 (by decide) (fun h11 => ?_) (fun h11 => ?_)
  · refine j_iconst (v := 1) hC dX8_isFlying_14 (by decide) ?_
    refine j_goto (tgt := 19) hC dX8_isFlying_15 (by decide) ?_
    exact j_sub [] rfl (wX8_isFlying_19 hC hG hnl fu M 1)
  · refine j_iconst (v := 0) hC dX8_isFlying_18 (by decide) ?_
    exact j_sub [] rfl (wX8_isFlying_19 hC hG hnl fu M 0)
set_option linter.unusedVariables false in
set_option maxRecDepth 100000 in
theorem mX8_isFlying (l : Launch) (Γ : xG) (hG : dmI dmM Γ) (fu : Nat) (D : List LDen) (M : Mem) (x1 : Int32) (r : Int32 × Mem) (hr : FX8_isFlying fu D M x1 = some r) : CN l yX8_isFlying (ws_ yX8_isFlying cX8_isFlying 2 (some .boolean)) 1 12 Γ D [.ref (gadr Γ (5, 0, 0)), .int x1] M (foI r.1) r.2 := by
  refine CN.of (own := RX8) (lv0 := lv_args 0 [.ref (gadr Γ (5, 0, 0)), .int x1]) (by decide +kernel) rfl (Nat.le_of_ble_eq_true rfl) rfl (fun X e1 e2 e3 e4 hC => ?_) r hr
  subst e1
  subst e2
  exact wX8_isFlying hC hG e4 fu M x1
set_option linter.unusedVariables false in
set_option maxRecDepth 100000 in
theorem wX8_breathes_141 {X : JX} (hC : JC X cX8_breathes RX8 none 7 149 0 0) (hG : dmI dmM (XG X)) (hnl : nLof X = 6) (fu : Nat) (M : Mem) (t0 t1 : Int32) : J X (ZN X foV) (FX8_breathes_141 fu (XD X) M t0 t1) 141 [] [.int t0, .int t1, .ref (gadr (XG X) (5, 0, 12))] M 0 0 := by
  unfold FX8_breathes_141
  refine j_iast hC (dmMo hG rfl) rfl dX8_breathes_141 (fun h141 => ?_)
  refine j_lt (fun M141 => ?_)
  exact j_vret hC dX8_breathes_142
set_option linter.unusedVariables false in
set_option maxRecDepth 100000 in
theorem wX8_breathes_140 {X : JX} (hC : JC X cX8_breathes RX8 none 7 149 0 0) (hG : dmI dmM (XG X)) (hnl : nLof X = 6) (fu : Nat) (M : Mem) (t0 : Int32) : J X (ZN X foV) (FX8_breathes_140 fu (XD X) M t0) 140 [] [.int t0, .ref (gadr (XG X) (5, 0, 12))] M 0 0 := by
  unfold FX8_breathes_140
  refine j_iconst (v := 0) hC dX8_breathes_140 (by decide) ?_
  exact j_sub [] rfl (wX8_breathes_141 hC hG hnl fu M 0 t0)
set_option linter.unusedVariables false in
set_option maxRecDepth 100000 in
theorem wX8_breathes_97 {X : JX} (hC : JC X cX8_breathes RX8 none 7 149 0 0) (hG : dmI dmM (XG X)) (hnl : nLof X = 6) (fu : Nat) (M : Mem) (x1 x3 x5 : Int32) : J X (ZN X foV) (FX8_breathes_97 fu (XD X) M x1 x3 x5) 97 [(0, .ref (gadr (XG X) (5, 0, 0))), (1, .int x1), (3, .int x3), (5, .int x5)] [] M 0 0 := by
  unfold FX8_breathes_97
  refine j_aload_n hC 0 dX8_breathes_97 rfl ?_
  refine j_getR (fk := 27) hC (dmMo hG rfl) rfl rfl in_X8 rfl rfl q1491 rfl dX8_breathes_98 ?_
  refine j_iconst (v := 4) hC dX8_breathes_101 (by decide) ?_
  refine j_iload_n hC 1 dX8_breathes_102 rfl ?_
  refine j_imul hC dX8_breathes_103 ?_
  refine j_iconst (v := 2) hC dX8_breathes_104 (by decide) ?_
  refine j_iadd hC dX8_breathes_105 ?_
  refine j_iconst (v := 0) hC dX8_breathes_106 (by decide) ?_
  refine j_iast hC (dmMo hG rfl) rfl dX8_breathes_107 (fun h107 => ?_)
  refine j_lt (fun M107 => ?_)
  refine j_aload_n hC 0 dX8_breathes_108 rfl ?_
  refine j_getR (fk := 27) hC (dmMo hG rfl) rfl rfl in_X8 rfl rfl q1491 rfl dX8_breathes_109 ?_
  refine j_iconst (v := 4) hC dX8_breathes_112 (by decide) ?_
  refine j_iload_n hC 1 dX8_breathes_113 rfl ?_
  refine j_imul hC dX8_breathes_114 ?_
  refine j_iconst (v := 3) hC dX8_breathes_115 (by decide) ?_
  refine j_iadd hC dX8_breathes_116 ?_
  refine j_iload hC 3 dX8_breathes_117 rfl ?_
  refine j_callS (nA := 1) (rest := [.int ((4 * x1) + 3), .ref (gadr (XG X) (5, 0, 12))]) hC [.int x5] rfl (fun r hr => mX8_noColumn (XL X) (XG X) hG fu (XD X) M107 x5 r hr) q1767 q1768 q136 q1769 (by decide +kernel) rfl rfl rfl rfl rfl rfl dX8_breathes_119 (fun v119 => [.int v119, .int ((4 * x1) + 3), .ref (gadr (XG X) (5, 0, 12))]) (fun _ => rfl) (fun v119 M119 => ?_)
  refine j_if_ne (tgt := 140) hC dX8_breathes_122 (by decide) (fun h122 => ?_) (fun h122 => ?_)
  · refine j_aload_n hC 0 dX8_breathes_125 rfl ?_
    refine j_iload hC 3 dX8_breathes_126 rfl ?_
    refine j_callV (nA := 1) (rest := [.int ((4 * x1) + 3), .ref (gadr (XG X) (5, 0, 12))]) hC [.int x5] rfl (fun r hr => mX8_isOver (XL X) (XG X) hG fu (XD X) M119 x5 r hr) q1794 q1796 qs84 q136 q1797 (dmMo hG rfl) rfl rfl (by decide +kernel) rfl rfl rfl rfl rfl rfl dX8_breathes_128 (fun v128 => [.int v128, .int ((4 * x1) + 3), .ref (gadr (XG X) (5, 0, 12))]) (fun _ => rfl) (fun v128 M128 => ?_)
    refine j_if_eq (tgt := 140) hC dX8_breathes_131 (by decide) (fun h131 => ?_) (fun h131 => ?_)
    · exact j_sub [] rfl (wX8_breathes_140 hC hG hnl fu M128 ((4 * x1) + 3))
    · refine j_iload_n hC 2 dX8_breathes_134 rfl ?_
      refine j_iconst (v := 1) hC dX8_breathes_135 (by decide) ?_
      refine j_iadd hC dX8_breathes_136 ?_
      refine j_goto (tgt := 141) hC dX8_breathes_137 (by decide) ?_
      exact j_sub [] rfl (wX8_breathes_141 hC hG hnl fu M128 (x3 + 1) ((4 * x1) + 3))
  · exact j_sub [] rfl (wX8_breathes_140 hC hG hnl fu M119 ((4 * x1) + 3))
set_option linter.unusedVariables false in
set_option maxRecDepth 100000 in
theorem wX8_breathes {X : JX} (hC : JC X cX8_breathes RX8 none 7 149 0 0) (hG : dmI dmM (XG X)) (hnl : nLof X = 6) (fu : Nat) (M : Mem) (x1 x2 x3 : Int32) : J X (ZN X foV) (FX8_breathes fu (XD X) M x1 x2 x3) 0 [(0, .ref (gadr (XG X) (5, 0, 0))), (1, .int x1), (2, .int x2), (3, .int x3)] [] M 0 0 := by
  unfold FX8_breathes
  refine j_aload_n hC 0 dX8_breathes_0 rfl ?_
  refine j_aload_n hC 0 dX8_breathes_1 rfl ?_
  refine j_getR (fk := 28) hC (dmMo hG rfl) rfl rfl in_X8 rfl rfl q1492 rfl dX8_breathes_2 ?_
  refine j_iload_n hC 1 dX8_breathes_5 rfl ?_
  refine j_iald hC (dmMo hG rfl) rfl dX8_breathes_6 (fun h6 => ?_)
  refine j_aload_n hC 0 dX8_breathes_7 rfl ?_
  refine j_getR (fk := 27) hC (dmMo hG rfl) rfl rfl in_X8 rfl rfl q1491 rfl dX8_breathes_8 ?_
  refine j_iconst (v := 4) hC dX8_breathes_11 (by decide) ?_
  refine j_iload_n hC 1 dX8_breathes_12 rfl ?_
  refine j_imul hC dX8_breathes_13 ?_
  refine j_iald hC (dmMo hG rfl) rfl dX8_breathes_14 (fun h14 => ?_)
  refine j_aload_n hC 0 dX8_breathes_15 rfl ?_
  refine j_getR (fk := 27) hC (dmMo hG rfl) rfl rfl in_X8 rfl rfl q1491 rfl dX8_breathes_16 ?_
  refine j_iconst (v := 4) hC dX8_breathes_19 (by decide) ?_
  refine j_iload_n hC 1 dX8_breathes_20 rfl ?_
  refine j_imul hC dX8_breathes_21 ?_
  refine j_iconst (v := 1) hC dX8_breathes_22 (by decide) ?_
  refine j_iadd hC dX8_breathes_23 ?_
  refine j_iald hC (dmMo hG rfl) rfl dX8_breathes_24 (fun h24 => ?_)
  refine j_iload_n hC 3 dX8_breathes_25 rfl ?_
  refine j_callV (nA := 4) (rest := []) hC [.int (M (5, 0, 13) x1.toNatClampNeg), .int (M (5, 0, 12) ((4 * x1).toNatClampNeg)), .int (M (5, 0, 12) (((4 * x1) + 1).toNatClampNeg)), .int x3] rfl (fun r hr => mX8_looks (XL X) (XG X) hG fu (XD X) M (M (5, 0, 13) x1.toNatClampNeg) (M (5, 0, 12) ((4 * x1).toNatClampNeg)) (M (5, 0, 12) (((4 * x1) + 1).toNatClampNeg)) x3 r hr) q1770 q1772 qs78 q136 q1773 (dmMo hG rfl) rfl rfl (by decide +kernel) rfl rfl rfl rfl rfl rfl dX8_breathes_26 (fun _ => []) (fun _ => rfl) (fun v26 M26 => ?_)
  refine j_aload_n hC 0 dX8_breathes_29 rfl ?_
  refine j_getI (fk := 19) hC (dmMo hG rfl) rfl rfl in_X8 rfl rfl q1483 rfl dX8_breathes_30 ?_
  refine j_aload_n hC 0 dX8_breathes_33 rfl ?_
  refine j_callV (nA := 0) (rest := [.int (M26 (5, 0, 0) 19)]) hC [] rfl (fun r hr => mX8_sinks (XL X) (XG X) hG fu (XD X) M26 r hr) q1798 q1800 qs85 q136 q1801 (dmMo hG rfl) rfl rfl (by decide +kernel) rfl rfl rfl rfl rfl rfl dX8_breathes_34 (fun v34 => [.int v34, .int (M26 (5, 0, 0) 19)]) (fun _ => rfl) (fun v34 M34 => ?_)
  refine j_isub hC dX8_breathes_37 ?_
  refine j_ltT (fun y38 => ?_)
  refine j_istore hC [(4, .int y38), (0, .ref (gadr (XG X) (5, 0, 0))), (1, .int x1), (2, .int x2), (3, .int x3)] hnl dX8_breathes_38 rfl rfl ?_
  refine j_aload_n hC 1 dX8_breathes_40 rfl ?_
  refine j_getI (fk := 20) hC (dmMo hG rfl) rfl rfl in_X8 rfl rfl q1484 rfl dX8_breathes_41 ?_
  refine j_aload_n hC 1 dX8_breathes_44 rfl ?_
  refine j_callV (nA := 0) (rest := [.int (M34 (5, 0, 0) 20)]) hC [] rfl (fun r hr => mX8_carries (XL X) (XG X) hG fu (XD X) M34 r hr) q1774 q1776 qs79 q136 q1777 (dmMo hG rfl) rfl rfl (by decide +kernel) rfl rfl rfl rfl rfl rfl dX8_breathes_45 (fun v45 => [.int v45, .int (M34 (5, 0, 0) 20)]) (fun _ => rfl) (fun v45 M45 => ?_)
  refine j_iadd hC dX8_breathes_48 ?_
  refine j_aload_n hC 1 dX8_breathes_49 rfl ?_
  refine j_aload_n hC 1 dX8_breathes_50 rfl ?_
  refine j_getI (fk := 18) hC (dmMo hG rfl) rfl rfl in_X8 rfl rfl q1482 rfl dX8_breathes_51 ?_
  refine j_iload_n hC 3 dX8_breathes_54 rfl ?_
  refine j_callV (nA := 2) (rest := [.int ((M34 (5, 0, 0) 20) + v45)]) hC [.int (M45 (5, 0, 0) 18), .int x2] rfl (fun r hr => mX8_driftOf (XL X) (XG X) hG fu (XD X) M45 (M45 (5, 0, 0) 18) x2 r hr) q1819 q1821 qs88 q136 q1822 (dmMo hG rfl) rfl rfl (by decide +kernel) rfl rfl rfl rfl rfl rfl dX8_breathes_55 (fun v55 => [.int v55, .int ((M34 (5, 0, 0) 20) + v45)]) (fun _ => rfl) (fun v55 M55 => ?_)
  refine j_iadd hC dX8_breathes_58 ?_
  refine j_ltT (fun y59 => ?_)
  refine j_istore hC [(5, .int y59), (4, .int y38), (0, .ref (gadr (XG X) (5, 0, 0))), (1, .int x1), (2, .int x2), (3, .int x3)] hnl dX8_breathes_59 rfl rfl ?_
  refine j_aload_n hC 2 dX8_breathes_61 rfl ?_
  refine j_getR (fk := 27) hC (dmMo hG rfl) rfl rfl in_X8 rfl rfl q1491 rfl dX8_breathes_62 ?_
  refine j_iconst (v := 4) hC dX8_breathes_65 (by decide) ?_
  refine j_iload_n hC 3 dX8_breathes_66 rfl ?_
  refine j_imul hC dX8_breathes_67 ?_
  refine j_iload hC 1 dX8_breathes_68 rfl ?_
  refine j_iast hC (dmMo hG rfl) rfl dX8_breathes_70 (fun h70 => ?_)
  refine j_lt (fun M70 => ?_)
  refine j_aload_n hC 2 dX8_breathes_71 rfl ?_
  refine j_getR (fk := 27) hC (dmMo hG rfl) rfl rfl in_X8 rfl rfl q1491 rfl dX8_breathes_72 ?_
  refine j_iconst (v := 4) hC dX8_breathes_75 (by decide) ?_
  refine j_iload_n hC 3 dX8_breathes_76 rfl ?_
  refine j_imul hC dX8_breathes_77 ?_
  refine j_iconst (v := 1) hC dX8_breathes_78 (by decide) ?_
  refine j_iadd hC dX8_breathes_79 ?_
  refine j_iload hC 0 dX8_breathes_80 rfl ?_
  refine j_iast hC (dmMo hG rfl) rfl dX8_breathes_82 (fun h82 => ?_)
  refine j_lt (fun M82 => ?_)
  refine j_iload hC 0 dX8_breathes_83 rfl ?_
  refine j_callS (nA := 1) (rest := []) hC [.int y59] rfl (fun r hr => mX8_noColumn (XL X) (XG X) hG fu (XD X) M82 y59 r hr) q1767 q1768 q136 q1769 (by decide +kernel) rfl rfl rfl rfl rfl rfl dX8_breathes_85 (fun v85 => [.int v85]) (fun _ => rfl) (fun v85 M85 => ?_)
  refine j_if_ne (tgt := 97) hC dX8_breathes_88 (by decide) (fun h88 => ?_) (fun h88 => ?_)
  · refine j_iload hC 1 dX8_breathes_91 rfl ?_
    refine j_if_le (tgt := 97) hC dX8_breathes_93 (by decide) (fun h93 => ?_) (fun h93 => ?_)
    · exact j_sub [2, 3, 5, 0] rfl (wX8_breathes_97 hC hG hnl fu M85 x1 x3 y59)
    · exact j_vret hC dX8_breathes_96
  · exact j_sub [2, 3, 5, 0] rfl (wX8_breathes_97 hC hG hnl fu M85 x1 x3 y59)
set_option linter.unusedVariables false in
set_option maxRecDepth 100000 in
theorem mX8_breathes (l : Launch) (Γ : xG) (hG : dmI dmM Γ) (fu : Nat) (D : List LDen) (M : Mem) (x1 x2 x3 : Int32) (r : Int32 × Mem) (hr : FX8_breathes fu D M x1 x2 x3 = some r) : CN l yX8_breathes (ws_ yX8_breathes cX8_breathes 6 none) 7 149 Γ D [.ref (gadr Γ (5, 0, 0)), .int x1, .int x2, .int x3] M (foV r.1) r.2 := by
  refine CN.of (own := RX8) (lv0 := lv_args 0 [.ref (gadr Γ (5, 0, 0)), .int x1, .int x2, .int x3]) (by decide +kernel) rfl (Nat.le_of_ble_eq_true rfl) rfl (fun X e1 e2 e3 e4 hC => ?_) r hr
  subst e1
  subst e2
  exact wX8_breathes hC hG e4 fu M x1 x2 x3
set_option linter.unusedVariables false in
set_option maxRecDepth 100000 in
theorem wX8_straight_75 {X : JX} (hC : JC X cX8_straight RX8 (some .int) 8 174 0 0) (hG : dmI dmM (XG X)) (hnl : nLof X = 4) (fu : Nat) (M : Mem) : J X (ZN X foI) (FX8_straight_75 fu (XD X) M) 75 [] [] M 0 0 := by
  unfold FX8_straight_75
  refine j_iconst (v := (-1)) hC dX8_straight_75 (by decide) ?_
  exact j_iret hC dX8_straight_76
set_option linter.unusedVariables false in
set_option maxRecDepth 100000 in
theorem wX8_straight_91 {X : JX} (hC : JC X cX8_straight RX8 (some .int) 8 174 0 0) (hG : dmI dmM (XG X)) (hnl : nLof X = 4) (fu : Nat) (M : Mem) (t0 : Int32) : J X (ZN X foI) (FX8_straight_91 fu (XD X) M t0) 91 [] [.int t0] M 0 0 := by
  unfold FX8_straight_91
  exact j_iret hC dX8_straight_91
set_option linter.unusedVariables false in
set_option maxRecDepth 100000 in
theorem wX8_straight_55 {X : JX} (hC : JC X cX8_straight RX8 (some .int) 8 174 0 0) (hG : dmI dmM (XG X)) (hnl : nLof X = 4) (fu : Nat) (M : Mem) (x2 x3 : Int32) : J X (ZN X foI) (FX8_straight_55 fu (XD X) M x2 x3) 55 [(0, .ref (gadr (XG X) (5, 0, 0))), (2, .int x2), (3, .int x3)] [] M 0 0 := by
  unfold FX8_straight_55
  refine j_aload_n hC 0 dX8_straight_55 rfl ?_
  refine j_iconst (v := 0) hC dX8_straight_56 (by decide) ?_
  refine j_callV (nA := 1) (rest := []) hC [.int 0] rfl (fun r hr => mX8_isFlying (XL X) (XG X) hG fu (XD X) M 0 r hr) q1862 q1864 qs93 q136 q1865 (dmMo hG rfl) rfl rfl (by decide +kernel) rfl rfl rfl rfl rfl rfl dX8_straight_57 (fun v57 => [.int v57]) (fun _ => rfl) (fun v57 M57 => ?_)
  refine j_if_ne (tgt := 75) hC dX8_straight_60 (by decide) (fun h60 => ?_) (fun h60 => ?_)
  · refine j_aload_n hC 0 dX8_straight_63 rfl ?_
    refine j_getR (fk := 27) hC (dmMo hG rfl) rfl rfl in_X8 rfl rfl q1491 rfl dX8_straight_64 ?_
    refine j_iconst (v := 1) hC dX8_straight_67 (by decide) ?_
    refine j_iald hC (dmMo hG rfl) rfl dX8_straight_68 (fun h68 => ?_)
    refine j_callS (nA := 1) (rest := []) hC [.int (M57 (5, 0, 12) 1)] rfl (fun r hr => mX8_noColumn (XL X) (XG X) hG fu (XD X) M57 (M57 (5, 0, 12) 1) r hr) q1767 q1768 q136 q1769 (by decide +kernel) rfl rfl rfl rfl rfl rfl dX8_straight_69 (fun v69 => [.int v69]) (fun _ => rfl) (fun v69 M69 => ?_)
    refine j_if_eq (tgt := 77) hC dX8_straight_72 (by decide) (fun h72 => ?_) (fun h72 => ?_)
    · refine j_iload_n hC 1 dX8_straight_77 rfl ?_
      refine j_if_eq (tgt := 85) hC dX8_straight_78 (by decide) (fun h78 => ?_) (fun h78 => ?_)
      · refine j_aload_n hC 0 dX8_straight_85 rfl ?_
        refine j_getR (fk := 27) hC (dmMo hG rfl) rfl rfl in_X8 rfl rfl q1491 rfl dX8_straight_86 ?_
        refine j_iconst (v := 1) hC dX8_straight_89 (by decide) ?_
        refine j_iald hC (dmMo hG rfl) rfl dX8_straight_90 (fun h90 => ?_)
        exact j_sub [] rfl (wX8_straight_91 hC hG hnl fu M69 (M69 (5, 0, 12) 1))
      · refine j_iload_n hC 2 dX8_straight_81 rfl ?_
        refine j_goto (tgt := 91) hC dX8_straight_82 (by decide) ?_
        exact j_sub [] rfl (wX8_straight_91 hC hG hnl fu M69 x3)
    · exact j_sub [] rfl (wX8_straight_75 hC hG hnl fu M69)
  · exact j_sub [] rfl (wX8_straight_75 hC hG hnl fu M57)
set_option linter.unusedVariables false in
set_option maxRecDepth 100000 in
theorem wgX8_straight_28 {X : JX} (hC : JC X cX8_straight RX8 (some .int) 8 174 0 0) (hG : dmI dmM (XG X)) (hnl : nLof X = 4) (fu : Nat) (kn28 : Mem × Int32 × Int32 → Option (Int32 × Mem)) (hk28 : ∀ (M : Mem) (x2 x3 : Int32), J X (ZN X foI) (kn28 (M, x2, x3)) 28 [(0, .ref (gadr (XG X) (5, 0, 0))), (2, .int x2), (3, .int x3)] [] M 0 0) (M : Mem) (x2 x3 : Int32) : J X (ZN X foI) (GX8_straight_28 fu (XD X) kn28 M x2 x3) 28 [(0, .ref (gadr (XG X) (5, 0, 0))), (2, .int x2), (3, .int x3)] [] M 0 0 := by
  unfold GX8_straight_28
  refine j_iload_n hC 2 dX8_straight_28 rfl ?_
  refine j_bipush (v := 8) hC dX8_straight_29 (by decide) ?_
  refine j_icmp_ge (tgt := 55) hC dX8_straight_31 (by decide) (fun h31 => ?_) (fun h31 => ?_)
  · exact j_sub [0, 1, 2] rfl (wX8_straight_55 hC hG hnl fu M x2 x3)
  · refine j_aload_n hC 0 dX8_straight_34 rfl ?_
    refine j_iconst (v := 0) hC dX8_straight_35 (by decide) ?_
    refine j_callV (nA := 1) (rest := []) hC [.int 0] rfl (fun r hr => mX8_isFlying (XL X) (XG X) hG fu (XD X) M 0 r hr) q1862 q1864 qs93 q136 q1865 (dmMo hG rfl) rfl rfl (by decide +kernel) rfl rfl rfl rfl rfl rfl dX8_straight_36 (fun v36 => [.int v36]) (fun _ => rfl) (fun v36 M36 => ?_)
    refine j_if_eq (tgt := 55) hC dX8_straight_39 (by decide) (fun h39 => ?_) (fun h39 => ?_)
    · exact j_sub [0, 1, 2] rfl (wX8_straight_55 hC hG hnl fu M36 x2 x3)
    · refine j_aload_n hC 0 dX8_straight_42 rfl ?_
      refine j_iconst (v := 0) hC dX8_straight_43 (by decide) ?_
      refine j_iconst (v := 0) hC dX8_straight_44 (by decide) ?_
      refine j_iload_n hC 2 dX8_straight_45 rfl ?_
      refine j_callV (nA := 3) (rest := []) hC [.int 0, .int 0, .int x3] rfl (fun r hr => mX8_breathes (XL X) (XG X) hG fu (XD X) M36 0 0 x3 r hr) q1866 q1868 qs94 q136 q1869 (dmMo hG rfl) rfl rfl (by decide +kernel) rfl rfl rfl rfl rfl rfl dX8_straight_46 (fun _ => []) (fun _ => rfl) (fun v46 M46 => ?_)
      refine j_iincL hC 2 (fun y49 => [(3, .int y49), (0, .ref (gadr (XG X) (5, 0, 0))), (2, .int x2)]) hnl dX8_straight_49 rfl (by decide) rfl (fun _ => rfl) (fun y49 => ?_)
      refine j_goto (tgt := 28) hC dX8_straight_52 (by decide) ?_
      exact j_sub [1, 2, 0] rfl (hk28 M46 x2 y49)
set_option linter.unusedVariables false in
set_option maxRecDepth 100000 in
theorem wX8_straight_28 {X : JX} (hC : JC X cX8_straight RX8 (some .int) 8 174 0 0) (hG : dmI dmM (XG X)) (hnl : nLof X = 4) (fu : Nat) (M : Mem) (x2 x3 : Int32) : J X (ZN X foI) (FX8_straight_28 fu (XD X) M x2 x3) 28 [(0, .ref (gadr (XG X) (5, 0, 0))), (2, .int x2), (3, .int x3)] [] M 0 0 := by
  exact j_lp (lvf := fun z => [(0, .ref (gadr (XG X) (5, 0, 0))), (2, .int (z.2.1)), (3, .int (z.2.2))]) (Mf := fun z => z.1) (fun kn hk z => wgX8_straight_28 hC hG hnl fu kn (fun M x2 x3 => hk (M, x2, x3)) z.1 z.2.1 z.2.2) fu (M, x2, x3)
set_option linter.unusedVariables false in
set_option maxRecDepth 100000 in
theorem wX8_straight {X : JX} (hC : JC X cX8_straight RX8 (some .int) 8 174 0 0) (hG : dmI dmM (XG X)) (hnl : nLof X = 4) (fu : Nat) (M : Mem) (x1 x2 : Int32) : J X (ZN X foI) (FX8_straight fu (XD X) M x1 x2) 0 [(0, .ref (gadr (XG X) (5, 0, 0))), (1, .int x1), (2, .int x2)] [] M 0 0 := by
  unfold FX8_straight
  refine j_aload_n hC 0 dX8_straight_0 rfl ?_
  refine j_iconst (v := 0) hC dX8_straight_1 (by decide) ?_
  refine j_put (fk := 0) (ty := .int) hC (dmMo hG rfl) rfl rfl in_X8 rfl rfl q1464 tyX8 tyX8_ok nmX8 rfl rfl (by decide +kernel) rfl rfl dX8_straight_2 ?_
  refine j_lt (fun M2 => ?_)
  refine j_aload_n hC 0 dX8_straight_5 rfl ?_
  refine j_aload_n hC 0 dX8_straight_6 rfl ?_
  refine j_iload_n hC 1 dX8_straight_7 rfl ?_
  refine j_callV (nA := 1) (rest := [.ref (gadr (XG X) (5, 0, 0))]) hC [.int x1] rfl (fun r hr => mX8_noBird (XL X) (XG X) hG fu (XD X) M2 x1 r hr) q1760 q1762 qs77 q136 q1763 (dmMo hG rfl) rfl rfl (by decide +kernel) rfl rfl rfl rfl rfl rfl dX8_straight_8 (fun v8 => [.int v8, .ref (gadr (XG X) (5, 0, 0))]) (fun _ => rfl) (fun v8 M8 => ?_)
  refine j_iconst (v := 1) hC dX8_straight_11 (by decide) ?_
  refine j_callV (nA := 2) (rest := []) hC [.int v8, .int 1] rfl (fun r hr => mX8_throwsIf (XL X) (XG X) hG fu (XD X) M8 v8 1 r hr) q1748 q1750 qs76 q136 q1751 (dmMo hG rfl) rfl rfl (by decide +kernel) rfl rfl rfl rfl rfl rfl dX8_straight_12 (fun v12 => [.int v12]) (fun _ => rfl) (fun v12 M12 => ?_)
  refine j_if_eq (tgt := 20) hC dX8_straight_15 (by decide) (fun h15 => ?_) (fun h15 => ?_)
  · refine j_aload_n hC 0 dX8_straight_20 rfl ?_
    refine j_iconst (v := 0) hC dX8_straight_21 (by decide) ?_
    refine j_iload_n hC 1 dX8_straight_22 rfl ?_
    refine j_callV (nA := 2) (rest := []) hC [.int 0, .int x1] rfl (fun r hr => mX8_begins (XL X) (XG X) hG fu (XD X) M12 0 x1 r hr) q1858 q1860 qs92 q136 q1861 (dmMo hG rfl) rfl rfl (by decide +kernel) rfl rfl rfl rfl rfl rfl dX8_straight_23 (fun _ => []) (fun _ => rfl) (fun v23 M23 => ?_)
    refine j_iconst (v := 0) hC dX8_straight_26 (by decide) ?_
    refine j_istore_n hC [(3, .int 0), (0, .ref (gadr (XG X) (5, 0, 0))), (1, .int x1), (2, .int x2)] hnl dX8_straight_27 rfl rfl ?_
    exact j_sub [1, 3, 0] rfl (wX8_straight_28 hC hG hnl fu M23 x2 0)
  · refine j_iconst (v := 0) hC dX8_straight_18 (by decide) ?_
    exact j_iret hC dX8_straight_19
set_option linter.unusedVariables false in
set_option maxRecDepth 100000 in
theorem mX8_straight (l : Launch) (Γ : xG) (hG : dmI dmM Γ) (fu : Nat) (D : List LDen) (M : Mem) (x1 x2 : Int32) (r : Int32 × Mem) (hr : FX8_straight fu D M x1 x2 = some r) : CN l yX8_straight (ws_ yX8_straight cX8_straight 4 (some .int)) 8 174 Γ D [.ref (gadr Γ (5, 0, 0)), .int x1, .int x2] M (foI r.1) r.2 := by
  refine CN.of (own := RX8) (lv0 := lv_args 0 [.ref (gadr Γ (5, 0, 0)), .int x1, .int x2]) (by decide +kernel) rfl (Nat.le_of_ble_eq_true rfl) rfl (fun X e1 e2 e3 e4 hC => ?_) r hr
  subst e1
  subst e2
  exact wX8_straight hC hG e4 fu M x1 x2
set_option linter.unusedVariables false in
set_option maxRecDepth 100000 in
theorem wgX8_laysGoods_7 {X : JX} (hC : JC X cX8_laysGoods RX8 none 9 201 0 0) (hG : dmI dmM (XG X)) (hnl : nLof X = 3) (fu : Nat) (kn7 : Mem × Int32 × Int32 → Option (Int32 × Mem)) (hk7 : ∀ (M : Mem) (x1 x2 : Int32), J X (ZN X foV) (kn7 (M, x1, x2)) 7 [(0, .ref (gadr (XG X) (5, 0, 0))), (1, .int x1), (2, .int x2)] [] M 0 0) (M : Mem) (x1 x2 : Int32) : J X (ZN X foV) (GX8_laysGoods_7 fu (XD X) kn7 M x1 x2) 7 [(0, .ref (gadr (XG X) (5, 0, 0))), (1, .int x1), (2, .int x2)] [] M 0 0 := by
  unfold GX8_laysGoods_7
  refine j_iload_n hC 2 dX8_laysGoods_7 rfl ?_
  refine j_bipush (v := 8) hC dX8_laysGoods_8 (by decide) ?_
  refine j_icmp_gt (tgt := 35) hC dX8_laysGoods_10 (by decide) (fun h10 => ?_) (fun h10 => ?_)
  · exact j_vret hC dX8_laysGoods_35
  · refine j_aload_n hC 0 dX8_laysGoods_13 rfl ?_
    refine j_getR (fk := 29) hC (dmMo hG rfl) rfl rfl in_X8 rfl rfl q1493 rfl dX8_laysGoods_14 ?_
    refine j_bipush (v := 9) hC dX8_laysGoods_17 (by decide) ?_
    refine j_iload_n hC 1 dX8_laysGoods_19 rfl ?_
    refine j_imul hC dX8_laysGoods_20 ?_
    refine j_iload_n hC 2 dX8_laysGoods_21 rfl ?_
    refine j_iadd hC dX8_laysGoods_22 ?_
    refine j_aload_n hC 0 dX8_laysGoods_23 rfl ?_
    refine j_iload_n hC 2 dX8_laysGoods_24 rfl ?_
    refine j_callV (nA := 1) (rest := [.int ((9 * x1) + x2), .ref (gadr (XG X) (5, 0, 14))]) hC [.int x2] rfl (fun r hr => mX8_goodAt (XL X) (XG X) hG fu (XD X) M x2 r hr) q1830 q1832 qs90 q136 q1833 (dmMo hG rfl) rfl rfl (by decide +kernel) rfl rfl rfl rfl rfl rfl dX8_laysGoods_25 (fun v25 => [.int v25, .int ((9 * x1) + x2), .ref (gadr (XG X) (5, 0, 14))]) (fun _ => rfl) (fun v25 M25 => ?_)
    refine j_iast hC (dmMo hG rfl) rfl dX8_laysGoods_28 (fun h28 => ?_)
    refine j_lt (fun M28 => ?_)
    refine j_iincL hC 2 (fun y29 => [(2, .int y29), (0, .ref (gadr (XG X) (5, 0, 0))), (1, .int x1)]) hnl dX8_laysGoods_29 rfl (by decide) rfl (fun _ => rfl) (fun y29 => ?_)
    refine j_goto (tgt := 7) hC dX8_laysGoods_32 (by decide) ?_
    exact j_sub [1, 2, 0] rfl (hk7 M28 x1 y29)
set_option linter.unusedVariables false in
set_option maxRecDepth 100000 in
theorem wX8_laysGoods_7 {X : JX} (hC : JC X cX8_laysGoods RX8 none 9 201 0 0) (hG : dmI dmM (XG X)) (hnl : nLof X = 3) (fu : Nat) (M : Mem) (x1 x2 : Int32) : J X (ZN X foV) (FX8_laysGoods_7 fu (XD X) M x1 x2) 7 [(0, .ref (gadr (XG X) (5, 0, 0))), (1, .int x1), (2, .int x2)] [] M 0 0 := by
  exact j_lp (lvf := fun z => [(0, .ref (gadr (XG X) (5, 0, 0))), (1, .int (z.2.1)), (2, .int (z.2.2))]) (Mf := fun z => z.1) (fun kn hk z => wgX8_laysGoods_7 hC hG hnl fu kn (fun M x1 x2 => hk (M, x1, x2)) z.1 z.2.1 z.2.2) fu (M, x1, x2)
set_option linter.unusedVariables false in
set_option maxRecDepth 100000 in
theorem wX8_laysGoods {X : JX} (hC : JC X cX8_laysGoods RX8 none 9 201 0 0) (hG : dmI dmM (XG X)) (hnl : nLof X = 3) (fu : Nat) (M : Mem) (x1 : Int32) : J X (ZN X foV) (FX8_laysGoods fu (XD X) M x1) 0 [(0, .ref (gadr (XG X) (5, 0, 0))), (1, .int x1)] [] M 0 0 := by
  unfold FX8_laysGoods
  refine j_aload_n hC 0 dX8_laysGoods_0 rfl ?_
  refine j_iload_n hC 1 dX8_laysGoods_1 rfl ?_
  refine j_callV (nA := 1) (rest := []) hC [.int x1] rfl (fun r hr => mX8_laysWays (XL X) (XG X) hG fu (XD X) M x1 r hr) q1808 q1810 qs86 q136 q1811 (dmMo hG rfl) rfl rfl (by decide +kernel) rfl rfl rfl rfl rfl rfl dX8_laysGoods_2 (fun _ => []) (fun _ => rfl) (fun v2 M2 => ?_)
  refine j_iconst (v := 1) hC dX8_laysGoods_5 (by decide) ?_
  refine j_istore_n hC [(2, .int 1), (0, .ref (gadr (XG X) (5, 0, 0))), (1, .int x1)] hnl dX8_laysGoods_6 rfl rfl ?_
  exact j_sub [1, 2, 0] rfl (wX8_laysGoods_7 hC hG hnl fu M2 x1 1)
set_option linter.unusedVariables false in
set_option maxRecDepth 100000 in
theorem mX8_laysGoods (l : Launch) (Γ : xG) (hG : dmI dmM Γ) (fu : Nat) (D : List LDen) (M : Mem) (x1 : Int32) (r : Int32 × Mem) (hr : FX8_laysGoods fu D M x1 = some r) : CN l yX8_laysGoods (ws_ yX8_laysGoods cX8_laysGoods 3 none) 9 201 Γ D [.ref (gadr Γ (5, 0, 0)), .int x1] M (foV r.1) r.2 := by
  refine CN.of (own := RX8) (lv0 := lv_args 0 [.ref (gadr Γ (5, 0, 0)), .int x1]) (by decide +kernel) rfl (Nat.le_of_ble_eq_true rfl) rfl (fun X e1 e2 e3 e4 hC => ?_) r hr
  subst e1
  subst e2
  exact wX8_laysGoods hC hG e4 fu M x1
set_option linter.unusedVariables false in
set_option maxRecDepth 100000 in
theorem wgX8_laysAllGoods_2 {X : JX} (hC : JC X cX8_laysAllGoods RX8 none 10 223 0 0) (hG : dmI dmM (XG X)) (hnl : nLof X = 2) (fu : Nat) (kn2 : Mem × Int32 → Option (Int32 × Mem)) (hk2 : ∀ (M : Mem) (x1 : Int32), J X (ZN X foV) (kn2 (M, x1)) 2 [(0, .ref (gadr (XG X) (5, 0, 0))), (1, .int x1)] [] M 0 0) (M : Mem) (x1 : Int32) : J X (ZN X foV) (GX8_laysAllGoods_2 fu (XD X) kn2 M x1) 2 [(0, .ref (gadr (XG X) (5, 0, 0))), (1, .int x1)] [] M 0 0 := by
  unfold GX8_laysAllGoods_2
  refine j_iload_n hC 1 dX8_laysAllGoods_2 rfl ?_
  refine j_aload_n hC 0 dX8_laysAllGoods_3 rfl ?_
  refine j_callV (nA := 0) (rest := [.int x1]) hC [] rfl (fun r hr => mX8_birds (XL X) (XG X) hG fu (XD X) M r hr) q1622 q1624 qs54 q136 q1625 (dmMo hG rfl) rfl rfl (by decide +kernel) rfl rfl rfl rfl rfl rfl dX8_laysAllGoods_4 (fun v4 => [.int v4, .int x1]) (fun _ => rfl) (fun v4 M4 => ?_)
  refine j_icmp_ge (tgt := 21) hC dX8_laysAllGoods_7 (by decide) (fun h7 => ?_) (fun h7 => ?_)
  · exact j_vret hC dX8_laysAllGoods_21
  · refine j_aload_n hC 0 dX8_laysAllGoods_10 rfl ?_
    refine j_iload_n hC 1 dX8_laysAllGoods_11 rfl ?_
    refine j_callV (nA := 1) (rest := []) hC [.int x1] rfl (fun r hr => mX8_laysGoods (XL X) (XG X) hG fu (XD X) M4 x1 r hr) q1878 q1880 qs96 q136 q1881 (dmMo hG rfl) rfl rfl (by decide +kernel) rfl rfl rfl rfl rfl rfl dX8_laysAllGoods_12 (fun _ => []) (fun _ => rfl) (fun v12 M12 => ?_)
    refine j_iincL hC 1 (fun y15 => [(1, .int y15), (0, .ref (gadr (XG X) (5, 0, 0)))]) hnl dX8_laysAllGoods_15 rfl (by decide) rfl (fun _ => rfl) (fun y15 => ?_)
    refine j_goto (tgt := 2) hC dX8_laysAllGoods_18 (by decide) ?_
    exact j_sub [1, 0] rfl (hk2 M12 y15)
set_option linter.unusedVariables false in
set_option maxRecDepth 100000 in
theorem wX8_laysAllGoods_2 {X : JX} (hC : JC X cX8_laysAllGoods RX8 none 10 223 0 0) (hG : dmI dmM (XG X)) (hnl : nLof X = 2) (fu : Nat) (M : Mem) (x1 : Int32) : J X (ZN X foV) (FX8_laysAllGoods_2 fu (XD X) M x1) 2 [(0, .ref (gadr (XG X) (5, 0, 0))), (1, .int x1)] [] M 0 0 := by
  exact j_lp (lvf := fun z => [(0, .ref (gadr (XG X) (5, 0, 0))), (1, .int (z.2))]) (Mf := fun z => z.1) (fun kn hk z => wgX8_laysAllGoods_2 hC hG hnl fu kn (fun M x1 => hk (M, x1)) z.1 z.2) fu (M, x1)
set_option linter.unusedVariables false in
set_option maxRecDepth 100000 in
theorem wX8_laysAllGoods {X : JX} (hC : JC X cX8_laysAllGoods RX8 none 10 223 0 0) (hG : dmI dmM (XG X)) (hnl : nLof X = 2) (fu : Nat) (M : Mem) : J X (ZN X foV) (FX8_laysAllGoods fu (XD X) M) 0 [(0, .ref (gadr (XG X) (5, 0, 0)))] [] M 0 0 := by
  unfold FX8_laysAllGoods
  refine j_iconst (v := 0) hC dX8_laysAllGoods_0 (by decide) ?_
  refine j_istore_n hC [(1, .int 0), (0, .ref (gadr (XG X) (5, 0, 0)))] hnl dX8_laysAllGoods_1 rfl rfl ?_
  exact j_sub [1, 0] rfl (wX8_laysAllGoods_2 hC hG hnl fu M 0)
set_option linter.unusedVariables false in
set_option maxRecDepth 100000 in
theorem mX8_laysAllGoods (l : Launch) (Γ : xG) (hG : dmI dmM Γ) (fu : Nat) (D : List LDen) (M : Mem) (r : Int32 × Mem) (hr : FX8_laysAllGoods fu D M = some r) : CN l yX8_laysAllGoods (ws_ yX8_laysAllGoods cX8_laysAllGoods 2 none) 10 223 Γ D [.ref (gadr Γ (5, 0, 0))] M (foV r.1) r.2 := by
  refine CN.of (own := RX8) (lv0 := lv_args 0 [.ref (gadr Γ (5, 0, 0))]) (by decide +kernel) rfl (Nat.le_of_ble_eq_true rfl) rfl (fun X e1 e2 e3 e4 hC => ?_) r hr
  subst e1
  subst e2
  exact wX8_laysAllGoods hC hG e4 fu M
set_option linter.unusedVariables false in
set_option maxRecDepth 100000 in
theorem wX8_goodOf {X : JX} (hC : JC X cX8_goodOf RX8 (some .int) 1 12 0 0) (hG : dmI dmM (XG X)) (hnl : nLof X = 3) (fu : Nat) (M : Mem) (x1 x2 : Int32) : J X (ZN X foI) (FX8_goodOf fu (XD X) M x1 x2) 0 [(0, .ref (gadr (XG X) (5, 0, 0))), (1, .int x1), (2, .int x2)] [] M 0 0 := by
  unfold FX8_goodOf
  refine j_aload_n hC 0 dX8_goodOf_0 rfl ?_
  refine j_getR (fk := 29) hC (dmMo hG rfl) rfl rfl in_X8 rfl rfl q1493 rfl dX8_goodOf_1 ?_
  refine j_bipush (v := 9) hC dX8_goodOf_4 (by decide) ?_
  refine j_iload_n hC 1 dX8_goodOf_6 rfl ?_
  refine j_imul hC dX8_goodOf_7 ?_
  refine j_iload_n hC 2 dX8_goodOf_8 rfl ?_
  refine j_iadd hC dX8_goodOf_9 ?_
  refine j_iald hC (dmMo hG rfl) rfl dX8_goodOf_10 (fun h10 => ?_)
  exact j_iret hC dX8_goodOf_11
set_option linter.unusedVariables false in
set_option maxRecDepth 100000 in
theorem mX8_goodOf (l : Launch) (Γ : xG) (hG : dmI dmM Γ) (fu : Nat) (D : List LDen) (M : Mem) (x1 x2 : Int32) (r : Int32 × Mem) (hr : FX8_goodOf fu D M x1 x2 = some r) : CN l yX8_goodOf (ws_ yX8_goodOf cX8_goodOf 3 (some .int)) 1 12 Γ D [.ref (gadr Γ (5, 0, 0)), .int x1, .int x2] M (foI r.1) r.2 := by
  refine CN.of (own := RX8) (lv0 := lv_args 0 [.ref (gadr Γ (5, 0, 0)), .int x1, .int x2]) (by decide +kernel) rfl (Nat.le_of_ble_eq_true rfl) rfl (fun X e1 e2 e3 e4 hC => ?_) r hr
  subst e1
  subst e2
  exact wX8_goodOf hC hG e4 fu M x1 x2
set_option linter.unusedVariables false in
set_option maxRecDepth 100000 in
theorem wgX8_notGood_7 {X : JX} (hC : JC X cX8_notGood RX8 (some .int) 2 34 0 0) (hG : dmI dmM (XG X)) (hnl : nLof X = 5) (fu : Nat) (kn7 : Mem × Int32 × Int32 × Int32 × Int32 → Option (Int32 × Mem)) (hk7 : ∀ (M : Mem) (x1 x2 x3 x4 : Int32), J X (ZN X foI) (kn7 (M, x1, x2, x3, x4)) 7 [(0, .ref (gadr (XG X) (5, 0, 0))), (1, .int x1), (2, .int x2), (3, .int x3), (4, .int x4)] [] M 0 0) (M : Mem) (x1 x2 x3 x4 : Int32) : J X (ZN X foI) (GX8_notGood_7 fu (XD X) kn7 M x1 x2 x3 x4) 7 [(0, .ref (gadr (XG X) (5, 0, 0))), (1, .int x1), (2, .int x2), (3, .int x3), (4, .int x4)] [] M 0 0 := by
  unfold GX8_notGood_7
  refine j_iload hC 4 dX8_notGood_7 rfl ?_
  refine j_iload_n hC 2 dX8_notGood_9 rfl ?_
  refine j_icmp_gt (tgt := 29) hC dX8_notGood_10 (by decide) (fun h10 => ?_) (fun h10 => ?_)
  · refine j_iload_n hC 3 dX8_notGood_29 rfl ?_
    exact j_iret hC dX8_notGood_30
  · refine j_iload_n hC 3 dX8_notGood_13 rfl ?_
    refine j_aload_n hC 0 dX8_notGood_14 rfl ?_
    refine j_iload_n hC 1 dX8_notGood_15 rfl ?_
    refine j_iload hC 4 dX8_notGood_16 rfl ?_
    refine j_callV (nA := 2) (rest := [.int x3]) hC [.int x1, .int x4] rfl (fun r hr => mX8_goodOf (XL X) (XG X) hG fu (XD X) M x1 x4 r hr) q1886 q1888 qs98 q136 q1889 (dmMo hG rfl) rfl rfl (by decide +kernel) rfl rfl rfl rfl rfl rfl dX8_notGood_18 (fun v18 => [.int v18, .int x3]) (fun _ => rfl) (fun v18 M18 => ?_)
    refine j_isub hC dX8_notGood_21 ?_
    refine j_ltT (fun y22 => ?_)
    refine j_istore_n hC [(3, .int y22), (0, .ref (gadr (XG X) (5, 0, 0))), (1, .int x1), (2, .int x2), (4, .int x4)] hnl dX8_notGood_22 rfl rfl ?_
    refine j_iincL hC 4 (fun y23 => [(4, .int y23), (3, .int y22), (0, .ref (gadr (XG X) (5, 0, 0))), (1, .int x1), (2, .int x2)]) hnl dX8_notGood_23 rfl (by decide) rfl (fun _ => rfl) (fun y23 => ?_)
    refine j_goto (tgt := 7) hC dX8_notGood_26 (by decide) ?_
    exact j_sub [2, 3, 4, 1, 0] rfl (hk7 M18 x1 x2 y22 y23)
set_option linter.unusedVariables false in
set_option maxRecDepth 100000 in
theorem wX8_notGood_7 {X : JX} (hC : JC X cX8_notGood RX8 (some .int) 2 34 0 0) (hG : dmI dmM (XG X)) (hnl : nLof X = 5) (fu : Nat) (M : Mem) (x1 x2 x3 x4 : Int32) : J X (ZN X foI) (FX8_notGood_7 fu (XD X) M x1 x2 x3 x4) 7 [(0, .ref (gadr (XG X) (5, 0, 0))), (1, .int x1), (2, .int x2), (3, .int x3), (4, .int x4)] [] M 0 0 := by
  exact j_lp (lvf := fun z => [(0, .ref (gadr (XG X) (5, 0, 0))), (1, .int (z.2.1)), (2, .int (z.2.2.1)), (3, .int (z.2.2.2.1)), (4, .int (z.2.2.2.2))]) (Mf := fun z => z.1) (fun kn hk z => wgX8_notGood_7 hC hG hnl fu kn (fun M x1 x2 x3 x4 => hk (M, x1, x2, x3, x4)) z.1 z.2.1 z.2.2.1 z.2.2.2.1 z.2.2.2.2) fu (M, x1, x2, x3, x4)
set_option linter.unusedVariables false in
set_option maxRecDepth 100000 in
theorem wX8_notGood {X : JX} (hC : JC X cX8_notGood RX8 (some .int) 2 34 0 0) (hG : dmI dmM (XG X)) (hnl : nLof X = 5) (fu : Nat) (M : Mem) (x1 x2 : Int32) : J X (ZN X foI) (FX8_notGood fu (XD X) M x1 x2) 0 [(0, .ref (gadr (XG X) (5, 0, 0))), (1, .int x1), (2, .int x2)] [] M 0 0 := by
  unfold FX8_notGood
  refine j_sipush (v := 6561) hC dX8_notGood_0 (by decide) ?_
  refine j_istore_n hC [(3, .int 6561), (0, .ref (gadr (XG X) (5, 0, 0))), (1, .int x1), (2, .int x2)] hnl dX8_notGood_3 rfl rfl ?_
  refine j_iconst (v := 1) hC dX8_notGood_4 (by decide) ?_
  refine j_istore hC [(4, .int 1), (3, .int 6561), (0, .ref (gadr (XG X) (5, 0, 0))), (1, .int x1), (2, .int x2)] hnl dX8_notGood_5 rfl rfl ?_
  exact j_sub [2, 3, 4, 1, 0] rfl (wX8_notGood_7 hC hG hnl fu M x1 x2 6561 1)
set_option linter.unusedVariables false in
set_option maxRecDepth 100000 in
theorem mX8_notGood (l : Launch) (Γ : xG) (hG : dmI dmM Γ) (fu : Nat) (D : List LDen) (M : Mem) (x1 x2 : Int32) (r : Int32 × Mem) (hr : FX8_notGood fu D M x1 x2 = some r) : CN l yX8_notGood (ws_ yX8_notGood cX8_notGood 5 (some .int)) 2 34 Γ D [.ref (gadr Γ (5, 0, 0)), .int x1, .int x2] M (foI r.1) r.2 := by
  refine CN.of (own := RX8) (lv0 := lv_args 0 [.ref (gadr Γ (5, 0, 0)), .int x1, .int x2]) (by decide +kernel) rfl (Nat.le_of_ble_eq_true rfl) rfl (fun X e1 e2 e3 e4 hC => ?_) r hr
  subst e1
  subst e2
  exact wX8_notGood hC hG e4 fu M x1 x2
set_option linter.unusedVariables false in
set_option maxRecDepth 100000 in
theorem wgX8_firstHas_5 {X : JX} (hC : JC X cX8_firstHas RX8 (some .int) 3 58 0 0) (hG : dmI dmM (XG X)) (hnl : nLof X = 5) (fu : Nat) (kn5 : Mem × Int32 × Int32 × Int32 × Int32 → Option (Int32 × Mem)) (hk5 : ∀ (M : Mem) (x1 x2 x3 x4 : Int32), J X (ZN X foI) (kn5 (M, x1, x2, x3, x4)) 5 [(0, .ref (gadr (XG X) (5, 0, 0))), (1, .int x1), (2, .int x2), (3, .int x3), (4, .int x4)] [] M 0 0) (M : Mem) (x1 x2 x3 x4 : Int32) : J X (ZN X foI) (GX8_firstHas_5 fu (XD X) kn5 M x1 x2 x3 x4) 5 [(0, .ref (gadr (XG X) (5, 0, 0))), (1, .int x1), (2, .int x2), (3, .int x3), (4, .int x4)] [] M 0 0 := by
  unfold GX8_firstHas_5
  refine j_iload hC 4 dX8_firstHas_5 rfl ?_
  refine j_bipush (v := 8) hC dX8_firstHas_7 (by decide) ?_
  refine j_icmp_gt (tgt := 36) hC dX8_firstHas_9 (by decide) (fun h9 => ?_) (fun h9 => ?_)
  · refine j_iload_n hC 3 dX8_firstHas_36 rfl ?_
    exact j_iret hC dX8_firstHas_37
  · refine j_iload_n hC 3 dX8_firstHas_12 rfl ?_
    refine j_aload_n hC 0 dX8_firstHas_13 rfl ?_
    refine j_iload_n hC 1 dX8_firstHas_14 rfl ?_
    refine j_iload hC 4 dX8_firstHas_15 rfl ?_
    refine j_callV (nA := 2) (rest := [.int x3]) hC [.int x1, .int x4] rfl (fun r hr => mX8_goodOf (XL X) (XG X) hG fu (XD X) M x1 x4 r hr) q1886 q1888 qs98 q136 q1889 (dmMo hG rfl) rfl rfl (by decide +kernel) rfl rfl rfl rfl rfl rfl dX8_firstHas_17 (fun v17 => [.int v17, .int x3]) (fun _ => rfl) (fun v17 M17 => ?_)
    refine j_aload_n hC 0 dX8_firstHas_20 rfl ?_
    refine j_iload_n hC 2 dX8_firstHas_21 rfl ?_
    refine j_iload hC 4 dX8_firstHas_22 rfl ?_
    refine j_callV (nA := 2) (rest := [.int v17, .int x3]) hC [.int x2, .int x4] rfl (fun r hr => mX8_notGood (XL X) (XG X) hG fu (XD X) M17 x2 x4 r hr) q1890 q1892 qs99 q136 q1893 (dmMo hG rfl) rfl rfl (by decide +kernel) rfl rfl rfl rfl rfl rfl dX8_firstHas_24 (fun v24 => [.int v24, .int v17, .int x3]) (fun _ => rfl) (fun v24 M24 => ?_)
    refine j_imul hC dX8_firstHas_27 ?_
    refine j_iadd hC dX8_firstHas_28 ?_
    refine j_ltT (fun y29 => ?_)
    refine j_istore_n hC [(3, .int y29), (0, .ref (gadr (XG X) (5, 0, 0))), (1, .int x1), (2, .int x2), (4, .int x4)] hnl dX8_firstHas_29 rfl rfl ?_
    refine j_iincL hC 4 (fun y30 => [(4, .int y30), (3, .int y29), (0, .ref (gadr (XG X) (5, 0, 0))), (1, .int x1), (2, .int x2)]) hnl dX8_firstHas_30 rfl (by decide) rfl (fun _ => rfl) (fun y30 => ?_)
    refine j_goto (tgt := 5) hC dX8_firstHas_33 (by decide) ?_
    exact j_sub [2, 3, 4, 1, 0] rfl (hk5 M24 x1 x2 y29 y30)
set_option linter.unusedVariables false in
set_option maxRecDepth 100000 in
theorem wX8_firstHas_5 {X : JX} (hC : JC X cX8_firstHas RX8 (some .int) 3 58 0 0) (hG : dmI dmM (XG X)) (hnl : nLof X = 5) (fu : Nat) (M : Mem) (x1 x2 x3 x4 : Int32) : J X (ZN X foI) (FX8_firstHas_5 fu (XD X) M x1 x2 x3 x4) 5 [(0, .ref (gadr (XG X) (5, 0, 0))), (1, .int x1), (2, .int x2), (3, .int x3), (4, .int x4)] [] M 0 0 := by
  exact j_lp (lvf := fun z => [(0, .ref (gadr (XG X) (5, 0, 0))), (1, .int (z.2.1)), (2, .int (z.2.2.1)), (3, .int (z.2.2.2.1)), (4, .int (z.2.2.2.2))]) (Mf := fun z => z.1) (fun kn hk z => wgX8_firstHas_5 hC hG hnl fu kn (fun M x1 x2 x3 x4 => hk (M, x1, x2, x3, x4)) z.1 z.2.1 z.2.2.1 z.2.2.2.1 z.2.2.2.2) fu (M, x1, x2, x3, x4)
set_option linter.unusedVariables false in
set_option maxRecDepth 100000 in
theorem wX8_firstHas {X : JX} (hC : JC X cX8_firstHas RX8 (some .int) 3 58 0 0) (hG : dmI dmM (XG X)) (hnl : nLof X = 5) (fu : Nat) (M : Mem) (x1 x2 : Int32) : J X (ZN X foI) (FX8_firstHas fu (XD X) M x1 x2) 0 [(0, .ref (gadr (XG X) (5, 0, 0))), (1, .int x1), (2, .int x2)] [] M 0 0 := by
  unfold FX8_firstHas
  refine j_iconst (v := 0) hC dX8_firstHas_0 (by decide) ?_
  refine j_istore_n hC [(3, .int 0), (0, .ref (gadr (XG X) (5, 0, 0))), (1, .int x1), (2, .int x2)] hnl dX8_firstHas_1 rfl rfl ?_
  refine j_iconst (v := 1) hC dX8_firstHas_2 (by decide) ?_
  refine j_istore hC [(4, .int 1), (3, .int 0), (0, .ref (gadr (XG X) (5, 0, 0))), (1, .int x1), (2, .int x2)] hnl dX8_firstHas_3 rfl rfl ?_
  exact j_sub [2, 3, 4, 1, 0] rfl (wX8_firstHas_5 hC hG hnl fu M x1 x2 0 1)
set_option linter.unusedVariables false in
set_option maxRecDepth 100000 in
theorem mX8_firstHas (l : Launch) (Γ : xG) (hG : dmI dmM Γ) (fu : Nat) (D : List LDen) (M : Mem) (x1 x2 : Int32) (r : Int32 × Mem) (hr : FX8_firstHas fu D M x1 x2 = some r) : CN l yX8_firstHas (ws_ yX8_firstHas cX8_firstHas 5 (some .int)) 3 58 Γ D [.ref (gadr Γ (5, 0, 0)), .int x1, .int x2] M (foI r.1) r.2 := by
  refine CN.of (own := RX8) (lv0 := lv_args 0 [.ref (gadr Γ (5, 0, 0)), .int x1, .int x2]) (by decide +kernel) rfl (Nat.le_of_ble_eq_true rfl) rfl (fun X e1 e2 e3 e4 hC => ?_) r hr
  subst e1
  subst e2
  exact wX8_firstHas hC hG e4 fu M x1 x2
set_option linter.unusedVariables false in
set_option maxRecDepth 100000 in
theorem wgX8_bothHave_5 {X : JX} (hC : JC X cX8_bothHave RX8 (some .int) 2 34 0 0) (hG : dmI dmM (XG X)) (hnl : nLof X = 5) (fu : Nat) (kn5 : Mem × Int32 × Int32 × Int32 × Int32 → Option (Int32 × Mem)) (hk5 : ∀ (M : Mem) (x1 x2 x3 x4 : Int32), J X (ZN X foI) (kn5 (M, x1, x2, x3, x4)) 5 [(0, .ref (gadr (XG X) (5, 0, 0))), (1, .int x1), (2, .int x2), (3, .int x3), (4, .int x4)] [] M 0 0) (M : Mem) (x1 x2 x3 x4 : Int32) : J X (ZN X foI) (GX8_bothHave_5 fu (XD X) kn5 M x1 x2 x3 x4) 5 [(0, .ref (gadr (XG X) (5, 0, 0))), (1, .int x1), (2, .int x2), (3, .int x3), (4, .int x4)] [] M 0 0 := by
  unfold GX8_bothHave_5
  refine j_iload hC 4 dX8_bothHave_5 rfl ?_
  refine j_bipush (v := 8) hC dX8_bothHave_7 (by decide) ?_
  refine j_icmp_gt (tgt := 36) hC dX8_bothHave_9 (by decide) (fun h9 => ?_) (fun h9 => ?_)
  · refine j_iload_n hC 3 dX8_bothHave_36 rfl ?_
    exact j_iret hC dX8_bothHave_37
  · refine j_iload_n hC 3 dX8_bothHave_12 rfl ?_
    refine j_aload_n hC 0 dX8_bothHave_13 rfl ?_
    refine j_iload_n hC 1 dX8_bothHave_14 rfl ?_
    refine j_iload hC 4 dX8_bothHave_15 rfl ?_
    refine j_callV (nA := 2) (rest := [.int x3]) hC [.int x1, .int x4] rfl (fun r hr => mX8_goodOf (XL X) (XG X) hG fu (XD X) M x1 x4 r hr) q1886 q1888 qs98 q136 q1889 (dmMo hG rfl) rfl rfl (by decide +kernel) rfl rfl rfl rfl rfl rfl dX8_bothHave_17 (fun v17 => [.int v17, .int x3]) (fun _ => rfl) (fun v17 M17 => ?_)
    refine j_aload_n hC 0 dX8_bothHave_20 rfl ?_
    refine j_iload_n hC 2 dX8_bothHave_21 rfl ?_
    refine j_iload hC 4 dX8_bothHave_22 rfl ?_
    refine j_callV (nA := 2) (rest := [.int v17, .int x3]) hC [.int x2, .int x4] rfl (fun r hr => mX8_goodOf (XL X) (XG X) hG fu (XD X) M17 x2 x4 r hr) q1886 q1888 qs98 q136 q1889 (dmMo hG rfl) rfl rfl (by decide +kernel) rfl rfl rfl rfl rfl rfl dX8_bothHave_24 (fun v24 => [.int v24, .int v17, .int x3]) (fun _ => rfl) (fun v24 M24 => ?_)
    refine j_imul hC dX8_bothHave_27 ?_
    refine j_iadd hC dX8_bothHave_28 ?_
    refine j_ltT (fun y29 => ?_)
    refine j_istore_n hC [(3, .int y29), (0, .ref (gadr (XG X) (5, 0, 0))), (1, .int x1), (2, .int x2), (4, .int x4)] hnl dX8_bothHave_29 rfl rfl ?_
    refine j_iincL hC 4 (fun y30 => [(4, .int y30), (3, .int y29), (0, .ref (gadr (XG X) (5, 0, 0))), (1, .int x1), (2, .int x2)]) hnl dX8_bothHave_30 rfl (by decide) rfl (fun _ => rfl) (fun y30 => ?_)
    refine j_goto (tgt := 5) hC dX8_bothHave_33 (by decide) ?_
    exact j_sub [2, 3, 4, 1, 0] rfl (hk5 M24 x1 x2 y29 y30)
set_option linter.unusedVariables false in
set_option maxRecDepth 100000 in
theorem wX8_bothHave_5 {X : JX} (hC : JC X cX8_bothHave RX8 (some .int) 2 34 0 0) (hG : dmI dmM (XG X)) (hnl : nLof X = 5) (fu : Nat) (M : Mem) (x1 x2 x3 x4 : Int32) : J X (ZN X foI) (FX8_bothHave_5 fu (XD X) M x1 x2 x3 x4) 5 [(0, .ref (gadr (XG X) (5, 0, 0))), (1, .int x1), (2, .int x2), (3, .int x3), (4, .int x4)] [] M 0 0 := by
  exact j_lp (lvf := fun z => [(0, .ref (gadr (XG X) (5, 0, 0))), (1, .int (z.2.1)), (2, .int (z.2.2.1)), (3, .int (z.2.2.2.1)), (4, .int (z.2.2.2.2))]) (Mf := fun z => z.1) (fun kn hk z => wgX8_bothHave_5 hC hG hnl fu kn (fun M x1 x2 x3 x4 => hk (M, x1, x2, x3, x4)) z.1 z.2.1 z.2.2.1 z.2.2.2.1 z.2.2.2.2) fu (M, x1, x2, x3, x4)
set_option linter.unusedVariables false in
set_option maxRecDepth 100000 in
theorem wX8_bothHave {X : JX} (hC : JC X cX8_bothHave RX8 (some .int) 2 34 0 0) (hG : dmI dmM (XG X)) (hnl : nLof X = 5) (fu : Nat) (M : Mem) (x1 x2 : Int32) : J X (ZN X foI) (FX8_bothHave fu (XD X) M x1 x2) 0 [(0, .ref (gadr (XG X) (5, 0, 0))), (1, .int x1), (2, .int x2)] [] M 0 0 := by
  unfold FX8_bothHave
  refine j_iconst (v := 0) hC dX8_bothHave_0 (by decide) ?_
  refine j_istore_n hC [(3, .int 0), (0, .ref (gadr (XG X) (5, 0, 0))), (1, .int x1), (2, .int x2)] hnl dX8_bothHave_1 rfl rfl ?_
  refine j_iconst (v := 1) hC dX8_bothHave_2 (by decide) ?_
  refine j_istore hC [(4, .int 1), (3, .int 0), (0, .ref (gadr (XG X) (5, 0, 0))), (1, .int x1), (2, .int x2)] hnl dX8_bothHave_3 rfl rfl ?_
  exact j_sub [2, 3, 4, 1, 0] rfl (wX8_bothHave_5 hC hG hnl fu M x1 x2 0 1)
set_option linter.unusedVariables false in
set_option maxRecDepth 100000 in
theorem mX8_bothHave (l : Launch) (Γ : xG) (hG : dmI dmM Γ) (fu : Nat) (D : List LDen) (M : Mem) (x1 x2 : Int32) (r : Int32 × Mem) (hr : FX8_bothHave fu D M x1 x2 = some r) : CN l yX8_bothHave (ws_ yX8_bothHave cX8_bothHave 5 (some .int)) 2 34 Γ D [.ref (gadr Γ (5, 0, 0)), .int x1, .int x2] M (foI r.1) r.2 := by
  refine CN.of (own := RX8) (lv0 := lv_args 0 [.ref (gadr Γ (5, 0, 0)), .int x1, .int x2]) (by decide +kernel) rfl (Nat.le_of_ble_eq_true rfl) rfl (fun X e1 e2 e3 e4 hC => ?_) r hr
  subst e1
  subst e2
  exact wX8_bothHave hC hG e4 fu M x1 x2
set_option linter.unusedVariables false in
set_option maxRecDepth 100000 in
theorem wX8_odds_56 {X : JX} (hC : JC X cX8_odds RX8 (some .int) 11 244 0 0) (hG : dmI dmM (XG X)) (hnl : nLof X = 4) (fu : Nat) (M : Mem) : J X (ZN X foI) (FX8_odds_56 fu (XD X) M) 56 [] [] M 0 0 := by
  unfold FX8_odds_56
  refine j_iconst (v := 0) hC dX8_odds_56 (by decide) ?_
  exact j_iret hC dX8_odds_57
set_option linter.unusedVariables false in
set_option maxRecDepth 100000 in
theorem wX8_odds_118 {X : JX} (hC : JC X cX8_odds RX8 (some .int) 11 244 0 0) (hG : dmI dmM (XG X)) (hnl : nLof X = 4) (fu : Nat) (M : Mem) (t0 : Int32) : J X (ZN X foI) (FX8_odds_118 fu (XD X) M t0) 118 [] [.int t0] M 0 0 := by
  unfold FX8_odds_118
  exact j_iret hC dX8_odds_118
set_option linter.unusedVariables false in
set_option maxRecDepth 100000 in
theorem wX8_odds_49 {X : JX} (hC : JC X cX8_odds RX8 (some .int) 11 244 0 0) (hG : dmI dmM (XG X)) (hnl : nLof X = 4) (fu : Nat) (M : Mem) (x1 x2 x3 t0 : Int32) : J X (ZN X foI) (FX8_odds_49 fu (XD X) M x1 x2 x3 t0) 49 [(0, .ref (gadr (XG X) (5, 0, 0))), (1, .int x1), (2, .int x2), (3, .int x3)] [.int t0, .ref (gadr (XG X) (5, 0, 0))] M 0 0 := by
  unfold FX8_odds_49
  refine j_iconst (v := 2) hC dX8_odds_49 (by decide) ?_
  refine j_callV (nA := 2) (rest := []) hC [.int t0, .int 2] rfl (fun r hr => mX8_throwsIf (XL X) (XG X) hG fu (XD X) M t0 2 r hr) q1748 q1750 qs76 q136 q1751 (dmMo hG rfl) rfl rfl (by decide +kernel) rfl rfl rfl rfl rfl rfl dX8_odds_50 (fun v50 => [.int v50]) (fun _ => rfl) (fun v50 M50 => ?_)
  refine j_if_eq (tgt := 58) hC dX8_odds_53 (by decide) (fun h53 => ?_) (fun h53 => ?_)
  · refine j_aload_n hC 0 dX8_odds_58 rfl ?_
    refine j_callV (nA := 0) (rest := []) hC [] rfl (fun r hr => mX8_laysAllGoods (XL X) (XG X) hG fu (XD X) M50 r hr) q1874 q1876 qs95 q136 q1877 (dmMo hG rfl) rfl rfl (by decide +kernel) rfl rfl rfl rfl rfl rfl dX8_odds_59 (fun _ => []) (fun _ => rfl) (fun v59 M59 => ?_)
    refine j_iload_n hC 3 dX8_odds_62 rfl ?_
    refine j_if_ne (tgt := 75) hC dX8_odds_63 (by decide) (fun h63 => ?_) (fun h63 => ?_)
    · refine j_aload_n hC 0 dX8_odds_66 rfl ?_
      refine j_iload_n hC 1 dX8_odds_67 rfl ?_
      refine j_iload_n hC 2 dX8_odds_68 rfl ?_
      refine j_callV (nA := 2) (rest := []) hC [.int x1, .int x2] rfl (fun r hr => mX8_firstHas (XL X) (XG X) hG fu (XD X) M59 x1 x2 r hr) q1882 q1884 qs97 q136 q1885 (dmMo hG rfl) rfl rfl (by decide +kernel) rfl rfl rfl rfl rfl rfl dX8_odds_69 (fun v69 => [.int v69]) (fun _ => rfl) (fun v69 M69 => ?_)
      refine j_goto (tgt := 118) hC dX8_odds_72 (by decide) ?_
      exact j_sub [] rfl (wX8_odds_118 hC hG hnl fu M69 v69)
    · refine j_iload_n hC 3 dX8_odds_75 rfl ?_
      refine j_iconst (v := 1) hC dX8_odds_76 (by decide) ?_
      refine j_icmp_ne (tgt := 89) hC dX8_odds_77 (by decide) (fun h77 => ?_) (fun h77 => ?_)
      · refine j_aload_n hC 0 dX8_odds_80 rfl ?_
        refine j_iload_n hC 2 dX8_odds_81 rfl ?_
        refine j_iload_n hC 1 dX8_odds_82 rfl ?_
        refine j_callV (nA := 2) (rest := []) hC [.int x2, .int x1] rfl (fun r hr => mX8_firstHas (XL X) (XG X) hG fu (XD X) M59 x2 x1 r hr) q1882 q1884 qs97 q136 q1885 (dmMo hG rfl) rfl rfl (by decide +kernel) rfl rfl rfl rfl rfl rfl dX8_odds_83 (fun v83 => [.int v83]) (fun _ => rfl) (fun v83 M83 => ?_)
        refine j_goto (tgt := 118) hC dX8_odds_86 (by decide) ?_
        exact j_sub [] rfl (wX8_odds_118 hC hG hnl fu M83 v83)
      · refine j_iload_n hC 3 dX8_odds_89 rfl ?_
        refine j_iconst (v := 2) hC dX8_odds_90 (by decide) ?_
        refine j_icmp_ne (tgt := 103) hC dX8_odds_91 (by decide) (fun h91 => ?_) (fun h91 => ?_)
        · refine j_aload_n hC 0 dX8_odds_94 rfl ?_
          refine j_iload_n hC 1 dX8_odds_95 rfl ?_
          refine j_iload_n hC 2 dX8_odds_96 rfl ?_
          refine j_callV (nA := 2) (rest := []) hC [.int x1, .int x2] rfl (fun r hr => mX8_bothHave (XL X) (XG X) hG fu (XD X) M59 x1 x2 r hr) q1894 q1896 qs100 q136 q1897 (dmMo hG rfl) rfl rfl (by decide +kernel) rfl rfl rfl rfl rfl rfl dX8_odds_97 (fun v97 => [.int v97]) (fun _ => rfl) (fun v97 M97 => ?_)
          refine j_goto (tgt := 118) hC dX8_odds_100 (by decide) ?_
          exact j_sub [] rfl (wX8_odds_118 hC hG hnl fu M97 v97)
        · refine j_aload_n hC 0 dX8_odds_103 rfl ?_
          refine j_iload_n hC 1 dX8_odds_104 rfl ?_
          refine j_bipush (v := 8) hC dX8_odds_105 (by decide) ?_
          refine j_callV (nA := 2) (rest := []) hC [.int x1, .int 8] rfl (fun r hr => mX8_notGood (XL X) (XG X) hG fu (XD X) M59 x1 8 r hr) q1890 q1892 qs99 q136 q1893 (dmMo hG rfl) rfl rfl (by decide +kernel) rfl rfl rfl rfl rfl rfl dX8_odds_107 (fun v107 => [.int v107]) (fun _ => rfl) (fun v107 M107 => ?_)
          refine j_aload_n hC 0 dX8_odds_110 rfl ?_
          refine j_iload_n hC 2 dX8_odds_111 rfl ?_
          refine j_bipush (v := 8) hC dX8_odds_112 (by decide) ?_
          refine j_callV (nA := 2) (rest := [.int v107]) hC [.int x2, .int 8] rfl (fun r hr => mX8_notGood (XL X) (XG X) hG fu (XD X) M107 x2 8 r hr) q1890 q1892 qs99 q136 q1893 (dmMo hG rfl) rfl rfl (by decide +kernel) rfl rfl rfl rfl rfl rfl dX8_odds_114 (fun v114 => [.int v114, .int v107]) (fun _ => rfl) (fun v114 M114 => ?_)
          refine j_imul hC dX8_odds_117 ?_
          exact j_sub [] rfl (wX8_odds_118 hC hG hnl fu M114 (v107 * v114))
  · exact j_sub [] rfl (wX8_odds_56 hC hG hnl fu M50)
set_option linter.unusedVariables false in
set_option maxRecDepth 100000 in
theorem wX8_odds_27 {X : JX} (hC : JC X cX8_odds RX8 (some .int) 11 244 0 0) (hG : dmI dmM (XG X)) (hnl : nLof X = 4) (fu : Nat) (M : Mem) (x1 x2 x3 t0 : Int32) : J X (ZN X foI) (FX8_odds_27 fu (XD X) M x1 x2 x3 t0) 27 [(0, .ref (gadr (XG X) (5, 0, 0))), (1, .int x1), (2, .int x2), (3, .int x3)] [.int t0, .ref (gadr (XG X) (5, 0, 0))] M 0 0 := by
  unfold FX8_odds_27
  refine j_iconst (v := 1) hC dX8_odds_27 (by decide) ?_
  refine j_callV (nA := 2) (rest := []) hC [.int t0, .int 1] rfl (fun r hr => mX8_throwsIf (XL X) (XG X) hG fu (XD X) M t0 1 r hr) q1748 q1750 qs76 q136 q1751 (dmMo hG rfl) rfl rfl (by decide +kernel) rfl rfl rfl rfl rfl rfl dX8_odds_28 (fun v28 => [.int v28]) (fun _ => rfl) (fun v28 M28 => ?_)
  refine j_if_ne (tgt := 56) hC dX8_odds_31 (by decide) (fun h31 => ?_) (fun h31 => ?_)
  · refine j_aload_n hC 0 dX8_odds_34 rfl ?_
    refine j_iload_n hC 3 dX8_odds_35 rfl ?_
    refine j_iconst (v := 0) hC dX8_odds_36 (by decide) ?_
    refine j_iconst (v := 3) hC dX8_odds_37 (by decide) ?_
    refine j_callS (nA := 3) (rest := [.ref (gadr (XG X) (5, 0, 0))]) hC [.int x3, .int 0, .int 3] rfl (fun r hr => mX8_in (XL X) (XG X) hG fu (XD X) M28 x3 0 3 r hr) q1641 q1642 q136 q1643 (by decide +kernel) rfl rfl rfl rfl rfl rfl dX8_odds_38 (fun v38 => [.int v38, .ref (gadr (XG X) (5, 0, 0))]) (fun _ => rfl) (fun v38 M38 => ?_)
    refine j_if_ne (tgt := 48) hC dX8_odds_41 (by decide) (fun h41 => ?_) (fun h41 => ?_)
    · refine j_iconst (v := 1) hC dX8_odds_44 (by decide) ?_
      refine j_goto (tgt := 49) hC dX8_odds_45 (by decide) ?_
      exact j_sub [0, 1, 2, 3] rfl (wX8_odds_49 hC hG hnl fu M38 x1 x2 x3 1)
    · refine j_iconst (v := 0) hC dX8_odds_48 (by decide) ?_
      exact j_sub [0, 1, 2, 3] rfl (wX8_odds_49 hC hG hnl fu M38 x1 x2 x3 0)
  · exact j_sub [] rfl (wX8_odds_56 hC hG hnl fu M28)
set_option linter.unusedVariables false in
set_option maxRecDepth 100000 in
theorem wX8_odds_22 {X : JX} (hC : JC X cX8_odds RX8 (some .int) 11 244 0 0) (hG : dmI dmM (XG X)) (hnl : nLof X = 4) (fu : Nat) (M : Mem) (x1 x2 x3 : Int32) : J X (ZN X foI) (FX8_odds_22 fu (XD X) M x1 x2 x3) 22 [(0, .ref (gadr (XG X) (5, 0, 0))), (1, .int x1), (2, .int x2), (3, .int x3)] [.ref (gadr (XG X) (5, 0, 0))] M 0 0 := by
  unfold FX8_odds_22
  refine j_iconst (v := 1) hC dX8_odds_22 (by decide) ?_
  refine j_goto (tgt := 27) hC dX8_odds_23 (by decide) ?_
  exact j_sub [0, 1, 2, 3] rfl (wX8_odds_27 hC hG hnl fu M x1 x2 x3 1)
set_option linter.unusedVariables false in
set_option maxRecDepth 100000 in
theorem wX8_odds {X : JX} (hC : JC X cX8_odds RX8 (some .int) 11 244 0 0) (hG : dmI dmM (XG X)) (hnl : nLof X = 4) (fu : Nat) (M : Mem) (x1 x2 x3 : Int32) : J X (ZN X foI) (FX8_odds fu (XD X) M x1 x2 x3) 0 [(0, .ref (gadr (XG X) (5, 0, 0))), (1, .int x1), (2, .int x2), (3, .int x3)] [] M 0 0 := by
  unfold FX8_odds
  refine j_aload_n hC 0 dX8_odds_0 rfl ?_
  refine j_iconst (v := 0) hC dX8_odds_1 (by decide) ?_
  refine j_put (fk := 0) (ty := .int) hC (dmMo hG rfl) rfl rfl in_X8 rfl rfl q1464 tyX8 tyX8_ok nmX8 rfl rfl (by decide +kernel) rfl rfl dX8_odds_2 ?_
  refine j_lt (fun M2 => ?_)
  refine j_aload_n hC 0 dX8_odds_5 rfl ?_
  refine j_aload_n hC 0 dX8_odds_6 rfl ?_
  refine j_iload_n hC 1 dX8_odds_7 rfl ?_
  refine j_callV (nA := 1) (rest := [.ref (gadr (XG X) (5, 0, 0))]) hC [.int x1] rfl (fun r hr => mX8_noBird (XL X) (XG X) hG fu (XD X) M2 x1 r hr) q1760 q1762 qs77 q136 q1763 (dmMo hG rfl) rfl rfl (by decide +kernel) rfl rfl rfl rfl rfl rfl dX8_odds_8 (fun v8 => [.int v8, .ref (gadr (XG X) (5, 0, 0))]) (fun _ => rfl) (fun v8 M8 => ?_)
  refine j_if_ne (tgt := 22) hC dX8_odds_11 (by decide) (fun h11 => ?_) (fun h11 => ?_)
  · refine j_aload_n hC 0 dX8_odds_14 rfl ?_
    refine j_iload_n hC 2 dX8_odds_15 rfl ?_
    refine j_callV (nA := 1) (rest := [.ref (gadr (XG X) (5, 0, 0))]) hC [.int x2] rfl (fun r hr => mX8_noBird (XL X) (XG X) hG fu (XD X) M8 x2 r hr) q1760 q1762 qs77 q136 q1763 (dmMo hG rfl) rfl rfl (by decide +kernel) rfl rfl rfl rfl rfl rfl dX8_odds_16 (fun v16 => [.int v16, .ref (gadr (XG X) (5, 0, 0))]) (fun _ => rfl) (fun v16 M16 => ?_)
    refine j_if_eq (tgt := 26) hC dX8_odds_19 (by decide) (fun h19 => ?_) (fun h19 => ?_)
    · refine j_iconst (v := 0) hC dX8_odds_26 (by decide) ?_
      exact j_sub [0, 1, 2, 3] rfl (wX8_odds_27 hC hG hnl fu M16 x1 x2 x3 0)
    · exact j_sub [0, 1, 2, 3] rfl (wX8_odds_22 hC hG hnl fu M16 x1 x2 x3)
  · exact j_sub [0, 1, 2, 3] rfl (wX8_odds_22 hC hG hnl fu M8 x1 x2 x3)
set_option linter.unusedVariables false in
set_option maxRecDepth 100000 in
theorem mX8_odds (l : Launch) (Γ : xG) (hG : dmI dmM Γ) (fu : Nat) (D : List LDen) (M : Mem) (x1 x2 x3 : Int32) (r : Int32 × Mem) (hr : FX8_odds fu D M x1 x2 x3 = some r) : CN l yX8_odds (ws_ yX8_odds cX8_odds 4 (some .int)) 11 244 Γ D [.ref (gadr Γ (5, 0, 0)), .int x1, .int x2, .int x3] M (foI r.1) r.2 := by
  refine CN.of (own := RX8) (lv0 := lv_args 0 [.ref (gadr Γ (5, 0, 0)), .int x1, .int x2, .int x3]) (by decide +kernel) rfl (Nat.le_of_ble_eq_true rfl) rfl (fun X e1 e2 e3 e4 hC => ?_) r hr
  subst e1
  subst e2
  exact wX8_odds hC hG e4 fu M x1 x2 x3
set_option linter.unusedVariables false in
set_option maxRecDepth 100000 in
theorem wX8_best_70 {X : JX} (hC : JC X cX8_best RX8 (some .int) 11 244 0 0) (hG : dmI dmM (XG X)) (hnl : nLof X = 5) (fu : Nat) (kn29 : Mem × Int32 × Int32 × Int32 × Int32 → Option (Int32 × Mem)) (hk29 : ∀ (M : Mem) (x1 x2 x3 x4 : Int32), J X (ZN X foI) (kn29 (M, x1, x2, x3, x4)) 29 [(0, .ref (gadr (XG X) (5, 0, 0))), (1, .int x1), (2, .int x2), (3, .int x3), (4, .int x4)] [] M 0 0) (M : Mem) (x1 x2 x3 x4 : Int32) : J X (ZN X foI) (FX8_best_70 fu (XD X) kn29 M x1 x2 x3 x4) 70 [(0, .ref (gadr (XG X) (5, 0, 0))), (1, .int x1), (2, .int x2), (3, .int x3), (4, .int x4)] [] M 0 0 := by
  unfold FX8_best_70
  refine j_iincL hC 4 (fun y70 => [(4, .int y70), (0, .ref (gadr (XG X) (5, 0, 0))), (1, .int x1), (2, .int x2), (3, .int x3)]) hnl dX8_best_70 rfl (by decide) rfl (fun _ => rfl) (fun y70 => ?_)
  refine j_goto (tgt := 29) hC dX8_best_73 (by decide) ?_
  exact j_sub [1, 2, 3, 4, 0] rfl (hk29 M x1 x2 x3 y70)
set_option linter.unusedVariables false in
set_option maxRecDepth 100000 in
theorem wX8_best_67 {X : JX} (hC : JC X cX8_best RX8 (some .int) 11 244 0 0) (hG : dmI dmM (XG X)) (hnl : nLof X = 5) (fu : Nat) (kn29 : Mem × Int32 × Int32 × Int32 × Int32 → Option (Int32 × Mem)) (hk29 : ∀ (M : Mem) (x1 x2 x3 x4 : Int32), J X (ZN X foI) (kn29 (M, x1, x2, x3, x4)) 29 [(0, .ref (gadr (XG X) (5, 0, 0))), (1, .int x1), (2, .int x2), (3, .int x3), (4, .int x4)] [] M 0 0) (M : Mem) (x1 x2 x4 : Int32) : J X (ZN X foI) (FX8_best_67 fu (XD X) kn29 M x1 x2 x4) 67 [(0, .ref (gadr (XG X) (5, 0, 0))), (1, .int x1), (2, .int x2), (4, .int x4)] [] M 0 0 := by
  unfold FX8_best_67
  refine j_iload hC 3 dX8_best_67 rfl ?_
  refine j_istore_n hC [(3, .int x4), (0, .ref (gadr (XG X) (5, 0, 0))), (1, .int x1), (2, .int x2), (4, .int x4)] hnl dX8_best_69 rfl rfl ?_
  exact j_sub [1, 2, 3, 0, 4] rfl (wX8_best_70 hC hG hnl fu kn29 hk29 M x1 x2 x4 x4)
set_option linter.unusedVariables false in
set_option maxRecDepth 100000 in
theorem wgX8_best_29 {X : JX} (hC : JC X cX8_best RX8 (some .int) 11 244 0 0) (hG : dmI dmM (XG X)) (hnl : nLof X = 5) (fu : Nat) (kn29 : Mem × Int32 × Int32 × Int32 × Int32 → Option (Int32 × Mem)) (hk29 : ∀ (M : Mem) (x1 x2 x3 x4 : Int32), J X (ZN X foI) (kn29 (M, x1, x2, x3, x4)) 29 [(0, .ref (gadr (XG X) (5, 0, 0))), (1, .int x1), (2, .int x2), (3, .int x3), (4, .int x4)] [] M 0 0) (M : Mem) (x1 x2 x3 x4 : Int32) : J X (ZN X foI) (GX8_best_29 fu (XD X) kn29 M x1 x2 x3 x4) 29 [(0, .ref (gadr (XG X) (5, 0, 0))), (1, .int x1), (2, .int x2), (3, .int x3), (4, .int x4)] [] M 0 0 := by
  unfold GX8_best_29
  refine j_iload hC 4 dX8_best_29 rfl ?_
  refine j_aload_n hC 0 dX8_best_31 rfl ?_
  refine j_callV (nA := 0) (rest := [.int x4]) hC [] rfl (fun r hr => mX8_birds (XL X) (XG X) hG fu (XD X) M r hr) q1622 q1624 qs54 q136 q1625 (dmMo hG rfl) rfl rfl (by decide +kernel) rfl rfl rfl rfl rfl rfl dX8_best_32 (fun v32 => [.int v32, .int x4]) (fun _ => rfl) (fun v32 M32 => ?_)
  refine j_icmp_ge (tgt := 76) hC dX8_best_35 (by decide) (fun h35 => ?_) (fun h35 => ?_)
  · refine j_iload_n hC 3 dX8_best_76 rfl ?_
    exact j_iret hC dX8_best_77
  · refine j_iload_n hC 2 dX8_best_38 rfl ?_
    refine j_iload hC 4 dX8_best_39 rfl ?_
    refine j_callS (nA := 2) (rest := []) hC [.int x2, .int x4] rfl (fun r hr => mX8_has (XL X) (XG X) hG fu (XD X) M32 x2 x4 r hr) q1644 q1645 q136 q1646 (by decide +kernel) rfl rfl rfl rfl rfl rfl dX8_best_41 (fun v41 => [.int v41]) (fun _ => rfl) (fun v41 M41 => ?_)
    refine j_if_eq (tgt := 70) hC dX8_best_44 (by decide) (fun h44 => ?_) (fun h44 => ?_)
    · exact j_sub [0, 1, 2, 3, 4] rfl (wX8_best_70 hC hG hnl fu kn29 hk29 M41 x1 x2 x3 x4)
    · refine j_iload_n hC 3 dX8_best_47 rfl ?_
      refine j_if_lt (tgt := 67) hC dX8_best_48 (by decide) (fun h48 => ?_) (fun h48 => ?_)
      · exact j_sub [0, 1, 2, 4] rfl (wX8_best_67 hC hG hnl fu kn29 hk29 M41 x1 x2 x4)
      · refine j_aload_n hC 0 dX8_best_51 rfl ?_
        refine j_iload hC 4 dX8_best_52 rfl ?_
        refine j_iload_n hC 1 dX8_best_54 rfl ?_
        refine j_callV (nA := 2) (rest := []) hC [.int x4, .int x1] rfl (fun r hr => mX8_firstHas (XL X) (XG X) hG fu (XD X) M41 x4 x1 r hr) q1882 q1884 qs97 q136 q1885 (dmMo hG rfl) rfl rfl (by decide +kernel) rfl rfl rfl rfl rfl rfl dX8_best_55 (fun v55 => [.int v55]) (fun _ => rfl) (fun v55 M55 => ?_)
        refine j_aload_n hC 0 dX8_best_58 rfl ?_
        refine j_iload_n hC 3 dX8_best_59 rfl ?_
        refine j_iload_n hC 1 dX8_best_60 rfl ?_
        refine j_callV (nA := 2) (rest := [.int v55]) hC [.int x3, .int x1] rfl (fun r hr => mX8_firstHas (XL X) (XG X) hG fu (XD X) M55 x3 x1 r hr) q1882 q1884 qs97 q136 q1885 (dmMo hG rfl) rfl rfl (by decide +kernel) rfl rfl rfl rfl rfl rfl dX8_best_61 (fun v61 => [.int v61, .int v55]) (fun _ => rfl) (fun v61 M61 => ?_)
        refine j_icmp_le (tgt := 70) hC dX8_best_64 (by decide) (fun h64 => ?_) (fun h64 => ?_)
        · exact j_sub [0, 1, 2, 3, 4] rfl (wX8_best_70 hC hG hnl fu kn29 hk29 M61 x1 x2 x3 x4)
        · exact j_sub [0, 1, 2, 4] rfl (wX8_best_67 hC hG hnl fu kn29 hk29 M61 x1 x2 x4)
set_option linter.unusedVariables false in
set_option maxRecDepth 100000 in
theorem wX8_best_29 {X : JX} (hC : JC X cX8_best RX8 (some .int) 11 244 0 0) (hG : dmI dmM (XG X)) (hnl : nLof X = 5) (fu : Nat) (M : Mem) (x1 x2 x3 x4 : Int32) : J X (ZN X foI) (FX8_best_29 fu (XD X) M x1 x2 x3 x4) 29 [(0, .ref (gadr (XG X) (5, 0, 0))), (1, .int x1), (2, .int x2), (3, .int x3), (4, .int x4)] [] M 0 0 := by
  exact j_lp (lvf := fun z => [(0, .ref (gadr (XG X) (5, 0, 0))), (1, .int (z.2.1)), (2, .int (z.2.2.1)), (3, .int (z.2.2.2.1)), (4, .int (z.2.2.2.2))]) (Mf := fun z => z.1) (fun kn hk z => wgX8_best_29 hC hG hnl fu kn (fun M x1 x2 x3 x4 => hk (M, x1, x2, x3, x4)) z.1 z.2.1 z.2.2.1 z.2.2.2.1 z.2.2.2.2) fu (M, x1, x2, x3, x4)
set_option linter.unusedVariables false in
set_option maxRecDepth 100000 in
theorem wX8_best {X : JX} (hC : JC X cX8_best RX8 (some .int) 11 244 0 0) (hG : dmI dmM (XG X)) (hnl : nLof X = 5) (fu : Nat) (M : Mem) (x1 x2 : Int32) : J X (ZN X foI) (FX8_best fu (XD X) M x1 x2) 0 [(0, .ref (gadr (XG X) (5, 0, 0))), (1, .int x1), (2, .int x2)] [] M 0 0 := by
  unfold FX8_best
  refine j_aload_n hC 0 dX8_best_0 rfl ?_
  refine j_iconst (v := 0) hC dX8_best_1 (by decide) ?_
  refine j_put (fk := 0) (ty := .int) hC (dmMo hG rfl) rfl rfl in_X8 rfl rfl q1464 tyX8 tyX8_ok nmX8 rfl rfl (by decide +kernel) rfl rfl dX8_best_2 ?_
  refine j_lt (fun M2 => ?_)
  refine j_aload_n hC 0 dX8_best_5 rfl ?_
  refine j_aload_n hC 0 dX8_best_6 rfl ?_
  refine j_iload_n hC 1 dX8_best_7 rfl ?_
  refine j_callV (nA := 1) (rest := [.ref (gadr (XG X) (5, 0, 0))]) hC [.int x1] rfl (fun r hr => mX8_noBird (XL X) (XG X) hG fu (XD X) M2 x1 r hr) q1760 q1762 qs77 q136 q1763 (dmMo hG rfl) rfl rfl (by decide +kernel) rfl rfl rfl rfl rfl rfl dX8_best_8 (fun v8 => [.int v8, .ref (gadr (XG X) (5, 0, 0))]) (fun _ => rfl) (fun v8 M8 => ?_)
  refine j_iconst (v := 1) hC dX8_best_11 (by decide) ?_
  refine j_callV (nA := 2) (rest := []) hC [.int v8, .int 1] rfl (fun r hr => mX8_throwsIf (XL X) (XG X) hG fu (XD X) M8 v8 1 r hr) q1748 q1750 qs76 q136 q1751 (dmMo hG rfl) rfl rfl (by decide +kernel) rfl rfl rfl rfl rfl rfl dX8_best_12 (fun v12 => [.int v12]) (fun _ => rfl) (fun v12 M12 => ?_)
  refine j_if_eq (tgt := 20) hC dX8_best_15 (by decide) (fun h15 => ?_) (fun h15 => ?_)
  · refine j_aload_n hC 0 dX8_best_20 rfl ?_
    refine j_callV (nA := 0) (rest := []) hC [] rfl (fun r hr => mX8_laysAllGoods (XL X) (XG X) hG fu (XD X) M12 r hr) q1874 q1876 qs95 q136 q1877 (dmMo hG rfl) rfl rfl (by decide +kernel) rfl rfl rfl rfl rfl rfl dX8_best_21 (fun _ => []) (fun _ => rfl) (fun v21 M21 => ?_)
    refine j_iconst (v := (-1)) hC dX8_best_24 (by decide) ?_
    refine j_istore_n hC [(3, .int ((-1))), (0, .ref (gadr (XG X) (5, 0, 0))), (1, .int x1), (2, .int x2)] hnl dX8_best_25 rfl rfl ?_
    refine j_iconst (v := 0) hC dX8_best_26 (by decide) ?_
    refine j_istore hC [(4, .int 0), (3, .int ((-1))), (0, .ref (gadr (XG X) (5, 0, 0))), (1, .int x1), (2, .int x2)] hnl dX8_best_27 rfl rfl ?_
    exact j_sub [2, 3, 4, 1, 0] rfl (wX8_best_29 hC hG hnl fu M21 x1 x2 (-1) 0)
  · refine j_iconst (v := 0) hC dX8_best_18 (by decide) ?_
    exact j_iret hC dX8_best_19
set_option linter.unusedVariables false in
set_option maxRecDepth 100000 in
theorem mX8_best (l : Launch) (Γ : xG) (hG : dmI dmM Γ) (fu : Nat) (D : List LDen) (M : Mem) (x1 x2 : Int32) (r : Int32 × Mem) (hr : FX8_best fu D M x1 x2 = some r) : CN l yX8_best (ws_ yX8_best cX8_best 5 (some .int)) 11 244 Γ D [.ref (gadr Γ (5, 0, 0)), .int x1, .int x2] M (foI r.1) r.2 := by
  refine CN.of (own := RX8) (lv0 := lv_args 0 [.ref (gadr Γ (5, 0, 0)), .int x1, .int x2]) (by decide +kernel) rfl (Nat.le_of_ble_eq_true rfl) rfl (fun X e1 e2 e3 e4 hC => ?_) r hr
  subst e1
  subst e2
  exact wX8_best hC hG e4 fu M x1 x2
set_option linter.unusedVariables false in
set_option maxRecDepth 100000 in
theorem wX8_when_101 {X : JX} (hC : JC X cX8_when RX8 (some .int) 10 223 0 0) (hG : dmI dmM (XG X)) (hnl : nLof X = 8) (fu : Nat) (kn53 : Mem × Int32 × Int32 × Int32 × Int32 × Int32 × Int32 → Option (Int32 × Mem)) (hk53 : ∀ (M : Mem) (x1 x2 x3 x4 x5 x6 : Int32), J X (ZN X foI) (kn53 (M, x1, x2, x3, x4, x5, x6)) 53 [(0, .ref (gadr (XG X) (5, 0, 0))), (1, .int x1), (2, .int x2), (3, .int x3), (4, .int x4), (5, .int x5), (6, .int x6)] [] M 0 0) (M : Mem) (x1 x2 x3 x5 x6 x7 t0 : Int32) : J X (ZN X foI) (FX8_when_101 fu (XD X) kn53 M x1 x2 x3 x5 x6 x7 t0) 101 [(0, .ref (gadr (XG X) (5, 0, 0))), (1, .int x1), (2, .int x2), (3, .int x3), (5, .int x5), (6, .int x6), (7, .int x7)] [.int t0] M 0 0 := by
  unfold FX8_when_101
  refine j_istore hC [(4, .int t0), (0, .ref (gadr (XG X) (5, 0, 0))), (1, .int x1), (2, .int x2), (3, .int x3), (5, .int x5), (6, .int x6), (7, .int x7)] hnl dX8_when_101 rfl rfl ?_
  refine j_iload hC 5 dX8_when_103 rfl ?_
  refine j_iload hC 7 dX8_when_105 rfl ?_
  refine j_max hC q1803 q643 q155 q644 dX8_when_107 rfl (Nat.le_of_ble_eq_true rfl) (Nat.le_of_ble_eq_true rfl) (Nat.le_of_ble_eq_true rfl) ?_
  refine j_ltT (fun y110 => ?_)
  refine j_istore hC [(5, .int y110), (4, .int t0), (0, .ref (gadr (XG X) (5, 0, 0))), (1, .int x1), (2, .int x2), (3, .int x3), (6, .int x6), (7, .int x7)] hnl dX8_when_110 rfl rfl ?_
  refine j_iincL hC 6 (fun y112 => [(6, .int y112), (5, .int y110), (4, .int t0), (0, .ref (gadr (XG X) (5, 0, 0))), (1, .int x1), (2, .int x2), (3, .int x3), (7, .int x7)]) hnl dX8_when_112 rfl (by decide) rfl (fun _ => rfl) (fun y112 => ?_)
  refine j_goto (tgt := 53) hC dX8_when_115 (by decide) ?_
  exact j_sub [3, 4, 5, 6, 2, 1, 0] rfl (hk53 M x1 x2 x3 t0 y110 y112)
set_option linter.unusedVariables false in
set_option maxRecDepth 100000 in
theorem wgX8_when_53 {X : JX} (hC : JC X cX8_when RX8 (some .int) 10 223 0 0) (hG : dmI dmM (XG X)) (hnl : nLof X = 8) (fu : Nat) (kn53 : Mem × Int32 × Int32 × Int32 × Int32 × Int32 × Int32 → Option (Int32 × Mem)) (hk53 : ∀ (M : Mem) (x1 x2 x3 x4 x5 x6 : Int32), J X (ZN X foI) (kn53 (M, x1, x2, x3, x4, x5, x6)) 53 [(0, .ref (gadr (XG X) (5, 0, 0))), (1, .int x1), (2, .int x2), (3, .int x3), (4, .int x4), (5, .int x5), (6, .int x6)] [] M 0 0) (M : Mem) (x1 x2 x3 x4 x5 x6 : Int32) : J X (ZN X foI) (GX8_when_53 fu (XD X) kn53 M x1 x2 x3 x4 x5 x6) 53 [(0, .ref (gadr (XG X) (5, 0, 0))), (1, .int x1), (2, .int x2), (3, .int x3), (4, .int x4), (5, .int x5), (6, .int x6)] [] M 0 0 := by
  unfold GX8_when_53
  refine j_iload hC 6 dX8_when_53 rfl ?_
  refine j_bipush (v := 24) hC dX8_when_55 (by decide) ?_
  refine j_icmp_ge (tgt := 118) hC dX8_when_57 (by decide) (fun h57 => ?_) (fun h57 => ?_)
  · refine j_aload_n hC 0 dX8_when_118 rfl ?_
    refine j_getR (fk := 1) hC (dmMo hG rfl) rfl rfl in_X8 rfl rfl q1465 rfl dX8_when_119 ?_
    refine j_bipush (v := 6) hC dX8_when_122 (by decide) ?_
    refine j_iload_n hC 3 dX8_when_124 rfl ?_
    refine j_iast hC (dmMo hG rfl) rfl dX8_when_125 (fun h125 => ?_)
    refine j_lt (fun M125 => ?_)
    refine j_iload hC 4 dX8_when_126 rfl ?_
    exact j_iret hC dX8_when_128
  · refine j_aload_n hC 0 dX8_when_60 rfl ?_
    refine j_getR (fk := 1) hC (dmMo hG rfl) rfl rfl in_X8 rfl rfl q1465 rfl dX8_when_61 ?_
    refine j_bipush (v := 6) hC dX8_when_64 (by decide) ?_
    refine j_iload hC 6 dX8_when_66 rfl ?_
    refine j_iast hC (dmMo hG rfl) rfl dX8_when_68 (fun h68 => ?_)
    refine j_lt (fun M68 => ?_)
    refine j_aload_n hC 0 dX8_when_69 rfl ?_
    refine j_iload_n hC 1 dX8_when_70 rfl ?_
    refine j_callV (nA := 1) (rest := []) hC [.int x1] rfl (fun r hr => mX8_laysGoods (XL X) (XG X) hG fu (XD X) M68 x1 r hr) q1878 q1880 qs96 q136 q1881 (dmMo hG rfl) rfl rfl (by decide +kernel) rfl rfl rfl rfl rfl rfl dX8_when_71 (fun _ => []) (fun _ => rfl) (fun v71 M71 => ?_)
    refine j_aload_n hC 0 dX8_when_74 rfl ?_
    refine j_iload_n hC 2 dX8_when_75 rfl ?_
    refine j_callV (nA := 1) (rest := []) hC [.int x2] rfl (fun r hr => mX8_laysGoods (XL X) (XG X) hG fu (XD X) M71 x2 r hr) q1878 q1880 qs96 q136 q1881 (dmMo hG rfl) rfl rfl (by decide +kernel) rfl rfl rfl rfl rfl rfl dX8_when_76 (fun _ => []) (fun _ => rfl) (fun v76 M76 => ?_)
    refine j_aload_n hC 0 dX8_when_79 rfl ?_
    refine j_iload_n hC 1 dX8_when_80 rfl ?_
    refine j_iload_n hC 2 dX8_when_81 rfl ?_
    refine j_callV (nA := 2) (rest := []) hC [.int x1, .int x2] rfl (fun r hr => mX8_firstHas (XL X) (XG X) hG fu (XD X) M76 x1 x2 r hr) q1882 q1884 qs97 q136 q1885 (dmMo hG rfl) rfl rfl (by decide +kernel) rfl rfl rfl rfl rfl rfl dX8_when_82 (fun v82 => [.int v82]) (fun _ => rfl) (fun v82 M82 => ?_)
    refine j_istore hC [(7, .int v82), (0, .ref (gadr (XG X) (5, 0, 0))), (1, .int x1), (2, .int x2), (3, .int x3), (4, .int x4), (5, .int x5), (6, .int x6)] hnl dX8_when_85 rfl rfl ?_
    refine j_iload hC 0 dX8_when_87 rfl ?_
    refine j_iload hC 6 dX8_when_89 rfl ?_
    refine j_icmp_le (tgt := 99) hC dX8_when_91 (by decide) (fun h91 => ?_) (fun h91 => ?_)
    · refine j_iload hC 5 dX8_when_99 rfl ?_
      exact j_sub [1, 2, 3, 4, 6, 7, 0] rfl (wX8_when_101 hC hG hnl fu kn53 hk53 M82 x1 x2 x3 x5 x6 v82 x4)
    · refine j_iload hC 7 dX8_when_94 rfl ?_
      refine j_goto (tgt := 101) hC dX8_when_96 (by decide) ?_
      exact j_sub [1, 2, 3, 4, 6, 7, 0] rfl (wX8_when_101 hC hG hnl fu kn53 hk53 M82 x1 x2 x3 x5 x6 v82 x6)
set_option linter.unusedVariables false in
set_option maxRecDepth 100000 in
theorem wX8_when_53 {X : JX} (hC : JC X cX8_when RX8 (some .int) 10 223 0 0) (hG : dmI dmM (XG X)) (hnl : nLof X = 8) (fu : Nat) (M : Mem) (x1 x2 x3 x4 x5 x6 : Int32) : J X (ZN X foI) (FX8_when_53 fu (XD X) M x1 x2 x3 x4 x5 x6) 53 [(0, .ref (gadr (XG X) (5, 0, 0))), (1, .int x1), (2, .int x2), (3, .int x3), (4, .int x4), (5, .int x5), (6, .int x6)] [] M 0 0 := by
  exact j_lp (lvf := fun z => [(0, .ref (gadr (XG X) (5, 0, 0))), (1, .int (z.2.1)), (2, .int (z.2.2.1)), (3, .int (z.2.2.2.1)), (4, .int (z.2.2.2.2.1)), (5, .int (z.2.2.2.2.2.1)), (6, .int (z.2.2.2.2.2.2))]) (Mf := fun z => z.1) (fun kn hk z => wgX8_when_53 hC hG hnl fu kn (fun M x1 x2 x3 x4 x5 x6 => hk (M, x1, x2, x3, x4, x5, x6)) z.1 z.2.1 z.2.2.1 z.2.2.2.1 z.2.2.2.2.1 z.2.2.2.2.2.1 z.2.2.2.2.2.2) fu (M, x1, x2, x3, x4, x5, x6)
set_option linter.unusedVariables false in
set_option maxRecDepth 100000 in
theorem wX8_when_27 {X : JX} (hC : JC X cX8_when RX8 (some .int) 10 223 0 0) (hG : dmI dmM (XG X)) (hnl : nLof X = 8) (fu : Nat) (M : Mem) (x1 x2 t0 : Int32) : J X (ZN X foI) (FX8_when_27 fu (XD X) M x1 x2 t0) 27 [(0, .ref (gadr (XG X) (5, 0, 0))), (1, .int x1), (2, .int x2)] [.int t0, .ref (gadr (XG X) (5, 0, 0))] M 0 0 := by
  unfold FX8_when_27
  refine j_iconst (v := 1) hC dX8_when_27 (by decide) ?_
  refine j_callV (nA := 2) (rest := []) hC [.int t0, .int 1] rfl (fun r hr => mX8_throwsIf (XL X) (XG X) hG fu (XD X) M t0 1 r hr) q1748 q1750 qs76 q136 q1751 (dmMo hG rfl) rfl rfl (by decide +kernel) rfl rfl rfl rfl rfl rfl dX8_when_28 (fun v28 => [.int v28]) (fun _ => rfl) (fun v28 M28 => ?_)
  refine j_if_eq (tgt := 36) hC dX8_when_31 (by decide) (fun h31 => ?_) (fun h31 => ?_)
  · refine j_aload_n hC 0 dX8_when_36 rfl ?_
    refine j_getR (fk := 1) hC (dmMo hG rfl) rfl rfl in_X8 rfl rfl q1465 rfl dX8_when_37 ?_
    refine j_bipush (v := 6) hC dX8_when_40 (by decide) ?_
    refine j_iald hC (dmMo hG rfl) rfl dX8_when_42 (fun h42 => ?_)
    refine j_ltT (fun y43 => ?_)
    refine j_istore_n hC [(3, .int y43), (0, .ref (gadr (XG X) (5, 0, 0))), (1, .int x1), (2, .int x2)] hnl dX8_when_43 rfl rfl ?_
    refine j_iconst (v := 0) hC dX8_when_44 (by decide) ?_
    refine j_istore hC [(4, .int 0), (3, .int y43), (0, .ref (gadr (XG X) (5, 0, 0))), (1, .int x1), (2, .int x2)] hnl dX8_when_45 rfl rfl ?_
    refine j_iconst (v := (-1)) hC dX8_when_47 (by decide) ?_
    refine j_istore hC [(5, .int ((-1))), (4, .int 0), (3, .int y43), (0, .ref (gadr (XG X) (5, 0, 0))), (1, .int x1), (2, .int x2)] hnl dX8_when_48 rfl rfl ?_
    refine j_iconst (v := 0) hC dX8_when_50 (by decide) ?_
    refine j_istore hC [(6, .int 0), (5, .int ((-1))), (4, .int 0), (3, .int y43), (0, .ref (gadr (XG X) (5, 0, 0))), (1, .int x1), (2, .int x2)] hnl dX8_when_51 rfl rfl ?_
    exact j_sub [4, 5, 6, 3, 2, 1, 0] rfl (wX8_when_53 hC hG hnl fu M28 x1 x2 y43 0 (-1) 0)
  · refine j_iconst (v := 0) hC dX8_when_34 (by decide) ?_
    exact j_iret hC dX8_when_35
set_option linter.unusedVariables false in
set_option maxRecDepth 100000 in
theorem wX8_when_22 {X : JX} (hC : JC X cX8_when RX8 (some .int) 10 223 0 0) (hG : dmI dmM (XG X)) (hnl : nLof X = 8) (fu : Nat) (M : Mem) (x1 x2 : Int32) : J X (ZN X foI) (FX8_when_22 fu (XD X) M x1 x2) 22 [(0, .ref (gadr (XG X) (5, 0, 0))), (1, .int x1), (2, .int x2)] [.ref (gadr (XG X) (5, 0, 0))] M 0 0 := by
  unfold FX8_when_22
  refine j_iconst (v := 1) hC dX8_when_22 (by decide) ?_
  refine j_goto (tgt := 27) hC dX8_when_23 (by decide) ?_
  exact j_sub [0, 1, 2] rfl (wX8_when_27 hC hG hnl fu M x1 x2 1)
set_option linter.unusedVariables false in
set_option maxRecDepth 100000 in
theorem wX8_when {X : JX} (hC : JC X cX8_when RX8 (some .int) 10 223 0 0) (hG : dmI dmM (XG X)) (hnl : nLof X = 8) (fu : Nat) (M : Mem) (x1 x2 : Int32) : J X (ZN X foI) (FX8_when fu (XD X) M x1 x2) 0 [(0, .ref (gadr (XG X) (5, 0, 0))), (1, .int x1), (2, .int x2)] [] M 0 0 := by
  unfold FX8_when
  refine j_aload_n hC 0 dX8_when_0 rfl ?_
  refine j_iconst (v := 0) hC dX8_when_1 (by decide) ?_
  refine j_put (fk := 0) (ty := .int) hC (dmMo hG rfl) rfl rfl in_X8 rfl rfl q1464 tyX8 tyX8_ok nmX8 rfl rfl (by decide +kernel) rfl rfl dX8_when_2 ?_
  refine j_lt (fun M2 => ?_)
  refine j_aload_n hC 0 dX8_when_5 rfl ?_
  refine j_aload_n hC 0 dX8_when_6 rfl ?_
  refine j_iload_n hC 1 dX8_when_7 rfl ?_
  refine j_callV (nA := 1) (rest := [.ref (gadr (XG X) (5, 0, 0))]) hC [.int x1] rfl (fun r hr => mX8_noBird (XL X) (XG X) hG fu (XD X) M2 x1 r hr) q1760 q1762 qs77 q136 q1763 (dmMo hG rfl) rfl rfl (by decide +kernel) rfl rfl rfl rfl rfl rfl dX8_when_8 (fun v8 => [.int v8, .ref (gadr (XG X) (5, 0, 0))]) (fun _ => rfl) (fun v8 M8 => ?_)
  refine j_if_ne (tgt := 22) hC dX8_when_11 (by decide) (fun h11 => ?_) (fun h11 => ?_)
  · refine j_aload_n hC 0 dX8_when_14 rfl ?_
    refine j_iload_n hC 2 dX8_when_15 rfl ?_
    refine j_callV (nA := 1) (rest := [.ref (gadr (XG X) (5, 0, 0))]) hC [.int x2] rfl (fun r hr => mX8_noBird (XL X) (XG X) hG fu (XD X) M8 x2 r hr) q1760 q1762 qs77 q136 q1763 (dmMo hG rfl) rfl rfl (by decide +kernel) rfl rfl rfl rfl rfl rfl dX8_when_16 (fun v16 => [.int v16, .ref (gadr (XG X) (5, 0, 0))]) (fun _ => rfl) (fun v16 M16 => ?_)
    refine j_if_eq (tgt := 26) hC dX8_when_19 (by decide) (fun h19 => ?_) (fun h19 => ?_)
    · refine j_iconst (v := 0) hC dX8_when_26 (by decide) ?_
      exact j_sub [0, 1, 2] rfl (wX8_when_27 hC hG hnl fu M16 x1 x2 0)
    · exact j_sub [0, 1, 2] rfl (wX8_when_22 hC hG hnl fu M16 x1 x2)
  · exact j_sub [0, 1, 2] rfl (wX8_when_22 hC hG hnl fu M8 x1 x2)
set_option linter.unusedVariables false in
set_option maxRecDepth 100000 in
theorem mX8_when (l : Launch) (Γ : xG) (hG : dmI dmM Γ) (fu : Nat) (D : List LDen) (M : Mem) (x1 x2 : Int32) (r : Int32 × Mem) (hr : FX8_when fu D M x1 x2 = some r) : CN l yX8_when (ws_ yX8_when cX8_when 8 (some .int)) 10 223 Γ D [.ref (gadr Γ (5, 0, 0)), .int x1, .int x2] M (foI r.1) r.2 := by
  refine CN.of (own := RX8) (lv0 := lv_args 0 [.ref (gadr Γ (5, 0, 0)), .int x1, .int x2]) (by decide +kernel) rfl (Nat.le_of_ble_eq_true rfl) rfl (fun X e1 e2 e3 e4 hC => ?_) r hr
  subst e1
  subst e2
  exact wX8_when hC hG e4 fu M x1 x2
set_option linter.unusedVariables false in
set_option maxRecDepth 100000 in
theorem wX8_alike_87 {X : JX} (hC : JC X cX8_alike RX8 (some .int) 11 244 0 0) (hG : dmI dmM (XG X)) (hnl : nLof X = 6) (fu : Nat) (kn23 : Mem × Int32 × Int32 × Int32 → Option (Int32 × Mem)) (hk23 : ∀ (M : Mem) (x1 x2 x3 : Int32), J X (ZN X foI) (kn23 (M, x1, x2, x3)) 23 [(0, .ref (gadr (XG X) (5, 0, 0))), (1, .int x1), (2, .int x2), (3, .int x3)] [] M 0 0) (M : Mem) (x2 x3 t0 t1 : Int32) : J X (ZN X foI) (FX8_alike_87 fu (XD X) kn23 M x2 x3 t0 t1) 87 [(0, .ref (gadr (XG X) (5, 0, 0))), (2, .int x2), (3, .int x3)] [.int t0, .int t1] M 0 0 := by
  unfold FX8_alike_87
  refine j_iadd hC dX8_alike_87 ?_
  refine j_ltT (fun y88 => ?_)
  refine j_istore_n hC [(1, .int y88), (0, .ref (gadr (XG X) (5, 0, 0))), (2, .int x2), (3, .int x3)] hnl dX8_alike_88 rfl rfl ?_
  refine j_iincL hC 3 (fun y89 => [(3, .int y89), (1, .int y88), (0, .ref (gadr (XG X) (5, 0, 0))), (2, .int x2)]) hnl dX8_alike_89 rfl (by decide) rfl (fun _ => rfl) (fun y89 => ?_)
  refine j_goto (tgt := 23) hC dX8_alike_92 (by decide) ?_
  exact j_sub [2, 1, 3, 0] rfl (hk23 M y88 x2 y89)
set_option linter.unusedVariables false in
set_option maxRecDepth 100000 in
theorem wX8_alike_68 {X : JX} (hC : JC X cX8_alike RX8 (some .int) 11 244 0 0) (hG : dmI dmM (XG X)) (hnl : nLof X = 6) (fu : Nat) (kn34 : Mem × Int32 × Int32 × Int32 × Int32 × Int32 → Option (Int32 × Mem)) (hk34 : ∀ (M : Mem) (x1 x2 x3 x4 x5 : Int32), J X (ZN X foI) (kn34 (M, x1, x2, x3, x4, x5)) 34 [(0, .ref (gadr (XG X) (5, 0, 0))), (1, .int x1), (2, .int x2), (3, .int x3), (4, .int x4), (5, .int x5)] [] M 0 0) (M : Mem) (x1 x2 x3 x5 t0 : Int32) : J X (ZN X foI) (FX8_alike_68 fu (XD X) kn34 M x1 x2 x3 x5 t0) 68 [(0, .ref (gadr (XG X) (5, 0, 0))), (1, .int x1), (2, .int x2), (3, .int x3), (5, .int x5)] [.int t0] M 0 0 := by
  unfold FX8_alike_68
  refine j_istore hC [(4, .int t0), (0, .ref (gadr (XG X) (5, 0, 0))), (1, .int x1), (2, .int x2), (3, .int x3), (5, .int x5)] hnl dX8_alike_68 rfl rfl ?_
  refine j_iincL hC 5 (fun y70 => [(5, .int y70), (4, .int t0), (0, .ref (gadr (XG X) (5, 0, 0))), (1, .int x1), (2, .int x2), (3, .int x3)]) hnl dX8_alike_70 rfl (by decide) rfl (fun _ => rfl) (fun y70 => ?_)
  refine j_goto (tgt := 34) hC dX8_alike_73 (by decide) ?_
  exact j_sub [2, 3, 4, 5, 1, 0] rfl (hk34 M x1 x2 x3 t0 y70)
set_option linter.unusedVariables false in
set_option maxRecDepth 100000 in
theorem wX8_alike_67 {X : JX} (hC : JC X cX8_alike RX8 (some .int) 11 244 0 0) (hG : dmI dmM (XG X)) (hnl : nLof X = 6) (fu : Nat) (kn34 : Mem × Int32 × Int32 × Int32 × Int32 × Int32 → Option (Int32 × Mem)) (hk34 : ∀ (M : Mem) (x1 x2 x3 x4 x5 : Int32), J X (ZN X foI) (kn34 (M, x1, x2, x3, x4, x5)) 34 [(0, .ref (gadr (XG X) (5, 0, 0))), (1, .int x1), (2, .int x2), (3, .int x3), (4, .int x4), (5, .int x5)] [] M 0 0) (M : Mem) (x1 x2 x3 x5 : Int32) : J X (ZN X foI) (FX8_alike_67 fu (XD X) kn34 M x1 x2 x3 x5) 67 [(0, .ref (gadr (XG X) (5, 0, 0))), (1, .int x1), (2, .int x2), (3, .int x3), (5, .int x5)] [] M 0 0 := by
  unfold FX8_alike_67
  refine j_iconst (v := 0) hC dX8_alike_67 (by decide) ?_
  exact j_sub [0, 1, 2, 3, 4] rfl (wX8_alike_68 hC hG hnl fu kn34 hk34 M x1 x2 x3 x5 0)
set_option linter.unusedVariables false in
set_option maxRecDepth 100000 in
theorem wgX8_alike_34 {X : JX} (hC : JC X cX8_alike RX8 (some .int) 11 244 0 0) (hG : dmI dmM (XG X)) (hnl : nLof X = 6) (fu : Nat) (kn34 : Mem × Int32 × Int32 × Int32 × Int32 × Int32 → Option (Int32 × Mem)) (hk34 : ∀ (M : Mem) (x1 x2 x3 x4 x5 : Int32), J X (ZN X foI) (kn34 (M, x1, x2, x3, x4, x5)) 34 [(0, .ref (gadr (XG X) (5, 0, 0))), (1, .int x1), (2, .int x2), (3, .int x3), (4, .int x4), (5, .int x5)] [] M 0 0) (kn23 : Mem × Int32 × Int32 × Int32 → Option (Int32 × Mem)) (hk23 : ∀ (M : Mem) (x1 x2 x3 : Int32), J X (ZN X foI) (kn23 (M, x1, x2, x3)) 23 [(0, .ref (gadr (XG X) (5, 0, 0))), (1, .int x1), (2, .int x2), (3, .int x3)] [] M 0 0) (M : Mem) (x1 x2 x3 x4 x5 : Int32) : J X (ZN X foI) (GX8_alike_34 fu (XD X) kn34 kn23 M x1 x2 x3 x4 x5) 34 [(0, .ref (gadr (XG X) (5, 0, 0))), (1, .int x1), (2, .int x2), (3, .int x3), (4, .int x4), (5, .int x5)] [] M 0 0 := by
  unfold GX8_alike_34
  refine j_iload hC 5 dX8_alike_34 rfl ?_
  refine j_bipush (v := 8) hC dX8_alike_36 (by decide) ?_
  refine j_icmp_gt (tgt := 76) hC dX8_alike_38 (by decide) (fun h38 => ?_) (fun h38 => ?_)
  · refine j_iload_n hC 1 dX8_alike_76 rfl ?_
    refine j_iload hC 4 dX8_alike_77 rfl ?_
    refine j_if_eq (tgt := 86) hC dX8_alike_79 (by decide) (fun h79 => ?_) (fun h79 => ?_)
    · refine j_iconst (v := 0) hC dX8_alike_86 (by decide) ?_
      exact j_sub [0, 2, 3] rfl (wX8_alike_87 hC hG hnl fu kn23 hk23 M x2 x3 0 x1)
    · refine j_iconst (v := 1) hC dX8_alike_82 (by decide) ?_
      refine j_goto (tgt := 87) hC dX8_alike_83 (by decide) ?_
      exact j_sub [0, 2, 3] rfl (wX8_alike_87 hC hG hnl fu kn23 hk23 M x2 x3 1 x1)
  · refine j_iload hC 4 dX8_alike_41 rfl ?_
    refine j_if_eq (tgt := 67) hC dX8_alike_43 (by decide) (fun h43 => ?_) (fun h43 => ?_)
    · exact j_sub [0, 1, 2, 3, 5] rfl (wX8_alike_67 hC hG hnl fu kn34 hk34 M x1 x2 x3 x5)
    · refine j_aload_n hC 0 dX8_alike_46 rfl ?_
      refine j_iload_n hC 2 dX8_alike_47 rfl ?_
      refine j_iload hC 5 dX8_alike_48 rfl ?_
      refine j_callV (nA := 2) (rest := []) hC [.int x2, .int x5] rfl (fun r hr => mX8_goodOf (XL X) (XG X) hG fu (XD X) M x2 x5 r hr) q1886 q1888 qs98 q136 q1889 (dmMo hG rfl) rfl rfl (by decide +kernel) rfl rfl rfl rfl rfl rfl dX8_alike_50 (fun v50 => [.int v50]) (fun _ => rfl) (fun v50 M50 => ?_)
      refine j_aload_n hC 0 dX8_alike_53 rfl ?_
      refine j_iload_n hC 3 dX8_alike_54 rfl ?_
      refine j_iload hC 5 dX8_alike_55 rfl ?_
      refine j_callV (nA := 2) (rest := [.int v50]) hC [.int x3, .int x5] rfl (fun r hr => mX8_goodOf (XL X) (XG X) hG fu (XD X) M50 x3 x5 r hr) q1886 q1888 qs98 q136 q1889 (dmMo hG rfl) rfl rfl (by decide +kernel) rfl rfl rfl rfl rfl rfl dX8_alike_57 (fun v57 => [.int v57, .int v50]) (fun _ => rfl) (fun v57 M57 => ?_)
      refine j_icmp_ne (tgt := 67) hC dX8_alike_60 (by decide) (fun h60 => ?_) (fun h60 => ?_)
      · refine j_iconst (v := 1) hC dX8_alike_63 (by decide) ?_
        refine j_goto (tgt := 68) hC dX8_alike_64 (by decide) ?_
        exact j_sub [0, 1, 2, 3, 5] rfl (wX8_alike_68 hC hG hnl fu kn34 hk34 M57 x1 x2 x3 x5 1)
      · exact j_sub [0, 1, 2, 3, 5] rfl (wX8_alike_67 hC hG hnl fu kn34 hk34 M57 x1 x2 x3 x5)
set_option linter.unusedVariables false in
set_option maxRecDepth 100000 in
theorem wX8_alike_34 {X : JX} (hC : JC X cX8_alike RX8 (some .int) 11 244 0 0) (hG : dmI dmM (XG X)) (hnl : nLof X = 6) (fu : Nat) (kn23 : Mem × Int32 × Int32 × Int32 → Option (Int32 × Mem)) (hk23 : ∀ (M : Mem) (x1 x2 x3 : Int32), J X (ZN X foI) (kn23 (M, x1, x2, x3)) 23 [(0, .ref (gadr (XG X) (5, 0, 0))), (1, .int x1), (2, .int x2), (3, .int x3)] [] M 0 0) (M : Mem) (x1 x2 x3 x4 x5 : Int32) : J X (ZN X foI) (FX8_alike_34 fu (XD X) kn23 M x1 x2 x3 x4 x5) 34 [(0, .ref (gadr (XG X) (5, 0, 0))), (1, .int x1), (2, .int x2), (3, .int x3), (4, .int x4), (5, .int x5)] [] M 0 0 := by
  exact j_lp (lvf := fun z => [(0, .ref (gadr (XG X) (5, 0, 0))), (1, .int (z.2.1)), (2, .int (z.2.2.1)), (3, .int (z.2.2.2.1)), (4, .int (z.2.2.2.2.1)), (5, .int (z.2.2.2.2.2))]) (Mf := fun z => z.1) (fun kn hk z => wgX8_alike_34 hC hG hnl fu kn (fun M x1 x2 x3 x4 x5 => hk (M, x1, x2, x3, x4, x5)) kn23 hk23 z.1 z.2.1 z.2.2.1 z.2.2.2.1 z.2.2.2.2.1 z.2.2.2.2.2) fu (M, x1, x2, x3, x4, x5)
set_option linter.unusedVariables false in
set_option maxRecDepth 100000 in
theorem wgX8_alike_23 {X : JX} (hC : JC X cX8_alike RX8 (some .int) 11 244 0 0) (hG : dmI dmM (XG X)) (hnl : nLof X = 6) (fu : Nat) (kn23 : Mem × Int32 × Int32 × Int32 → Option (Int32 × Mem)) (hk23 : ∀ (M : Mem) (x1 x2 x3 : Int32), J X (ZN X foI) (kn23 (M, x1, x2, x3)) 23 [(0, .ref (gadr (XG X) (5, 0, 0))), (1, .int x1), (2, .int x2), (3, .int x3)] [] M 0 0) (kn13 : Mem × Int32 × Int32 → Option (Int32 × Mem)) (hk13 : ∀ (M : Mem) (x1 x2 : Int32), J X (ZN X foI) (kn13 (M, x1, x2)) 13 [(0, .ref (gadr (XG X) (5, 0, 0))), (1, .int x1), (2, .int x2)] [] M 0 0) (M : Mem) (x1 x2 x3 : Int32) : J X (ZN X foI) (GX8_alike_23 fu (XD X) kn23 kn13 M x1 x2 x3) 23 [(0, .ref (gadr (XG X) (5, 0, 0))), (1, .int x1), (2, .int x2), (3, .int x3)] [] M 0 0 := by
  unfold GX8_alike_23
  refine j_iload_n hC 3 dX8_alike_23 rfl ?_
  refine j_iload_n hC 2 dX8_alike_24 rfl ?_
  refine j_icmp_ge (tgt := 95) hC dX8_alike_25 (by decide) (fun h25 => ?_) (fun h25 => ?_)
  · refine j_iincL hC 2 (fun y95 => [(2, .int y95), (0, .ref (gadr (XG X) (5, 0, 0))), (1, .int x1), (3, .int x3)]) hnl dX8_alike_95 rfl (by decide) rfl (fun _ => rfl) (fun y95 => ?_)
    refine j_goto (tgt := 13) hC dX8_alike_98 (by decide) ?_
    exact j_sub [1, 2, 0] rfl (hk13 M x1 y95)
  · refine j_iconst (v := 1) hC dX8_alike_28 (by decide) ?_
    refine j_istore hC [(4, .int 1), (0, .ref (gadr (XG X) (5, 0, 0))), (1, .int x1), (2, .int x2), (3, .int x3)] hnl dX8_alike_29 rfl rfl ?_
    refine j_iconst (v := 1) hC dX8_alike_31 (by decide) ?_
    refine j_istore hC [(5, .int 1), (4, .int 1), (0, .ref (gadr (XG X) (5, 0, 0))), (1, .int x1), (2, .int x2), (3, .int x3)] hnl dX8_alike_32 rfl rfl ?_
    exact j_sub [2, 3, 4, 5, 1, 0] rfl (wX8_alike_34 hC hG hnl fu kn23 hk23 M x1 x2 x3 1 1)
set_option linter.unusedVariables false in
set_option maxRecDepth 100000 in
theorem wX8_alike_23 {X : JX} (hC : JC X cX8_alike RX8 (some .int) 11 244 0 0) (hG : dmI dmM (XG X)) (hnl : nLof X = 6) (fu : Nat) (kn13 : Mem × Int32 × Int32 → Option (Int32 × Mem)) (hk13 : ∀ (M : Mem) (x1 x2 : Int32), J X (ZN X foI) (kn13 (M, x1, x2)) 13 [(0, .ref (gadr (XG X) (5, 0, 0))), (1, .int x1), (2, .int x2)] [] M 0 0) (M : Mem) (x1 x2 x3 : Int32) : J X (ZN X foI) (FX8_alike_23 fu (XD X) kn13 M x1 x2 x3) 23 [(0, .ref (gadr (XG X) (5, 0, 0))), (1, .int x1), (2, .int x2), (3, .int x3)] [] M 0 0 := by
  exact j_lp (lvf := fun z => [(0, .ref (gadr (XG X) (5, 0, 0))), (1, .int (z.2.1)), (2, .int (z.2.2.1)), (3, .int (z.2.2.2))]) (Mf := fun z => z.1) (fun kn hk z => wgX8_alike_23 hC hG hnl fu kn (fun M x1 x2 x3 => hk (M, x1, x2, x3)) kn13 hk13 z.1 z.2.1 z.2.2.1 z.2.2.2) fu (M, x1, x2, x3)
set_option linter.unusedVariables false in
set_option maxRecDepth 100000 in
theorem wgX8_alike_13 {X : JX} (hC : JC X cX8_alike RX8 (some .int) 11 244 0 0) (hG : dmI dmM (XG X)) (hnl : nLof X = 6) (fu : Nat) (kn13 : Mem × Int32 × Int32 → Option (Int32 × Mem)) (hk13 : ∀ (M : Mem) (x1 x2 : Int32), J X (ZN X foI) (kn13 (M, x1, x2)) 13 [(0, .ref (gadr (XG X) (5, 0, 0))), (1, .int x1), (2, .int x2)] [] M 0 0) (M : Mem) (x1 x2 : Int32) : J X (ZN X foI) (GX8_alike_13 fu (XD X) kn13 M x1 x2) 13 [(0, .ref (gadr (XG X) (5, 0, 0))), (1, .int x1), (2, .int x2)] [] M 0 0 := by
  unfold GX8_alike_13
  refine j_iload_n hC 2 dX8_alike_13 rfl ?_
  refine j_aload_n hC 0 dX8_alike_14 rfl ?_
  refine j_callV (nA := 0) (rest := [.int x2]) hC [] rfl (fun r hr => mX8_birds (XL X) (XG X) hG fu (XD X) M r hr) q1622 q1624 qs54 q136 q1625 (dmMo hG rfl) rfl rfl (by decide +kernel) rfl rfl rfl rfl rfl rfl dX8_alike_15 (fun v15 => [.int v15, .int x2]) (fun _ => rfl) (fun v15 M15 => ?_)
  refine j_icmp_ge (tgt := 101) hC dX8_alike_18 (by decide) (fun h18 => ?_) (fun h18 => ?_)
  · refine j_iload_n hC 1 dX8_alike_101 rfl ?_
    exact j_iret hC dX8_alike_102
  · refine j_iconst (v := 0) hC dX8_alike_21 (by decide) ?_
    refine j_istore_n hC [(3, .int 0), (0, .ref (gadr (XG X) (5, 0, 0))), (1, .int x1), (2, .int x2)] hnl dX8_alike_22 rfl rfl ?_
    exact j_sub [1, 2, 3, 0] rfl (wX8_alike_23 hC hG hnl fu kn13 hk13 M15 x1 x2 0)
set_option linter.unusedVariables false in
set_option maxRecDepth 100000 in
theorem wX8_alike_13 {X : JX} (hC : JC X cX8_alike RX8 (some .int) 11 244 0 0) (hG : dmI dmM (XG X)) (hnl : nLof X = 6) (fu : Nat) (M : Mem) (x1 x2 : Int32) : J X (ZN X foI) (FX8_alike_13 fu (XD X) M x1 x2) 13 [(0, .ref (gadr (XG X) (5, 0, 0))), (1, .int x1), (2, .int x2)] [] M 0 0 := by
  exact j_lp (lvf := fun z => [(0, .ref (gadr (XG X) (5, 0, 0))), (1, .int (z.2.1)), (2, .int (z.2.2))]) (Mf := fun z => z.1) (fun kn hk z => wgX8_alike_13 hC hG hnl fu kn (fun M x1 x2 => hk (M, x1, x2)) z.1 z.2.1 z.2.2) fu (M, x1, x2)
set_option linter.unusedVariables false in
set_option maxRecDepth 100000 in
theorem wX8_alike {X : JX} (hC : JC X cX8_alike RX8 (some .int) 11 244 0 0) (hG : dmI dmM (XG X)) (hnl : nLof X = 6) (fu : Nat) (M : Mem) : J X (ZN X foI) (FX8_alike fu (XD X) M) 0 [(0, .ref (gadr (XG X) (5, 0, 0)))] [] M 0 0 := by
  unfold FX8_alike
  refine j_aload_n hC 0 dX8_alike_0 rfl ?_
  refine j_iconst (v := 0) hC dX8_alike_1 (by decide) ?_
  refine j_put (fk := 0) (ty := .int) hC (dmMo hG rfl) rfl rfl in_X8 rfl rfl q1464 tyX8 tyX8_ok nmX8 rfl rfl (by decide +kernel) rfl rfl dX8_alike_2 ?_
  refine j_lt (fun M2 => ?_)
  refine j_aload_n hC 0 dX8_alike_5 rfl ?_
  refine j_callV (nA := 0) (rest := []) hC [] rfl (fun r hr => mX8_laysAllGoods (XL X) (XG X) hG fu (XD X) M2 r hr) q1874 q1876 qs95 q136 q1877 (dmMo hG rfl) rfl rfl (by decide +kernel) rfl rfl rfl rfl rfl rfl dX8_alike_6 (fun _ => []) (fun _ => rfl) (fun v6 M6 => ?_)
  refine j_iconst (v := 0) hC dX8_alike_9 (by decide) ?_
  refine j_istore_n hC [(1, .int 0), (0, .ref (gadr (XG X) (5, 0, 0)))] hnl dX8_alike_10 rfl rfl ?_
  refine j_iconst (v := 0) hC dX8_alike_11 (by decide) ?_
  refine j_istore_n hC [(2, .int 0), (1, .int 0), (0, .ref (gadr (XG X) (5, 0, 0)))] hnl dX8_alike_12 rfl rfl ?_
  exact j_sub [2, 1, 0] rfl (wX8_alike_13 hC hG hnl fu M6 0 0)
set_option linter.unusedVariables false in
set_option maxRecDepth 100000 in
theorem mX8_alike (l : Launch) (Γ : xG) (hG : dmI dmM Γ) (fu : Nat) (D : List LDen) (M : Mem) (r : Int32 × Mem) (hr : FX8_alike fu D M = some r) : CN l yX8_alike (ws_ yX8_alike cX8_alike 6 (some .int)) 11 244 Γ D [.ref (gadr Γ (5, 0, 0))] M (foI r.1) r.2 := by
  refine CN.of (own := RX8) (lv0 := lv_args 0 [.ref (gadr Γ (5, 0, 0))]) (by decide +kernel) rfl (Nat.le_of_ble_eq_true rfl) rfl (fun X e1 e2 e3 e4 hC => ?_) r hr
  subst e1
  subst e2
  exact wX8_alike hC hG e4 fu M
set_option linter.unusedVariables false in
set_option maxRecDepth 100000 in
theorem wX8_bird_40 {X : JX} (hC : JC X cX8_bird RX8 (some .int) 3 55 0 0) (hG : dmI dmM (XG X)) (hnl : nLof X = 3) (fu : Nat) (M : Mem) : J X (ZN X foI) (FX8_bird_40 fu (XD X) M) 40 [] [] M 0 0 := by
  unfold FX8_bird_40
  refine j_iconst (v := 0) hC dX8_bird_40 (by decide) ?_
  exact j_iret hC dX8_bird_41
set_option linter.unusedVariables false in
set_option maxRecDepth 100000 in
theorem wX8_bird_33 {X : JX} (hC : JC X cX8_bird RX8 (some .int) 3 55 0 0) (hG : dmI dmM (XG X)) (hnl : nLof X = 3) (fu : Nat) (M : Mem) (x1 x2 t0 : Int32) : J X (ZN X foI) (FX8_bird_33 fu (XD X) M x1 x2 t0) 33 [(0, .ref (gadr (XG X) (5, 0, 0))), (1, .int x1), (2, .int x2)] [.int t0, .ref (gadr (XG X) (5, 0, 0))] M 0 0 := by
  unfold FX8_bird_33
  refine j_iconst (v := 2) hC dX8_bird_33 (by decide) ?_
  refine j_callV (nA := 2) (rest := []) hC [.int t0, .int 2] rfl (fun r hr => mX8_throwsIf (XL X) (XG X) hG fu (XD X) M t0 2 r hr) q1748 q1750 qs76 q136 q1751 (dmMo hG rfl) rfl rfl (by decide +kernel) rfl rfl rfl rfl rfl rfl dX8_bird_34 (fun v34 => [.int v34]) (fun _ => rfl) (fun v34 M34 => ?_)
  refine j_if_eq (tgt := 42) hC dX8_bird_37 (by decide) (fun h37 => ?_) (fun h37 => ?_)
  · refine j_aload_n hC 0 dX8_bird_42 rfl ?_
    refine j_iload_n hC 1 dX8_bird_43 rfl ?_
    refine j_iload_n hC 2 dX8_bird_44 rfl ?_
    refine j_callV (nA := 2) (rest := []) hC [.int x1, .int x2] rfl (fun r hr => mX8_ofBird (XL X) (XG X) hG fu (XD X) M34 x1 x2 r hr) q1778 q1780 qs80 q136 q1781 (dmMo hG rfl) rfl rfl (by decide +kernel) rfl rfl rfl rfl rfl rfl dX8_bird_45 (fun v45 => [.int v45]) (fun _ => rfl) (fun v45 M45 => ?_)
    exact j_iret hC dX8_bird_48
  · exact j_sub [] rfl (wX8_bird_40 hC hG hnl fu M34)
set_option linter.unusedVariables false in
set_option maxRecDepth 100000 in
theorem wX8_bird {X : JX} (hC : JC X cX8_bird RX8 (some .int) 3 55 0 0) (hG : dmI dmM (XG X)) (hnl : nLof X = 3) (fu : Nat) (M : Mem) (x1 x2 : Int32) : J X (ZN X foI) (FX8_bird fu (XD X) M x1 x2) 0 [(0, .ref (gadr (XG X) (5, 0, 0))), (1, .int x1), (2, .int x2)] [] M 0 0 := by
  unfold FX8_bird
  refine j_aload_n hC 0 dX8_bird_0 rfl ?_
  refine j_iconst (v := 0) hC dX8_bird_1 (by decide) ?_
  refine j_put (fk := 0) (ty := .int) hC (dmMo hG rfl) rfl rfl in_X8 rfl rfl q1464 tyX8 tyX8_ok nmX8 rfl rfl (by decide +kernel) rfl rfl dX8_bird_2 ?_
  refine j_lt (fun M2 => ?_)
  refine j_aload_n hC 0 dX8_bird_5 rfl ?_
  refine j_aload_n hC 0 dX8_bird_6 rfl ?_
  refine j_iload_n hC 1 dX8_bird_7 rfl ?_
  refine j_callV (nA := 1) (rest := [.ref (gadr (XG X) (5, 0, 0))]) hC [.int x1] rfl (fun r hr => mX8_noBird (XL X) (XG X) hG fu (XD X) M2 x1 r hr) q1760 q1762 qs77 q136 q1763 (dmMo hG rfl) rfl rfl (by decide +kernel) rfl rfl rfl rfl rfl rfl dX8_bird_8 (fun v8 => [.int v8, .ref (gadr (XG X) (5, 0, 0))]) (fun _ => rfl) (fun v8 M8 => ?_)
  refine j_iconst (v := 1) hC dX8_bird_11 (by decide) ?_
  refine j_callV (nA := 2) (rest := []) hC [.int v8, .int 1] rfl (fun r hr => mX8_throwsIf (XL X) (XG X) hG fu (XD X) M8 v8 1 r hr) q1748 q1750 qs76 q136 q1751 (dmMo hG rfl) rfl rfl (by decide +kernel) rfl rfl rfl rfl rfl rfl dX8_bird_12 (fun v12 => [.int v12]) (fun _ => rfl) (fun v12 M12 => ?_)
  refine j_if_ne (tgt := 40) hC dX8_bird_15 (by decide) (fun h15 => ?_) (fun h15 => ?_)
  · refine j_aload_n hC 0 dX8_bird_18 rfl ?_
    refine j_iload_n hC 2 dX8_bird_19 rfl ?_
    refine j_iconst (v := 0) hC dX8_bird_20 (by decide) ?_
    refine j_iconst (v := 3) hC dX8_bird_21 (by decide) ?_
    refine j_callS (nA := 3) (rest := [.ref (gadr (XG X) (5, 0, 0))]) hC [.int x2, .int 0, .int 3] rfl (fun r hr => mX8_in (XL X) (XG X) hG fu (XD X) M12 x2 0 3 r hr) q1641 q1642 q136 q1643 (by decide +kernel) rfl rfl rfl rfl rfl rfl dX8_bird_22 (fun v22 => [.int v22, .ref (gadr (XG X) (5, 0, 0))]) (fun _ => rfl) (fun v22 M22 => ?_)
    refine j_if_ne (tgt := 32) hC dX8_bird_25 (by decide) (fun h25 => ?_) (fun h25 => ?_)
    · refine j_iconst (v := 1) hC dX8_bird_28 (by decide) ?_
      refine j_goto (tgt := 33) hC dX8_bird_29 (by decide) ?_
      exact j_sub [0, 1, 2] rfl (wX8_bird_33 hC hG hnl fu M22 x1 x2 1)
    · refine j_iconst (v := 0) hC dX8_bird_32 (by decide) ?_
      exact j_sub [0, 1, 2] rfl (wX8_bird_33 hC hG hnl fu M22 x1 x2 0)
  · exact j_sub [] rfl (wX8_bird_40 hC hG hnl fu M12)
set_option linter.unusedVariables false in
set_option maxRecDepth 100000 in
theorem mX8_bird (l : Launch) (Γ : xG) (hG : dmI dmM Γ) (fu : Nat) (D : List LDen) (M : Mem) (x1 x2 : Int32) (r : Int32 × Mem) (hr : FX8_bird fu D M x1 x2 = some r) : CN l yX8_bird (ws_ yX8_bird cX8_bird 3 (some .int)) 3 55 Γ D [.ref (gadr Γ (5, 0, 0)), .int x1, .int x2] M (foI r.1) r.2 := by
  refine CN.of (own := RX8) (lv0 := lv_args 0 [.ref (gadr Γ (5, 0, 0)), .int x1, .int x2]) (by decide +kernel) rfl (Nat.le_of_ble_eq_true rfl) rfl (fun X e1 e2 e3 e4 hC => ?_) r hr
  subst e1
  subst e2
  exact wX8_bird hC hG e4 fu M x1 x2
set_option linter.unusedVariables false in
set_option maxRecDepth 100000 in
theorem wX8_noCounsel_19 {X : JX} (hC : JC X cX8_noCounsel RX8 (some .boolean) 2 34 0 0) (hG : dmI dmM (XG X)) (hnl : nLof X = 2) (fu : Nat) (M : Mem) (t0 : Int32) : J X (ZN X foI) (FX8_noCounsel_19 fu (XD X) M t0) 19 [] [.int t0] M 0 0 := by
  unfold FX8_noCounsel_19
  exact j_zret hC rfl dX8_noCounsel_19
set_option linter.unusedVariables false in
set_option maxRecDepth 100000 in
theorem wX8_noCounsel {X : JX} (hC : JC X cX8_noCounsel RX8 (some .boolean) 2 34 0 0) (hG : dmI dmM (XG X)) (hnl : nLof X = 2) (fu : Nat) (M : Mem) (x1 : Int32) : J X (ZN X foI) (FX8_noCounsel fu (XD X) M x1) 0 [(0, .ref (gadr (XG X) (5, 0, 0))), (1, .int x1)] [] M 0 0 := by
  unfold FX8_noCounsel
  refine j_iload_n hC 1 dX8_noCounsel_0 rfl ?_
  refine j_iconst (v := 0) hC dX8_noCounsel_1 (by decide) ?_
  refine j_aload_n hC 0 dX8_noCounsel_2 rfl ?_
  refine j_callV (nA := 0) (rest := [.int 0, .int x1]) hC [] rfl (fun r hr => mX8_counsel (XL X) (XG X) hG fu (XD X) M r hr) q1656 q1658 qs59 q136 q1659 (dmMo hG rfl) rfl rfl (by decide +kernel) rfl rfl rfl rfl rfl rfl dX8_noCounsel_3 (fun v3 => [.int v3, .int 0, .int x1]) (fun _ => rfl) (fun v3 M3 => ?_)
  refine j_iconst (v := 1) hC dX8_noCounsel_6 (by decide) ?_
  refine j_isub hC dX8_noCounsel_7 ?_
  refine j_callS (nA := 3) (rest := []) hC [.int x1, .int 0, .int (v3 - 1)] rfl (fun r hr => mX8_in (XL X) (XG X) hG fu (XD X) M3 x1 0 (v3 - 1) r hr) q1641 q1642 q136 q1643 (by decide +kernel) rfl rfl rfl rfl rfl rfl dX8_noCounsel_8 (fun v8 => [.int v8]) (fun _ => rfl) (fun v8 M8 => ?_)
  refine j_if_ne (tgt := 18) hC dX8_noCounsel_11 (by decide) (fun h11 => ?_) (fun h11 => ?_)
  · refine j_iconst (v := 1) hC dX8_noCounsel_14 (by decide) ?_
    refine j_goto (tgt := 19) hC dX8_noCounsel_15 (by decide) ?_
    exact j_sub [] rfl (wX8_noCounsel_19 hC hG hnl fu M8 1)
  · refine j_iconst (v := 0) hC dX8_noCounsel_18 (by decide) ?_
    exact j_sub [] rfl (wX8_noCounsel_19 hC hG hnl fu M8 0)
set_option linter.unusedVariables false in
set_option maxRecDepth 100000 in
theorem mX8_noCounsel (l : Launch) (Γ : xG) (hG : dmI dmM Γ) (fu : Nat) (D : List LDen) (M : Mem) (x1 : Int32) (r : Int32 × Mem) (hr : FX8_noCounsel fu D M x1 = some r) : CN l yX8_noCounsel (ws_ yX8_noCounsel cX8_noCounsel 2 (some .boolean)) 2 34 Γ D [.ref (gadr Γ (5, 0, 0)), .int x1] M (foI r.1) r.2 := by
  refine CN.of (own := RX8) (lv0 := lv_args 0 [.ref (gadr Γ (5, 0, 0)), .int x1]) (by decide +kernel) rfl (Nat.le_of_ble_eq_true rfl) rfl (fun X e1 e2 e3 e4 hC => ?_) r hr
  subst e1
  subst e2
  exact wX8_noCounsel hC hG e4 fu M x1
set_option linter.unusedVariables false in
set_option maxRecDepth 100000 in
theorem wX8_stockOf {X : JX} (hC : JC X cX8_stockOf RX8 (some .int) 2 33 0 0) (hG : dmI dmM (XG X)) (hnl : nLof X = 3) (fu : Nat) (M : Mem) (x1 x2 : Int32) : J X (ZN X foI) (FX8_stockOf fu (XD X) M x1 x2) 0 [(0, .ref (gadr (XG X) (5, 0, 0))), (1, .int x1), (2, .int x2)] [] M 0 0 := by
  unfold FX8_stockOf
  refine j_aload_n hC 0 dX8_stockOf_0 rfl ?_
  refine j_getR (fk := 1) hC (dmMo hG rfl) rfl rfl in_X8 rfl rfl q1465 rfl dX8_stockOf_1 ?_
  refine j_iload_n hC 1 dX8_stockOf_4 rfl ?_
  refine j_iload_n hC 2 dX8_stockOf_5 rfl ?_
  refine j_callS (nA := 2) (rest := [.ref (gadr (XG X) (5, 0, 1))]) hC [.int x1, .int x2] rfl (fun r hr => mX8_stockAt (XL X) (XG X) hG fu (XD X) M x1 x2 r hr) q1648 q1649 q136 q1650 (by decide +kernel) rfl rfl rfl rfl rfl rfl dX8_stockOf_6 (fun v6 => [.int v6, .ref (gadr (XG X) (5, 0, 1))]) (fun _ => rfl) (fun v6 M6 => ?_)
  refine j_iald hC (dmMo hG rfl) rfl dX8_stockOf_9 (fun h9 => ?_)
  exact j_iret hC dX8_stockOf_10
set_option linter.unusedVariables false in
set_option maxRecDepth 100000 in
theorem mX8_stockOf (l : Launch) (Γ : xG) (hG : dmI dmM Γ) (fu : Nat) (D : List LDen) (M : Mem) (x1 x2 : Int32) (r : Int32 × Mem) (hr : FX8_stockOf fu D M x1 x2 = some r) : CN l yX8_stockOf (ws_ yX8_stockOf cX8_stockOf 3 (some .int)) 2 33 Γ D [.ref (gadr Γ (5, 0, 0)), .int x1, .int x2] M (foI r.1) r.2 := by
  refine CN.of (own := RX8) (lv0 := lv_args 0 [.ref (gadr Γ (5, 0, 0)), .int x1, .int x2]) (by decide +kernel) rfl (Nat.le_of_ble_eq_true rfl) rfl (fun X e1 e2 e3 e4 hC => ?_) r hr
  subst e1
  subst e2
  exact wX8_stockOf hC hG e4 fu M x1 x2
set_option linter.unusedVariables false in
set_option maxRecDepth 100000 in
theorem wX8_stock_44 {X : JX} (hC : JC X cX8_stock RX8 (some .int) 3 55 0 0) (hG : dmI dmM (XG X)) (hnl : nLof X = 3) (fu : Nat) (M : Mem) (t0 : Int32) : J X (ZN X foI) (FX8_stock_44 fu (XD X) M t0) 44 [] [.int t0] M 0 0 := by
  unfold FX8_stock_44
  exact j_iret hC dX8_stock_44
set_option linter.unusedVariables false in
set_option maxRecDepth 100000 in
theorem wX8_stock_27 {X : JX} (hC : JC X cX8_stock RX8 (some .int) 3 55 0 0) (hG : dmI dmM (XG X)) (hnl : nLof X = 3) (fu : Nat) (M : Mem) (x1 x2 t0 : Int32) : J X (ZN X foI) (FX8_stock_27 fu (XD X) M x1 x2 t0) 27 [(0, .ref (gadr (XG X) (5, 0, 0))), (1, .int x1), (2, .int x2)] [.int t0, .ref (gadr (XG X) (5, 0, 0))] M 0 0 := by
  unfold FX8_stock_27
  refine j_iconst (v := 1) hC dX8_stock_27 (by decide) ?_
  refine j_callV (nA := 2) (rest := []) hC [.int t0, .int 1] rfl (fun r hr => mX8_throwsIf (XL X) (XG X) hG fu (XD X) M t0 1 r hr) q1748 q1750 qs76 q136 q1751 (dmMo hG rfl) rfl rfl (by decide +kernel) rfl rfl rfl rfl rfl rfl dX8_stock_28 (fun v28 => [.int v28]) (fun _ => rfl) (fun v28 M28 => ?_)
  refine j_if_eq (tgt := 38) hC dX8_stock_31 (by decide) (fun h31 => ?_) (fun h31 => ?_)
  · refine j_aload_n hC 0 dX8_stock_38 rfl ?_
    refine j_iload_n hC 1 dX8_stock_39 rfl ?_
    refine j_iload_n hC 2 dX8_stock_40 rfl ?_
    refine j_callV (nA := 2) (rest := []) hC [.int x1, .int x2] rfl (fun r hr => mX8_stockOf (XL X) (XG X) hG fu (XD X) M28 x1 x2 r hr) q1922 q1924 qs102 q136 q1925 (dmMo hG rfl) rfl rfl (by decide +kernel) rfl rfl rfl rfl rfl rfl dX8_stock_41 (fun v41 => [.int v41]) (fun _ => rfl) (fun v41 M41 => ?_)
    exact j_sub [] rfl (wX8_stock_44 hC hG hnl fu M41 v41)
  · refine j_iconst (v := 0) hC dX8_stock_34 (by decide) ?_
    refine j_goto (tgt := 44) hC dX8_stock_35 (by decide) ?_
    exact j_sub [] rfl (wX8_stock_44 hC hG hnl fu M28 0)
set_option linter.unusedVariables false in
set_option maxRecDepth 100000 in
theorem wX8_stock_22 {X : JX} (hC : JC X cX8_stock RX8 (some .int) 3 55 0 0) (hG : dmI dmM (XG X)) (hnl : nLof X = 3) (fu : Nat) (M : Mem) (x1 x2 : Int32) : J X (ZN X foI) (FX8_stock_22 fu (XD X) M x1 x2) 22 [(0, .ref (gadr (XG X) (5, 0, 0))), (1, .int x1), (2, .int x2)] [.ref (gadr (XG X) (5, 0, 0))] M 0 0 := by
  unfold FX8_stock_22
  refine j_iconst (v := 1) hC dX8_stock_22 (by decide) ?_
  refine j_goto (tgt := 27) hC dX8_stock_23 (by decide) ?_
  exact j_sub [0, 1, 2] rfl (wX8_stock_27 hC hG hnl fu M x1 x2 1)
set_option linter.unusedVariables false in
set_option maxRecDepth 100000 in
theorem wX8_stock {X : JX} (hC : JC X cX8_stock RX8 (some .int) 3 55 0 0) (hG : dmI dmM (XG X)) (hnl : nLof X = 3) (fu : Nat) (M : Mem) (x1 x2 : Int32) : J X (ZN X foI) (FX8_stock fu (XD X) M x1 x2) 0 [(0, .ref (gadr (XG X) (5, 0, 0))), (1, .int x1), (2, .int x2)] [] M 0 0 := by
  unfold FX8_stock
  refine j_aload_n hC 0 dX8_stock_0 rfl ?_
  refine j_iconst (v := 0) hC dX8_stock_1 (by decide) ?_
  refine j_put (fk := 0) (ty := .int) hC (dmMo hG rfl) rfl rfl in_X8 rfl rfl q1464 tyX8 tyX8_ok nmX8 rfl rfl (by decide +kernel) rfl rfl dX8_stock_2 ?_
  refine j_lt (fun M2 => ?_)
  refine j_aload_n hC 0 dX8_stock_5 rfl ?_
  refine j_aload_n hC 0 dX8_stock_6 rfl ?_
  refine j_iload_n hC 1 dX8_stock_7 rfl ?_
  refine j_callV (nA := 1) (rest := [.ref (gadr (XG X) (5, 0, 0))]) hC [.int x1] rfl (fun r hr => mX8_noCounsel (XL X) (XG X) hG fu (XD X) M2 x1 r hr) q1918 q1920 qs101 q136 q1921 (dmMo hG rfl) rfl rfl (by decide +kernel) rfl rfl rfl rfl rfl rfl dX8_stock_8 (fun v8 => [.int v8, .ref (gadr (XG X) (5, 0, 0))]) (fun _ => rfl) (fun v8 M8 => ?_)
  refine j_if_ne (tgt := 22) hC dX8_stock_11 (by decide) (fun h11 => ?_) (fun h11 => ?_)
  · refine j_aload_n hC 0 dX8_stock_14 rfl ?_
    refine j_iload_n hC 2 dX8_stock_15 rfl ?_
    refine j_callV (nA := 1) (rest := [.ref (gadr (XG X) (5, 0, 0))]) hC [.int x2] rfl (fun r hr => mX8_noBird (XL X) (XG X) hG fu (XD X) M8 x2 r hr) q1760 q1762 qs77 q136 q1763 (dmMo hG rfl) rfl rfl (by decide +kernel) rfl rfl rfl rfl rfl rfl dX8_stock_16 (fun v16 => [.int v16, .ref (gadr (XG X) (5, 0, 0))]) (fun _ => rfl) (fun v16 M16 => ?_)
    refine j_if_eq (tgt := 26) hC dX8_stock_19 (by decide) (fun h19 => ?_) (fun h19 => ?_)
    · refine j_iconst (v := 0) hC dX8_stock_26 (by decide) ?_
      exact j_sub [0, 1, 2] rfl (wX8_stock_27 hC hG hnl fu M16 x1 x2 0)
    · exact j_sub [0, 1, 2] rfl (wX8_stock_22 hC hG hnl fu M16 x1 x2)
  · exact j_sub [0, 1, 2] rfl (wX8_stock_22 hC hG hnl fu M8 x1 x2)
set_option linter.unusedVariables false in
set_option maxRecDepth 100000 in
theorem mX8_stock (l : Launch) (Γ : xG) (hG : dmI dmM Γ) (fu : Nat) (D : List LDen) (M : Mem) (x1 x2 : Int32) (r : Int32 × Mem) (hr : FX8_stock fu D M x1 x2 = some r) : CN l yX8_stock (ws_ yX8_stock cX8_stock 3 (some .int)) 3 55 Γ D [.ref (gadr Γ (5, 0, 0)), .int x1, .int x2] M (foI r.1) r.2 := by
  refine CN.of (own := RX8) (lv0 := lv_args 0 [.ref (gadr Γ (5, 0, 0)), .int x1, .int x2]) (by decide +kernel) rfl (Nat.le_of_ble_eq_true rfl) rfl (fun X e1 e2 e3 e4 hC => ?_) r hr
  subst e1
  subst e2
  exact wX8_stock hC hG e4 fu M x1 x2
set_option linter.unusedVariables false in
set_option maxRecDepth 100000 in
theorem wX8_noCase_19 {X : JX} (hC : JC X cX8_noCase RX8 (some .boolean) 2 34 0 0) (hG : dmI dmM (XG X)) (hnl : nLof X = 2) (fu : Nat) (M : Mem) (t0 : Int32) : J X (ZN X foI) (FX8_noCase_19 fu (XD X) M t0) 19 [] [.int t0] M 0 0 := by
  unfold FX8_noCase_19
  exact j_zret hC rfl dX8_noCase_19
set_option linter.unusedVariables false in
set_option maxRecDepth 100000 in
theorem wX8_noCase {X : JX} (hC : JC X cX8_noCase RX8 (some .boolean) 2 34 0 0) (hG : dmI dmM (XG X)) (hnl : nLof X = 2) (fu : Nat) (M : Mem) (x1 : Int32) : J X (ZN X foI) (FX8_noCase fu (XD X) M x1) 0 [(0, .ref (gadr (XG X) (5, 0, 0))), (1, .int x1)] [] M 0 0 := by
  unfold FX8_noCase
  refine j_iload_n hC 1 dX8_noCase_0 rfl ?_
  refine j_iconst (v := 0) hC dX8_noCase_1 (by decide) ?_
  refine j_aload_n hC 0 dX8_noCase_2 rfl ?_
  refine j_callV (nA := 0) (rest := [.int 0, .int x1]) hC [] rfl (fun r hr => mX8_cases (XL X) (XG X) hG fu (XD X) M r hr) q1665 q1667 qs61 q136 q1668 (dmMo hG rfl) rfl rfl (by decide +kernel) rfl rfl rfl rfl rfl rfl dX8_noCase_3 (fun v3 => [.int v3, .int 0, .int x1]) (fun _ => rfl) (fun v3 M3 => ?_)
  refine j_iconst (v := 1) hC dX8_noCase_6 (by decide) ?_
  refine j_isub hC dX8_noCase_7 ?_
  refine j_callS (nA := 3) (rest := []) hC [.int x1, .int 0, .int (v3 - 1)] rfl (fun r hr => mX8_in (XL X) (XG X) hG fu (XD X) M3 x1 0 (v3 - 1) r hr) q1641 q1642 q136 q1643 (by decide +kernel) rfl rfl rfl rfl rfl rfl dX8_noCase_8 (fun v8 => [.int v8]) (fun _ => rfl) (fun v8 M8 => ?_)
  refine j_if_ne (tgt := 18) hC dX8_noCase_11 (by decide) (fun h11 => ?_) (fun h11 => ?_)
  · refine j_iconst (v := 1) hC dX8_noCase_14 (by decide) ?_
    refine j_goto (tgt := 19) hC dX8_noCase_15 (by decide) ?_
    exact j_sub [] rfl (wX8_noCase_19 hC hG hnl fu M8 1)
  · refine j_iconst (v := 0) hC dX8_noCase_18 (by decide) ?_
    exact j_sub [] rfl (wX8_noCase_19 hC hG hnl fu M8 0)
set_option linter.unusedVariables false in
set_option maxRecDepth 100000 in
theorem mX8_noCase (l : Launch) (Γ : xG) (hG : dmI dmM Γ) (fu : Nat) (D : List LDen) (M : Mem) (x1 : Int32) (r : Int32 × Mem) (hr : FX8_noCase fu D M x1 = some r) : CN l yX8_noCase (ws_ yX8_noCase cX8_noCase 2 (some .boolean)) 2 34 Γ D [.ref (gadr Γ (5, 0, 0)), .int x1] M (foI r.1) r.2 := by
  refine CN.of (own := RX8) (lv0 := lv_args 0 [.ref (gadr Γ (5, 0, 0)), .int x1]) (by decide +kernel) rfl (Nat.le_of_ble_eq_true rfl) rfl (fun X e1 e2 e3 e4 hC => ?_) r hr
  subst e1
  subst e2
  exact wX8_noCase hC hG e4 fu M x1
set_option linter.unusedVariables false in
set_option maxRecDepth 100000 in
theorem wX8_ofCase {X : JX} (hC : JC X cX8_ofCase RX8 (some .int) 2 33 0 0) (hG : dmI dmM (XG X)) (hnl : nLof X = 3) (fu : Nat) (M : Mem) (x1 x2 : Int32) : J X (ZN X foI) (FX8_ofCase fu (XD X) M x1 x2) 0 [(0, .ref (gadr (XG X) (5, 0, 0))), (1, .int x1), (2, .int x2)] [] M 0 0 := by
  unfold FX8_ofCase
  refine j_aload_n hC 0 dX8_ofCase_0 rfl ?_
  refine j_getR (fk := 1) hC (dmMo hG rfl) rfl rfl in_X8 rfl rfl q1465 rfl dX8_ofCase_1 ?_
  refine j_iload_n hC 1 dX8_ofCase_4 rfl ?_
  refine j_iload_n hC 2 dX8_ofCase_5 rfl ?_
  refine j_callS (nA := 2) (rest := [.ref (gadr (XG X) (5, 0, 1))]) hC [.int x1, .int x2] rfl (fun r hr => mX8_caseAt (XL X) (XG X) hG fu (XD X) M x1 x2 r hr) q1670 q1671 q136 q1672 (by decide +kernel) rfl rfl rfl rfl rfl rfl dX8_ofCase_6 (fun v6 => [.int v6, .ref (gadr (XG X) (5, 0, 1))]) (fun _ => rfl) (fun v6 M6 => ?_)
  refine j_iald hC (dmMo hG rfl) rfl dX8_ofCase_9 (fun h9 => ?_)
  exact j_iret hC dX8_ofCase_10
set_option linter.unusedVariables false in
set_option maxRecDepth 100000 in
theorem mX8_ofCase (l : Launch) (Γ : xG) (hG : dmI dmM Γ) (fu : Nat) (D : List LDen) (M : Mem) (x1 x2 : Int32) (r : Int32 × Mem) (hr : FX8_ofCase fu D M x1 x2 = some r) : CN l yX8_ofCase (ws_ yX8_ofCase cX8_ofCase 3 (some .int)) 2 33 Γ D [.ref (gadr Γ (5, 0, 0)), .int x1, .int x2] M (foI r.1) r.2 := by
  refine CN.of (own := RX8) (lv0 := lv_args 0 [.ref (gadr Γ (5, 0, 0)), .int x1, .int x2]) (by decide +kernel) rfl (Nat.le_of_ble_eq_true rfl) rfl (fun X e1 e2 e3 e4 hC => ?_) r hr
  subst e1
  subst e2
  exact wX8_ofCase hC hG e4 fu M x1 x2
set_option linter.unusedVariables false in
set_option maxRecDepth 100000 in
theorem wX8_choices_52 {X : JX} (hC : JC X cX8_choices RX8 (some .int) 3 55 0 0) (hG : dmI dmM (XG X)) (hnl : nLof X = 5) (fu : Nat) (kn5 : Mem × Int32 × Int32 × Int32 × Int32 → Option (Int32 × Mem)) (hk5 : ∀ (M : Mem) (x1 x2 x3 x4 : Int32), J X (ZN X foI) (kn5 (M, x1, x2, x3, x4)) 5 [(0, .ref (gadr (XG X) (5, 0, 0))), (1, .int x1), (2, .int x2), (3, .int x3), (4, .int x4)] [] M 0 0) (M : Mem) (x1 x2 x4 t0 t1 : Int32) : J X (ZN X foI) (FX8_choices_52 fu (XD X) kn5 M x1 x2 x4 t0 t1) 52 [(0, .ref (gadr (XG X) (5, 0, 0))), (1, .int x1), (2, .int x2), (4, .int x4)] [.int t0, .int t1] M 0 0 := by
  unfold FX8_choices_52
  refine j_ior hC dX8_choices_52 ?_
  refine j_ltT (fun y53 => ?_)
  refine j_istore_n hC [(3, .int y53), (0, .ref (gadr (XG X) (5, 0, 0))), (1, .int x1), (2, .int x2), (4, .int x4)] hnl dX8_choices_53 rfl rfl ?_
  refine j_iincL hC 4 (fun y54 => [(4, .int y54), (3, .int y53), (0, .ref (gadr (XG X) (5, 0, 0))), (1, .int x1), (2, .int x2)]) hnl dX8_choices_54 rfl (by decide) rfl (fun _ => rfl) (fun y54 => ?_)
  refine j_goto (tgt := 5) hC dX8_choices_57 (by decide) ?_
  exact j_sub [2, 3, 4, 1, 0] rfl (hk5 M x1 x2 y53 y54)
set_option linter.unusedVariables false in
set_option maxRecDepth 100000 in
theorem wX8_choices_51 {X : JX} (hC : JC X cX8_choices RX8 (some .int) 3 55 0 0) (hG : dmI dmM (XG X)) (hnl : nLof X = 5) (fu : Nat) (kn5 : Mem × Int32 × Int32 × Int32 × Int32 → Option (Int32 × Mem)) (hk5 : ∀ (M : Mem) (x1 x2 x3 x4 : Int32), J X (ZN X foI) (kn5 (M, x1, x2, x3, x4)) 5 [(0, .ref (gadr (XG X) (5, 0, 0))), (1, .int x1), (2, .int x2), (3, .int x3), (4, .int x4)] [] M 0 0) (M : Mem) (x1 x2 x4 t0 : Int32) : J X (ZN X foI) (FX8_choices_51 fu (XD X) kn5 M x1 x2 x4 t0) 51 [(0, .ref (gadr (XG X) (5, 0, 0))), (1, .int x1), (2, .int x2), (4, .int x4)] [.int t0] M 0 0 := by
  unfold FX8_choices_51
  refine j_iconst (v := 0) hC dX8_choices_51 (by decide) ?_
  exact j_sub [0, 1, 2, 3] rfl (wX8_choices_52 hC hG hnl fu kn5 hk5 M x1 x2 x4 0 t0)
set_option linter.unusedVariables false in
set_option maxRecDepth 100000 in
theorem wgX8_choices_5 {X : JX} (hC : JC X cX8_choices RX8 (some .int) 3 55 0 0) (hG : dmI dmM (XG X)) (hnl : nLof X = 5) (fu : Nat) (kn5 : Mem × Int32 × Int32 × Int32 × Int32 → Option (Int32 × Mem)) (hk5 : ∀ (M : Mem) (x1 x2 x3 x4 : Int32), J X (ZN X foI) (kn5 (M, x1, x2, x3, x4)) 5 [(0, .ref (gadr (XG X) (5, 0, 0))), (1, .int x1), (2, .int x2), (3, .int x3), (4, .int x4)] [] M 0 0) (M : Mem) (x1 x2 x3 x4 : Int32) : J X (ZN X foI) (GX8_choices_5 fu (XD X) kn5 M x1 x2 x3 x4) 5 [(0, .ref (gadr (XG X) (5, 0, 0))), (1, .int x1), (2, .int x2), (3, .int x3), (4, .int x4)] [] M 0 0 := by
  unfold GX8_choices_5
  refine j_iload hC 4 dX8_choices_5 rfl ?_
  refine j_aload_n hC 0 dX8_choices_7 rfl ?_
  refine j_callV (nA := 0) (rest := [.int x4]) hC [] rfl (fun r hr => mX8_birds (XL X) (XG X) hG fu (XD X) M r hr) q1622 q1624 qs54 q136 q1625 (dmMo hG rfl) rfl rfl (by decide +kernel) rfl rfl rfl rfl rfl rfl dX8_choices_8 (fun v8 => [.int v8, .int x4]) (fun _ => rfl) (fun v8 M8 => ?_)
  refine j_icmp_ge (tgt := 60) hC dX8_choices_11 (by decide) (fun h11 => ?_) (fun h11 => ?_)
  · refine j_iload_n hC 3 dX8_choices_60 rfl ?_
    exact j_iret hC dX8_choices_61
  · refine j_iload_n hC 3 dX8_choices_14 rfl ?_
    refine j_aload_n hC 0 dX8_choices_15 rfl ?_
    refine j_iload_n hC 1 dX8_choices_16 rfl ?_
    refine j_iconst (v := 2) hC dX8_choices_17 (by decide) ?_
    refine j_callV (nA := 2) (rest := [.int x3]) hC [.int x1, .int 2] rfl (fun r hr => mX8_ofCase (XL X) (XG X) hG fu (XD X) M8 x1 2 r hr) q1934 q1936 qs104 q136 q1937 (dmMo hG rfl) rfl rfl (by decide +kernel) rfl rfl rfl rfl rfl rfl dX8_choices_18 (fun v18 => [.int v18, .int x3]) (fun _ => rfl) (fun v18 M18 => ?_)
    refine j_iload hC 4 dX8_choices_21 rfl ?_
    refine j_callS (nA := 2) (rest := [.int x3]) hC [.int v18, .int x4] rfl (fun r hr => mX8_has (XL X) (XG X) hG fu (XD X) M18 v18 x4 r hr) q1644 q1645 q136 q1646 (by decide +kernel) rfl rfl rfl rfl rfl rfl dX8_choices_23 (fun v23 => [.int v23, .int x3]) (fun _ => rfl) (fun v23 M23 => ?_)
    refine j_if_eq (tgt := 51) hC dX8_choices_26 (by decide) (fun h26 => ?_) (fun h26 => ?_)
    · exact j_sub [0, 1, 2, 4] rfl (wX8_choices_51 hC hG hnl fu kn5 hk5 M23 x1 x2 x4 x3)
    · refine j_aload_n hC 0 dX8_choices_29 rfl ?_
      refine j_aload_n hC 0 dX8_choices_30 rfl ?_
      refine j_iload_n hC 1 dX8_choices_31 rfl ?_
      refine j_iload_n hC 2 dX8_choices_32 rfl ?_
      refine j_callV (nA := 2) (rest := [.ref (gadr (XG X) (5, 0, 0)), .int x3]) hC [.int x1, .int x2] rfl (fun r hr => mX8_ofCase (XL X) (XG X) hG fu (XD X) M23 x1 x2 r hr) q1934 q1936 qs104 q136 q1937 (dmMo hG rfl) rfl rfl (by decide +kernel) rfl rfl rfl rfl rfl rfl dX8_choices_33 (fun v33 => [.int v33, .ref (gadr (XG X) (5, 0, 0)), .int x3]) (fun _ => rfl) (fun v33 M33 => ?_)
      refine j_iload hC 4 dX8_choices_36 rfl ?_
      refine j_callV (nA := 2) (rest := [.int x3]) hC [.int v33, .int x4] rfl (fun r hr => mX8_stockOf (XL X) (XG X) hG fu (XD X) M33 v33 x4 r hr) q1922 q1924 qs102 q136 q1925 (dmMo hG rfl) rfl rfl (by decide +kernel) rfl rfl rfl rfl rfl rfl dX8_choices_38 (fun v38 => [.int v38, .int x3]) (fun _ => rfl) (fun v38 M38 => ?_)
      refine j_if_le (tgt := 51) hC dX8_choices_41 (by decide) (fun h41 => ?_) (fun h41 => ?_)
      · exact j_sub [0, 1, 2, 4] rfl (wX8_choices_51 hC hG hnl fu kn5 hk5 M38 x1 x2 x4 x3)
      · refine j_iconst (v := 1) hC dX8_choices_44 (by decide) ?_
        refine j_iload hC 4 dX8_choices_45 rfl ?_
        refine j_ishl hC dX8_choices_47 ?_
        refine j_goto (tgt := 52) hC dX8_choices_48 (by decide) ?_
        exact j_sub [0, 1, 2, 4] rfl (wX8_choices_52 hC hG hnl fu kn5 hk5 M38 x1 x2 x4 (1 <<< (x4 &&& 31)) x3)
set_option linter.unusedVariables false in
set_option maxRecDepth 100000 in
theorem wX8_choices_5 {X : JX} (hC : JC X cX8_choices RX8 (some .int) 3 55 0 0) (hG : dmI dmM (XG X)) (hnl : nLof X = 5) (fu : Nat) (M : Mem) (x1 x2 x3 x4 : Int32) : J X (ZN X foI) (FX8_choices_5 fu (XD X) M x1 x2 x3 x4) 5 [(0, .ref (gadr (XG X) (5, 0, 0))), (1, .int x1), (2, .int x2), (3, .int x3), (4, .int x4)] [] M 0 0 := by
  exact j_lp (lvf := fun z => [(0, .ref (gadr (XG X) (5, 0, 0))), (1, .int (z.2.1)), (2, .int (z.2.2.1)), (3, .int (z.2.2.2.1)), (4, .int (z.2.2.2.2))]) (Mf := fun z => z.1) (fun kn hk z => wgX8_choices_5 hC hG hnl fu kn (fun M x1 x2 x3 x4 => hk (M, x1, x2, x3, x4)) z.1 z.2.1 z.2.2.1 z.2.2.2.1 z.2.2.2.2) fu (M, x1, x2, x3, x4)
set_option linter.unusedVariables false in
set_option maxRecDepth 100000 in
theorem wX8_choices {X : JX} (hC : JC X cX8_choices RX8 (some .int) 3 55 0 0) (hG : dmI dmM (XG X)) (hnl : nLof X = 5) (fu : Nat) (M : Mem) (x1 x2 : Int32) : J X (ZN X foI) (FX8_choices fu (XD X) M x1 x2) 0 [(0, .ref (gadr (XG X) (5, 0, 0))), (1, .int x1), (2, .int x2)] [] M 0 0 := by
  unfold FX8_choices
  refine j_iconst (v := 0) hC dX8_choices_0 (by decide) ?_
  refine j_istore_n hC [(3, .int 0), (0, .ref (gadr (XG X) (5, 0, 0))), (1, .int x1), (2, .int x2)] hnl dX8_choices_1 rfl rfl ?_
  refine j_iconst (v := 0) hC dX8_choices_2 (by decide) ?_
  refine j_istore hC [(4, .int 0), (3, .int 0), (0, .ref (gadr (XG X) (5, 0, 0))), (1, .int x1), (2, .int x2)] hnl dX8_choices_3 rfl rfl ?_
  exact j_sub [2, 3, 4, 1, 0] rfl (wX8_choices_5 hC hG hnl fu M x1 x2 0 0)
set_option linter.unusedVariables false in
set_option maxRecDepth 100000 in
theorem mX8_choices (l : Launch) (Γ : xG) (hG : dmI dmM Γ) (fu : Nat) (D : List LDen) (M : Mem) (x1 x2 : Int32) (r : Int32 × Mem) (hr : FX8_choices fu D M x1 x2 = some r) : CN l yX8_choices (ws_ yX8_choices cX8_choices 5 (some .int)) 3 55 Γ D [.ref (gadr Γ (5, 0, 0)), .int x1, .int x2] M (foI r.1) r.2 := by
  refine CN.of (own := RX8) (lv0 := lv_args 0 [.ref (gadr Γ (5, 0, 0)), .int x1, .int x2]) (by decide +kernel) rfl (Nat.le_of_ble_eq_true rfl) rfl (fun X e1 e2 e3 e4 hC => ?_) r hr
  subst e1
  subst e2
  exact wX8_choices hC hG e4 fu M x1 x2
