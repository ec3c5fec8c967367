/-! FeatherYard.court (printed by gen/gen.py) -/
set_option maxRecDepth 100000
set_option linter.unusedVariables false in
def FX1_court_50 (fu : Nat) (D : List LDen) (M : Mem) (t0 : Int32) : Option TR :=
  bh (FX1_mayBe fu D M t0) (fun _ M50 => bd (FX3_be fu D 0 2 M50) (fun _ M58 => lt (up M58 (0, 0, 0) 11 ((M58 (0, 0, 0) 11) + 1)) (fun M71 => lt (up M71 (4, 0, 0) 13 0) (fun M76 => some (0, M76 (0, 0, 0) 11, M76))))) (fun e M50 => some (e, 0, M50))
set_option linter.unusedVariables false in
def FX1_court (fu : Nat) (D : List LDen) (M : Mem) : Option TR :=
  bd (FX1_took fu D M) (fun v1 M1 => lt (up M1 (4, 0, 0) 12 (-1)) (fun M7 => bh (FX2_court fu D 0 M7 v1) (fun v19 M19 => if 12 ≤ (M19 (0, 0, 0) 11) then FX1_court_50 fu D M19 0 else FX1_court_50 fu D M19 1) (fun e M19 => if e = 6 then some (1, 0, wrM M19) else none)))
set_option linter.unusedVariables false in
set_option maxRecDepth 100000 in
theorem wX1_court_50 {X : JX} (hC : JC X cX1_court RX1 (some .int) 11 280 1 6) (hT : JTW X [(10, 23, 26, 118)]) (hG : dmI dmX (XG X)) (hnl : nLof X = 4) (fu : Nat) (M : Mem) (t0 : Int32) : J X (ZT X foI 1 6) (FX1_court_50 fu (XD X) M t0) 50 [(0, .ref (gadr (XG X) (4, 0, 0))), (2, .ref (gadr (XG X) (0, 2, 0)))] [.int t0] M 0 0 := by
  unfold FX1_court_50
  refine j_callSH (nA := 1) (rest := []) hC [.int t0] rfl (fun r hr => mX1_mayBe (XL X) (JTW.st hT) (XG X) hG fu (XD X) M t0 r hr) q893 q894 q126 q895 (by decide +kernel) rfl rfl rfl rfl rfl rfl dX1_court_50 (fun _ => []) (fun _ => rfl) (fun v50 M50 => ?_) (fun e M50 => ?_)
  · refine j_aload_n hC 0 dX1_court_53 rfl ?_
    refine j_getR (fk := 1) hC (dmY hG rfl) rfl rfl in_X1 rfl rfl q496 rfl dX1_court_54 ?_
    refine j_aload_n hC 1 dX1_court_57 rfl ?_
    refine j_callV (nA := 1) (rest := []) hC [.ref (gadr (XG X) (0, 2, 0))] rfl (fun r hr => mX3_be (XL X) (XG X) hG fu (XD X) 0 (by decide) 2 (by decide) M50 r hr) q698 q699 q700 q128 q701 (dmS hG (by decide) rfl) rfl rfl (by decide +kernel) rfl rfl rfl rfl rfl rfl dX1_court_58 (fun _ => []) (fun _ => rfl) (fun v58 M58 => ?_)
    refine j_aload_n hC 0 dX1_court_61 rfl ?_
    refine j_getR (fk := 1) hC (dmY hG rfl) rfl rfl in_X1 rfl rfl q496 rfl dX1_court_62 ?_
    refine j_dup hC dX1_court_65 rfl ?_
    refine j_getNI (fk := 11) hC (dmS hG (by decide) rfl) rfl rfl in_X3 rfl rfl q284 rfl dX1_court_66 ?_
    refine j_iconst (v := 1) hC dX1_court_69 (by decide) ?_
    refine j_iadd hC dX1_court_70 ?_
    refine j_putN (fk := 11) (ty := .int) hC (dmS hG (by decide) rfl) rfl rfl in_X3 rfl rfl q284 tyX3 tyX3_ok nmX3 rfl rfl (by decide +kernel) rfl rfl dX1_court_71 ?_
    refine j_lt (fun M71 => ?_)
    refine j_aload_n hC 0 dX1_court_74 rfl ?_
    refine j_iconst (v := 0) hC dX1_court_75 (by decide) ?_
    refine j_put (fk := 13) (ty := .int) hC (dmY hG rfl) rfl rfl in_X1 rfl rfl q509 tyX1 tyX1_ok nmX1 rfl rfl (by decide +kernel) rfl rfl dX1_court_76 ?_
    refine j_lt (fun M76 => ?_)
    refine j_aload_n hC 0 dX1_court_79 rfl ?_
    refine j_getR (fk := 1) hC (dmY hG rfl) rfl rfl in_X1 rfl rfl q496 rfl dX1_court_80 ?_
    refine j_getNI (fk := 11) hC (dmS hG (by decide) rfl) rfl rfl in_X3 rfl rfl q284 rfl dX1_court_83 ?_
    exact j_iretT hC rfl rfl dX1_court_86
  · exact jh_out hC hT (by omega) (by decide) (by decide) (by decide)
set_option linter.unusedVariables false in
set_option maxRecDepth 100000 in
theorem wX1_court {X : JX} (hC : JC X cX1_court RX1 (some .int) 11 280 1 6) (hT : JTW X [(10, 23, 26, 118)]) (hG : dmI dmX (XG X)) (hnl : nLof X = 4) (fu : Nat) (M : Mem) : J X (ZT X foI 1 6) (FX1_court fu (XD X) M) 0 [(0, .ref (gadr (XG X) (4, 0, 0)))] [] M 0 0 := by
  unfold FX1_court
  refine j_aload_n hC 0 dX1_court_0 rfl ?_
  refine j_callV (nA := 0) (rest := []) hC [] rfl (fun r hr => mX1_took (XL X) (XG X) hG fu (XD X) M r hr) q742 q744 qs8 q126 q745 (dmY hG rfl) rfl rfl (by decide +kernel) rfl rfl rfl rfl rfl rfl dX1_court_1 (fun v1 => [.int v1]) (fun _ => rfl) (fun v1 M1 => ?_)
  refine j_istore_n hC [(1, .int v1), (0, .ref (gadr (XG X) (4, 0, 0)))] hnl dX1_court_4 rfl rfl ?_
  refine j_aload_n hC 1 dX1_court_5 rfl ?_
  refine j_iconst (v := (-1)) hC dX1_court_6 (by decide) ?_
  refine j_put (fk := 12) (ty := .int) hC (dmY hG rfl) rfl rfl in_X1 rfl rfl q508 tyX1 tyX1_ok nmX1 rfl rfl (by decide +kernel) rfl rfl dX1_court_7 ?_
  refine j_lt (fun M7 => ?_)
  refine j_aload_n hC 1 dX1_court_10 rfl ?_
  refine j_getR (fk := 0) hC (dmY hG rfl) rfl rfl in_X1 rfl rfl q495 rfl dX1_court_11 ?_
  refine j_iload_n hC 0 dX1_court_14 rfl ?_
  refine j_aload_n hC 1 dX1_court_15 rfl ?_
  refine j_getR (fk := 1) hC (dmY hG rfl) rfl rfl in_X1 rfl rfl q496 rfl dX1_court_16 ?_
  refine j_callVH (nA := 2) (rest := []) hC [.int v1, .ref (gadr (XG X) (0, 0, 0))] rfl (fun r hr => mX2_court (XL X) (JTW.st hT) (XG X) hG fu (XD X) 0 (by decide) M7 v1 r hr) q746 q747 q748 q127 q749 (dmY hG rfl) rfl rfl (by decide +kernel) rfl rfl rfl rfl rfl rfl dX1_court_19 (fun v19 => [.ref (gadr (XG X) (0, 2, 0))]) (fun _ => rfl) (fun v19 M19 => ?_) (fun e M19 => ?_)
  · refine j_astore_n hC [(2, .ref (gadr (XG X) (0, 2, 0))), (1, .int v1), (0, .ref (gadr (XG X) (4, 0, 0)))] hnl dX1_court_22 rfl rfl ?_
    refine j_goto (tgt := 33) hC dX1_court_23 (by decide) ?_
    refine j_aload_n hC 2 dX1_court_33 rfl ?_
    refine j_getR (fk := 1) hC (dmY hG rfl) rfl rfl in_X1 rfl rfl q496 rfl dX1_court_34 ?_
    refine j_getNI (fk := 11) hC (dmS hG (by decide) rfl) rfl rfl in_X3 rfl rfl q284 rfl dX1_court_37 ?_
    refine j_bipush (v := 12) hC dX1_court_40 (by decide) ?_
    refine j_icmp_ge (tgt := 49) hC dX1_court_42 (by decide) (fun h42 => ?_) (fun h42 => ?_)
    · refine j_iconst (v := 0) hC dX1_court_49 (by decide) ?_
      exact j_sub [2, 0] rfl (wX1_court_50 hC hT hG hnl fu M19 0)
    · refine j_iconst (v := 1) hC dX1_court_45 (by decide) ?_
      refine j_goto (tgt := 50) hC dX1_court_46 (by decide) ?_
      exact j_sub [2, 0] rfl (wX1_court_50 hC hT hG hnl fu M19 1)
  · refine jh_case ?_ ?_
    · refine jh_catchW hC hT (by decide) (by decide) q741 ?_
      refine j_astore_n hC [(3, .ref (gadr (XG X) (4, 0, 13))), (1, .int v1), (0, .ref (gadr (XG X) (4, 0, 0)))] hnl dX1_court_26 rfl rfl ?_
      refine j_aload_n hC 2 dX1_court_27 rfl ?_
      refine j_aload_n hC 0 dX1_court_28 rfl ?_
      exact j_isWrong hC (JTW.st hT) hG (JTW.nc hT (by decide)) q868 q870 qs23 q126 q871 rfl rfl rfl rfl dX1_court_29 dX1_court_32
    exact jh_none
set_option linter.unusedVariables false in
set_option maxRecDepth 100000 in
theorem mX1_court (l : Launch) (hst : l.stackTraces = false) (Γ : xG) (hG : dmI dmX Γ) (fu : Nat) (D : List LDen) (M : Mem) (r : TR) (hr : FX1_court fu D M = some r) : CT l yX1_court (wsW_ yX1_court cX1_court 4 (some .int) [(10, 23, 26, 118)]) 11 280 1 6 Γ D [.ref (gadr Γ (4, 0, 0))] M foI r := by
  refine CTW.of hst (own := RX1) (lv0 := lv_args 0 [.ref (gadr Γ (4, 0, 0))]) (by decide +kernel) rfl (Nat.le_of_ble_eq_true rfl) rfl (fun X e1 e2 e3 e4 hC hT => ?_) r hr
  subst e1
  subst e2
  exact wX1_court hC hT hG e4 fu M
