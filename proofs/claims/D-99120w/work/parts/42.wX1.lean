/-! FeatherYard, Ways: the walks (printed by gen/gen.py) -/
set_option maxRecDepth 100000
set_option linter.unusedVariables false in
set_option maxRecDepth 100000 in
theorem wX1_blow {X : JX} (hC : JC X cX1_blow RX1 (some .int) 7 113 2 12) (hT : JT X) (hG : dmI dmX (XG X)) (hnl : nLof X = 4) (fu : Nat) (M : Mem) (x1 x2 : Int32) : J X (ZT X foI 2 12) (FX1_blow fu (XD X) M x1 x2) 0 [(0, .ref (gadr (XG X) (4, 0, 0))), (1, .int x1), (2, .int x2)] [] M 0 0 := by
  unfold FX1_blow
  refine j_iload_n hC 1 dX1_blow_0 rfl ?_
  refine j_iconst (v := 0) hC dX1_blow_1 (by decide) ?_
  refine j_bipush (v := 12) hC dX1_blow_2 (by decide) ?_
  refine j_callS (nA := 3) (rest := []) hC [.int x1, .int 0, .int 12] rfl (fun r hr => mX1_isIn (XL X) (XG X) hG fu (XD X) M x1 0 12 r hr) q558 q559 q126 q560 (by decide +kernel) rfl rfl rfl rfl rfl rfl dX1_blow_4 (fun v4 => [.int v4]) (fun _ => rfl) (fun v4 M4 => ?_)
  refine j_callST (nA := 1) (rest := []) hC hT [.int v4] rfl (fun r hr => mX1_mustBe (XL X) (JT.st hT) (XG X) hG fu (XD X) M4 v4 r hr) q1093 q1094 q126 q1095 (by decide +kernel) rfl rfl rfl rfl rfl rfl dX1_blow_7 (fun _ => []) (fun _ => rfl) (fun v7 M7 => ?_)
  refine j_iload_n hC 2 dX1_blow_10 rfl ?_
  refine j_bipush (v := (-3)) hC dX1_blow_11 (by decide) ?_
  refine j_iconst (v := 3) hC dX1_blow_13 (by decide) ?_
  refine j_callS (nA := 3) (rest := []) hC [.int x2, .int ((-3)), .int 3] rfl (fun r hr => mX1_isIn (XL X) (XG X) hG fu (XD X) M7 x2 (-3) 3 r hr) q558 q559 q126 q560 (by decide +kernel) rfl rfl rfl rfl rfl rfl dX1_blow_14 (fun v14 => [.int v14]) (fun _ => rfl) (fun v14 M14 => ?_)
  refine j_callST (nA := 1) (rest := []) hC hT [.int v14] rfl (fun r hr => mX1_must (XL X) (JT.st hT) (XG X) hG fu (XD X) M14 v14 r hr) q1167 q1168 q126 q1169 (by decide +kernel) rfl rfl rfl rfl rfl rfl dX1_blow_17 (fun _ => []) (fun _ => rfl) (fun v17 M17 => ?_)
  refine j_aload_n hC 0 dX1_blow_20 rfl ?_
  refine j_callV (nA := 0) (rest := []) hC [] rfl (fun r hr => mX1_remembers (XL X) (XG X) hG fu (XD X) M17 r hr) q1198 q1200 qs33 q126 q1201 (dmY hG rfl) rfl rfl (by decide +kernel) rfl rfl rfl rfl rfl rfl dX1_blow_21 (fun _ => []) (fun _ => rfl) (fun v21 M21 => ?_)
  refine j_aload_n hC 0 dX1_blow_24 rfl ?_
  refine j_getR (fk := 1) hC (dmY hG rfl) rfl rfl in_X1 rfl rfl q496 rfl dX1_blow_25 ?_
  refine j_getNR (fk := 4) hC (dmS hG (by decide) rfl) rfl rfl in_X3 rfl rfl q269 rfl dX1_blow_28 ?_
  refine j_iload_n hC 1 dX1_blow_31 rfl ?_
  refine j_iald hC (dmS hG (by decide) rfl) rfl dX1_blow_32 (fun h32 => ?_)
  refine j_ltT (fun y33 => ?_)
  refine j_istore_n hC [(3, .int y33), (0, .ref (gadr (XG X) (4, 0, 0))), (1, .int x1), (2, .int x2)] hnl dX1_blow_33 rfl rfl ?_
  refine j_aload_n hC 1 dX1_blow_34 rfl ?_
  refine j_getR (fk := 1) hC (dmY hG rfl) rfl rfl in_X1 rfl rfl q496 rfl dX1_blow_35 ?_
  refine j_getNR (fk := 4) hC (dmS hG (by decide) rfl) rfl rfl in_X3 rfl rfl q269 rfl dX1_blow_38 ?_
  refine j_iload_n hC 2 dX1_blow_41 rfl ?_
  refine j_iload_n hC 3 dX1_blow_42 rfl ?_
  refine j_iast hC (dmS hG (by decide) rfl) rfl dX1_blow_43 (fun h43 => ?_)
  refine j_lt (fun M43 => ?_)
  refine j_iload_n hC 0 dX1_blow_44 rfl ?_
  exact j_iretT hC rfl rfl dX1_blow_45
set_option linter.unusedVariables false in
set_option maxRecDepth 100000 in
theorem mX1_blow (l : Launch) (hst : l.stackTraces = false) (Γ : xG) (hG : dmI dmX Γ) (fu : Nat) (D : List LDen) (M : Mem) (x1 x2 : Int32) (r : TR) (hr : FX1_blow fu D M x1 x2 = some r) : CT l yX1_blow (ws_ yX1_blow cX1_blow 4 (some .int)) 7 113 2 12 Γ D [.ref (gadr Γ (4, 0, 0)), .int x1, .int x2] M foI r := by
  refine CT.of hst (own := RX1) (lv0 := lv_args 0 [.ref (gadr Γ (4, 0, 0)), .int x1, .int x2]) (by decide +kernel) rfl (Nat.le_of_ble_eq_true rfl) rfl (fun X e1 e2 e3 e4 hC hT => ?_) r hr
  subst e1
  subst e2
  exact wX1_blow hC hT hG e4 fu M x1 x2
set_option linter.unusedVariables false in
set_option maxRecDepth 100000 in
theorem wX1_give_44 {X : JX} (hC : JC X cX1_give RX1 (some .int) 8 134 4 24) (hT : JT X) (hG : dmI dmX (XG X)) (hnl : nLof X = 5) (fu : Nat) (M : Mem) (x1 x2 x3 x4 t0 : Int32) : J X (ZT X foI 4 24) (FX1_give_44 fu (XD X) M x1 x2 x3 x4 t0) 44 [(0, .ref (gadr (XG X) (4, 0, 0))), (1, .int x1), (2, .int x2), (3, .int x3), (4, .int x4)] [.int t0] M 3 18 := by
  unfold FX1_give_44
  refine j_callST (nA := 1) (rest := []) hC hT [.int t0] rfl (fun r hr => mX1_must (XL X) (JT.st hT) (XG X) hG fu (XD X) M t0 r hr) q1167 q1168 q126 q1169 (by decide +kernel) rfl rfl rfl rfl rfl rfl dX1_give_44 (fun _ => []) (fun _ => rfl) (fun v44 M44 => ?_)
  refine j_aload_n hC 0 dX1_give_47 rfl ?_
  refine j_callV (nA := 0) (rest := []) hC [] rfl (fun r hr => mX1_remembers (XL X) (XG X) hG fu (XD X) M44 r hr) q1198 q1200 qs33 q126 q1201 (dmY hG rfl) rfl rfl (by decide +kernel) rfl rfl rfl rfl rfl rfl dX1_give_48 (fun _ => []) (fun _ => rfl) (fun v48 M48 => ?_)
  refine j_aload_n hC 0 dX1_give_51 rfl ?_
  refine j_getR (fk := 1) hC (dmY hG rfl) rfl rfl in_X1 rfl rfl q496 rfl dX1_give_52 ?_
  refine j_getNR (fk := 3) hC (dmS hG (by decide) rfl) rfl rfl in_X3 rfl rfl q266 rfl dX1_give_55 ?_
  refine j_bipush (v := 6) hC dX1_give_58 (by decide) ?_
  refine j_iload_n hC 1 dX1_give_60 rfl ?_
  refine j_imul hC dX1_give_61 ?_
  refine j_iload_n hC 3 dX1_give_62 rfl ?_
  refine j_iadd hC dX1_give_63 ?_
  refine j_dup2 hC dX1_give_64 rfl rfl ?_
  refine j_iald hC (dmS hG (by decide) rfl) rfl dX1_give_65 (fun h65 => ?_)
  refine j_iload hC 4 dX1_give_66 rfl ?_
  refine j_isub hC dX1_give_68 ?_
  refine j_iast hC (dmS hG (by decide) rfl) rfl dX1_give_69 (fun h69 => ?_)
  refine j_lt (fun M69 => ?_)
  refine j_aload_n hC 0 dX1_give_70 rfl ?_
  refine j_getR (fk := 1) hC (dmY hG rfl) rfl rfl in_X1 rfl rfl q496 rfl dX1_give_71 ?_
  refine j_getNR (fk := 3) hC (dmS hG (by decide) rfl) rfl rfl in_X3 rfl rfl q266 rfl dX1_give_74 ?_
  refine j_bipush (v := 6) hC dX1_give_77 (by decide) ?_
  refine j_iload_n hC 2 dX1_give_79 rfl ?_
  refine j_imul hC dX1_give_80 ?_
  refine j_iload_n hC 3 dX1_give_81 rfl ?_
  refine j_iadd hC dX1_give_82 ?_
  refine j_bipush (v := 99) hC dX1_give_83 (by decide) ?_
  refine j_aload_n hC 0 dX1_give_85 rfl ?_
  refine j_getR (fk := 1) hC (dmY hG rfl) rfl rfl in_X1 rfl rfl q496 rfl dX1_give_86 ?_
  refine j_iload_n hC 2 dX1_give_89 rfl ?_
  refine j_iload_n hC 3 dX1_give_90 rfl ?_
  refine j_callV (nA := 2) (rest := [.int 99, .int ((6 * x2) + x3), .ref (gadr (XG X) (0, 0, 4))]) hC [.int x2, .int x3] rfl (fun r hr => mX3_stock (XL X) (XG X) hG fu (XD X) 0 (by decide) M69 x2 x3 r hr) q676 q677 q678 q128 q679 (dmS hG (by decide) rfl) rfl rfl (by decide +kernel) rfl rfl rfl rfl rfl rfl dX1_give_91 (fun v91 => [.int v91, .int 99, .int ((6 * x2) + x3), .ref (gadr (XG X) (0, 0, 4))]) (fun _ => rfl) (fun v91 M91 => ?_)
  refine j_iload hC 4 dX1_give_94 rfl ?_
  refine j_iadd hC dX1_give_96 ?_
  refine j_min hC q731 q640 q155 q641 dX1_give_97 rfl (Nat.le_of_ble_eq_true rfl) (Nat.le_of_ble_eq_true rfl) (Nat.le_of_ble_eq_true rfl) ?_
  refine j_iast hC (dmS hG (by decide) rfl) rfl dX1_give_100 (fun h100 => ?_)
  refine j_lt (fun M100 => ?_)
  refine j_aload_n hC 0 dX1_give_101 rfl ?_
  refine j_getR (fk := 1) hC (dmY hG rfl) rfl rfl in_X1 rfl rfl q496 rfl dX1_give_102 ?_
  refine j_iload_n hC 2 dX1_give_105 rfl ?_
  refine j_iload_n hC 3 dX1_give_106 rfl ?_
  refine j_callV (nA := 2) (rest := []) hC [.int x2, .int x3] rfl (fun r hr => mX3_stock (XL X) (XG X) hG fu (XD X) 0 (by decide) M100 x2 x3 r hr) q676 q677 q678 q128 q679 (dmS hG (by decide) rfl) rfl rfl (by decide +kernel) rfl rfl rfl rfl rfl rfl dX1_give_107 (fun v107 => [.int v107]) (fun _ => rfl) (fun v107 M107 => ?_)
  exact j_iretT hC rfl rfl dX1_give_110
set_option linter.unusedVariables false in
set_option maxRecDepth 100000 in
theorem wX1_give_43 {X : JX} (hC : JC X cX1_give RX1 (some .int) 8 134 4 24) (hT : JT X) (hG : dmI dmX (XG X)) (hnl : nLof X = 5) (fu : Nat) (M : Mem) (x1 x2 x3 x4 : Int32) : J X (ZT X foI 4 24) (FX1_give_43 fu (XD X) M x1 x2 x3 x4) 43 [(0, .ref (gadr (XG X) (4, 0, 0))), (1, .int x1), (2, .int x2), (3, .int x3), (4, .int x4)] [] M 3 18 := by
  unfold FX1_give_43
  refine j_iconst (v := 0) hC dX1_give_43 (by decide) ?_
  exact j_sub [0, 1, 2, 3, 4] rfl (wX1_give_44 hC hT hG hnl fu M x1 x2 x3 x4 0)
set_option linter.unusedVariables false in
set_option maxRecDepth 100000 in
theorem wX1_give {X : JX} (hC : JC X cX1_give RX1 (some .int) 8 134 4 24) (hT : JT X) (hG : dmI dmX (XG X)) (hnl : nLof X = 5) (fu : Nat) (M : Mem) (x1 x2 x3 x4 : Int32) : J X (ZT X foI 4 24) (FX1_give fu (XD X) M x1 x2 x3 x4) 0 [(0, .ref (gadr (XG X) (4, 0, 0))), (1, .int x1), (2, .int x2), (3, .int x3), (4, .int x4)] [] M 0 0 := by
  unfold FX1_give
  refine j_aload_n hC 0 dX1_give_0 rfl ?_
  refine j_iload_n hC 1 dX1_give_1 rfl ?_
  refine j_callVT (nA := 1) (rest := []) hC hT [.int x1] rfl (fun r hr => mX1_isCounsel (XL X) (JT.st hT) (XG X) hG fu (XD X) M x1 r hr) q1133 q1135 qs31 q126 q1136 (dmY hG rfl) rfl rfl (by decide +kernel) rfl rfl rfl rfl rfl rfl dX1_give_2 (fun _ => []) (fun _ => rfl) (fun v2 M2 => ?_)
  refine j_aload_n hC 0 dX1_give_5 rfl ?_
  refine j_iload_n hC 2 dX1_give_6 rfl ?_
  refine j_callVT (nA := 1) (rest := []) hC hT [.int x2] rfl (fun r hr => mX1_isCounsel (XL X) (JT.st hT) (XG X) hG fu (XD X) M2 x2 r hr) q1133 q1135 qs31 q126 q1136 (dmY hG rfl) rfl rfl (by decide +kernel) rfl rfl rfl rfl rfl rfl dX1_give_7 (fun _ => []) (fun _ => rfl) (fun v7 M7 => ?_)
  refine j_aload_n hC 0 dX1_give_10 rfl ?_
  refine j_iload_n hC 3 dX1_give_11 rfl ?_
  refine j_callVT (nA := 1) (rest := []) hC hT [.int x3] rfl (fun r hr => mX1_birdAt (XL X) (JT.st hT) (XG X) hG fu (XD X) M7 x3 r hr) q1089 q1091 qs30 q126 q1092 (dmY hG rfl) rfl rfl (by decide +kernel) rfl rfl rfl rfl rfl rfl dX1_give_12 (fun v12 => [.ref (gadr (XG X) (1, 0, v12.toNatClampNeg))]) (fun _ => rfl) (fun v12 M12 => ?_)
  refine j_gd (fun h12 => ?_)
  refine j_pop hC dX1_give_15 rfl ?_
  refine j_iload_n hC 1 dX1_give_16 rfl ?_
  refine j_iload_n hC 2 dX1_give_17 rfl ?_
  refine j_icmp_eq (tgt := 43) hC dX1_give_18 (by decide) (fun h18 => ?_) (fun h18 => ?_)
  · exact j_sub [0, 1, 2, 3, 4] rfl (wX1_give_43 hC hT hG hnl fu M12 x1 x2 x3 x4)
  · refine j_iload hC 4 dX1_give_21 rfl ?_
    refine j_iconst (v := 1) hC dX1_give_23 (by decide) ?_
    refine j_aload_n hC 0 dX1_give_24 rfl ?_
    refine j_getR (fk := 1) hC (dmY hG rfl) rfl rfl in_X1 rfl rfl q496 rfl dX1_give_25 ?_
    refine j_iload_n hC 1 dX1_give_28 rfl ?_
    refine j_iload_n hC 3 dX1_give_29 rfl ?_
    refine j_callV (nA := 2) (rest := [.int 1, .int x4]) hC [.int x1, .int x3] rfl (fun r hr => mX3_stock (XL X) (XG X) hG fu (XD X) 0 (by decide) M12 x1 x3 r hr) q676 q677 q678 q128 q679 (dmS hG (by decide) rfl) rfl rfl (by decide +kernel) rfl rfl rfl rfl rfl rfl dX1_give_30 (fun v30 => [.int v30, .int 1, .int x4]) (fun _ => rfl) (fun v30 M30 => ?_)
    refine j_callS (nA := 3) (rest := []) hC [.int x4, .int 1, .int v30] rfl (fun r hr => mX1_isIn (XL X) (XG X) hG fu (XD X) M30 x4 1 v30 r hr) q558 q559 q126 q560 (by decide +kernel) rfl rfl rfl rfl rfl rfl dX1_give_33 (fun v33 => [.int v33]) (fun _ => rfl) (fun v33 M33 => ?_)
    refine j_if_eq (tgt := 43) hC dX1_give_36 (by decide) (fun h36 => ?_) (fun h36 => ?_)
    · exact j_sub [0, 1, 2, 3, 4] rfl (wX1_give_43 hC hT hG hnl fu M33 x1 x2 x3 x4)
    · refine j_iconst (v := 1) hC dX1_give_39 (by decide) ?_
      refine j_goto (tgt := 44) hC dX1_give_40 (by decide) ?_
      exact j_sub [0, 1, 2, 3, 4] rfl (wX1_give_44 hC hT hG hnl fu M33 x1 x2 x3 x4 1)
set_option linter.unusedVariables false in
set_option maxRecDepth 100000 in
theorem mX1_give (l : Launch) (hst : l.stackTraces = false) (Γ : xG) (hG : dmI dmX Γ) (fu : Nat) (D : List LDen) (M : Mem) (x1 x2 x3 x4 : Int32) (r : TR) (hr : FX1_give fu D M x1 x2 x3 x4 = some r) : CT l yX1_give (ws_ yX1_give cX1_give 5 (some .int)) 8 134 4 24 Γ D [.ref (gadr Γ (4, 0, 0)), .int x1, .int x2, .int x3, .int x4] M foI r := by
  refine CT.of hst (own := RX1) (lv0 := lv_args 0 [.ref (gadr Γ (4, 0, 0)), .int x1, .int x2, .int x3, .int x4]) (by decide +kernel) rfl (Nat.le_of_ble_eq_true rfl) rfl (fun X e1 e2 e3 e4 hC hT => ?_) r hr
  subst e1
  subst e2
  exact wX1_give hC hT hG e4 fu M x1 x2 x3 x4
set_option linter.unusedVariables false in
set_option maxRecDepth 100000 in
theorem wX1_appeal_18 {X : JX} (hC : JC X cX1_appeal RX1 (some .int) 8 134 2 12) (hT : JT X) (hG : dmI dmX (XG X)) (hnl : nLof X = 4) (fu : Nat) (n2 : Nat) (hn2 : n2 < 12) (M : Mem) (t0 : Int32) : J X (ZT X foI 2 12) (FX1_appeal_18 fu (XD X) n2 M t0) 18 [(0, .ref (gadr (XG X) (4, 0, 0))), (2, .ref (gadr (XG X) (2, 0, n2)))] [.int t0] M 1 6 := by
  unfold FX1_appeal_18
  refine j_callST (nA := 1) (rest := []) hC hT [.int t0] rfl (fun r hr => mX1_can (XL X) (JT.st hT) (XG X) hG fu (XD X) M t0 r hr) q1180 q1181 q126 q1182 (by decide +kernel) rfl rfl rfl rfl rfl rfl dX1_appeal_18 (fun _ => []) (fun _ => rfl) (fun v18 M18 => ?_)
  refine j_aload_n hC 0 dX1_appeal_21 rfl ?_
  refine j_callV (nA := 0) (rest := []) hC [] rfl (fun r hr => mX1_remembers (XL X) (XG X) hG fu (XD X) M18 r hr) q1198 q1200 qs33 q126 q1201 (dmY hG rfl) rfl rfl (by decide +kernel) rfl rfl rfl rfl rfl rfl dX1_appeal_22 (fun _ => []) (fun _ => rfl) (fun v22 M22 => ?_)
  refine j_aload_n hC 1 dX1_appeal_25 rfl ?_
  refine j_getNI (fk := 3) hC (dmC hG (by decide) hn2) rfl rfl in_X5 rfl rfl q245 rfl dX1_appeal_26 ?_
  refine j_ltT (fun y29 => ?_)
  refine j_istore_n hC [(3, .int y29), (0, .ref (gadr (XG X) (4, 0, 0))), (2, .ref (gadr (XG X) (2, 0, n2)))] hnl dX1_appeal_29 rfl rfl ?_
  refine j_aload_n hC 2 dX1_appeal_30 rfl ?_
  refine j_iconst (v := 0) hC dX1_appeal_31 (by decide) ?_
  refine j_putN (fk := 3) (ty := .int) hC (dmC hG (by decide) hn2) rfl rfl in_X5 rfl rfl q245 tyX5 tyX5_ok nmX5 rfl rfl (by decide +kernel) rfl rfl dX1_appeal_32 ?_
  refine j_lt (fun M32 => ?_)
  refine j_iload_n hC 0 dX1_appeal_35 rfl ?_
  exact j_iretT hC rfl rfl dX1_appeal_36
set_option linter.unusedVariables false in
set_option maxRecDepth 100000 in
theorem wX1_appeal {X : JX} (hC : JC X cX1_appeal RX1 (some .int) 8 134 2 12) (hT : JT X) (hG : dmI dmX (XG X)) (hnl : nLof X = 4) (fu : Nat) (M : Mem) (x1 : Int32) : J X (ZT X foI 2 12) (FX1_appeal fu (XD X) M x1) 0 [(0, .ref (gadr (XG X) (4, 0, 0))), (1, .int x1)] [] M 0 0 := by
  unfold FX1_appeal
  refine j_aload_n hC 0 dX1_appeal_0 rfl ?_
  refine j_iload_n hC 1 dX1_appeal_1 rfl ?_
  refine j_callVT (nA := 1) (rest := []) hC hT [.int x1] rfl (fun r hr => mX1_caseAt (XL X) (JT.st hT) (XG X) hG fu (XD X) M x1 r hr) q1144 q1146 qs32 q126 q1147 (dmY hG rfl) rfl rfl (by decide +kernel) rfl rfl rfl rfl rfl rfl dX1_appeal_2 (fun v2 => [.ref (gadr (XG X) (2, 0, v2.toNatClampNeg))]) (fun _ => rfl) (fun v2 M2 => ?_)
  refine j_gd (fun h2 => ?_)
  refine j_astore_n hC [(2, .ref (gadr (XG X) (2, 0, v2.toNatClampNeg))), (0, .ref (gadr (XG X) (4, 0, 0))), (1, .int x1)] hnl dX1_appeal_5 rfl rfl ?_
  refine j_aload_n hC 0 dX1_appeal_6 rfl ?_
  refine j_getNI (fk := 3) hC (dmC hG (by decide) (vin_lt h2)) rfl rfl in_X5 rfl rfl q245 rfl dX1_appeal_7 ?_
  refine j_if_eq (tgt := 17) hC dX1_appeal_10 (by decide) (fun h10 => ?_) (fun h10 => ?_)
  · refine j_iconst (v := 0) hC dX1_appeal_17 (by decide) ?_
    exact j_sub [1, 0] rfl (wX1_appeal_18 hC hT hG hnl fu (v2.toNatClampNeg) (vin_lt h2) M2 0)
  · refine j_iconst (v := 1) hC dX1_appeal_13 (by decide) ?_
    refine j_goto (tgt := 18) hC dX1_appeal_14 (by decide) ?_
    exact j_sub [1, 0] rfl (wX1_appeal_18 hC hT hG hnl fu (v2.toNatClampNeg) (vin_lt h2) M2 1)
set_option linter.unusedVariables false in
set_option maxRecDepth 100000 in
theorem mX1_appeal (l : Launch) (hst : l.stackTraces = false) (Γ : xG) (hG : dmI dmX Γ) (fu : Nat) (D : List LDen) (M : Mem) (x1 : Int32) (r : TR) (hr : FX1_appeal fu D M x1 = some r) : CT l yX1_appeal (ws_ yX1_appeal cX1_appeal 4 (some .int)) 8 134 2 12 Γ D [.ref (gadr Γ (4, 0, 0)), .int x1] M foI r := by
  refine CT.of hst (own := RX1) (lv0 := lv_args 0 [.ref (gadr Γ (4, 0, 0)), .int x1]) (by decide +kernel) rfl (Nat.le_of_ble_eq_true rfl) rfl (fun X e1 e2 e3 e4 hC hT => ?_) r hr
  subst e1
  subst e2
  exact wX1_appeal hC hT hG e4 fu M x1
set_option linter.unusedVariables false in
set_option maxRecDepth 100000 in
theorem wgX1_weeks_32 {X : JX} (hC : JC X cX1_weeks RX1 (some .int) 7 113 1 6) (hT : JT X) (hG : dmI dmX (XG X)) (hnl : nLof X = 6) (fu : Nat) (kn32 : Mem × Int32 × Int32 × Int32 × Int32 → Option TR) (hk32 : ∀ (M : Mem) (x1 x2 x3 x4 : Int32), J X (ZT X foI 1 6) (kn32 (M, x1, x2, x3, x4)) 32 [(0, .ref (gadr (XG X) (4, 0, 0))), (1, .int x1), (2, .int x2), (3, .int x3), (4, .int x4)] [] M 1 6) (kn18 : Mem × Int32 × Int32 × Int32 → Option TR) (hk18 : ∀ (M : Mem) (x1 x2 x3 : Int32), J X (ZT X foI 1 6) (kn18 (M, x1, x2, x3)) 18 [(0, .ref (gadr (XG X) (4, 0, 0))), (1, .int x1), (2, .int x2), (3, .int x3)] [] M 1 6) (M : Mem) (x1 x2 x3 x4 : Int32) : J X (ZT X foI 1 6) (GX1_weeks_32 fu (XD X) kn32 kn18 M x1 x2 x3 x4) 32 [(0, .ref (gadr (XG X) (4, 0, 0))), (1, .int x1), (2, .int x2), (3, .int x3), (4, .int x4)] [] M 1 6 := by
  unfold GX1_weeks_32
  refine j_iload hC 4 dX1_weeks_32 rfl ?_
  refine j_aload_n hC 0 dX1_weeks_34 rfl ?_
  refine j_getR (fk := 1) hC (dmY hG rfl) rfl rfl in_X1 rfl rfl q496 rfl dX1_weeks_35 ?_
  refine j_getNI (fk := 7) hC (dmS hG (by decide) rfl) rfl rfl in_X3 rfl rfl q273 rfl dX1_weeks_38 ?_
  refine j_icmp_ge (tgt := 116) hC dX1_weeks_41 (by decide) (fun h41 => ?_) (fun h41 => ?_)
  · refine j_iincL hC 3 (fun y116 => [(3, .int y116), (0, .ref (gadr (XG X) (4, 0, 0))), (1, .int x1), (2, .int x2), (4, .int x4)]) hnl dX1_weeks_116 rfl (by decide) rfl (fun _ => rfl) (fun y116 => ?_)
    refine j_goto (tgt := 18) hC dX1_weeks_119 (by decide) ?_
    exact j_sub [1, 2, 3, 0] rfl (hk18 M x1 x2 y116)
  · refine j_bipush (v := 99) hC dX1_weeks_44 (by decide) ?_
    refine j_aload_n hC 0 dX1_weeks_46 rfl ?_
    refine j_getR (fk := 1) hC (dmY hG rfl) rfl rfl in_X1 rfl rfl q496 rfl dX1_weeks_47 ?_
    refine j_iload_n hC 3 dX1_weeks_50 rfl ?_
    refine j_iload hC 4 dX1_weeks_51 rfl ?_
    refine j_callV (nA := 2) (rest := [.int 99]) hC [.int x3, .int x4] rfl (fun r hr => mX3_stock (XL X) (XG X) hG fu (XD X) 0 (by decide) M x3 x4 r hr) q676 q677 q678 q128 q679 (dmS hG (by decide) rfl) rfl rfl (by decide +kernel) rfl rfl rfl rfl rfl rfl dX1_weeks_53 (fun v53 => [.int v53, .int 99]) (fun _ => rfl) (fun v53 M53 => ?_)
    refine j_iload_n hC 1 dX1_weeks_56 rfl ?_
    refine j_aload_n hC 0 dX1_weeks_57 rfl ?_
    refine j_getR (fk := 1) hC (dmY hG rfl) rfl rfl in_X1 rfl rfl q496 rfl dX1_weeks_58 ?_
    refine j_getNR (fk := 0) hC (dmS hG (by decide) rfl) rfl rfl in_X3 rfl rfl q257 rfl dX1_weeks_61 ?_
    refine j_iload hC 4 dX1_weeks_64 rfl ?_
    refine j_aald3 (d := (1, 0, x4.toNatClampNeg)) hC (dmS hG (by decide) rfl) rfl rfl dX1_weeks_66 (fun h66 => ?_)
    refine j_getNI (fk := 3) hC (dmB hG (by decide) (vin_lt h66)) rfl rfl in_X4 rfl rfl q214 rfl dX1_weeks_67 ?_
    refine j_imul hC dX1_weeks_70 ?_
    refine j_iadd hC dX1_weeks_71 ?_
    refine j_min hC q731 q640 q155 q641 dX1_weeks_72 rfl (Nat.le_of_ble_eq_true rfl) (Nat.le_of_ble_eq_true rfl) (Nat.le_of_ble_eq_true rfl) ?_
    refine j_ltT (fun y75 => ?_)
    refine j_istore hC [(5, .int y75), (0, .ref (gadr (XG X) (4, 0, 0))), (1, .int x1), (2, .int x2), (3, .int x3), (4, .int x4)] hnl dX1_weeks_75 rfl rfl ?_
    refine j_iload_n hC 3 dX1_weeks_77 rfl ?_
    refine j_iload hC 0 dX1_weeks_78 rfl ?_
    refine j_aload_n hC 1 dX1_weeks_80 rfl ?_
    refine j_getR (fk := 1) hC (dmY hG rfl) rfl rfl in_X1 rfl rfl q496 rfl dX1_weeks_81 ?_
    refine j_iload_n hC 4 dX1_weeks_84 rfl ?_
    refine j_iload hC 5 dX1_weeks_85 rfl ?_
    refine j_callV (nA := 2) (rest := [.int y75, .int x2]) hC [.int x3, .int x4] rfl (fun r hr => mX3_stock (XL X) (XG X) hG fu (XD X) 0 (by decide) M53 x3 x4 r hr) q676 q677 q678 q128 q679 (dmS hG (by decide) rfl) rfl rfl (by decide +kernel) rfl rfl rfl rfl rfl rfl dX1_weeks_87 (fun v87 => [.int v87, .int y75, .int x2]) (fun _ => rfl) (fun v87 M87 => ?_)
    refine j_isub hC dX1_weeks_90 ?_
    refine j_iadd hC dX1_weeks_91 ?_
    refine j_ltT (fun y92 => ?_)
    refine j_istore_n hC [(2, .int y92), (5, .int y75), (0, .ref (gadr (XG X) (4, 0, 0))), (1, .int x1), (3, .int x3), (4, .int x4)] hnl dX1_weeks_92 rfl rfl ?_
    refine j_aload_n hC 2 dX1_weeks_93 rfl ?_
    refine j_getR (fk := 1) hC (dmY hG rfl) rfl rfl in_X1 rfl rfl q496 rfl dX1_weeks_94 ?_
    refine j_getNR (fk := 3) hC (dmS hG (by decide) rfl) rfl rfl in_X3 rfl rfl q266 rfl dX1_weeks_97 ?_
    refine j_bipush (v := 6) hC dX1_weeks_100 (by decide) ?_
    refine j_iload_n hC 4 dX1_weeks_102 rfl ?_
    refine j_imul hC dX1_weeks_103 ?_
    refine j_iload hC 5 dX1_weeks_104 rfl ?_
    refine j_iadd hC dX1_weeks_106 ?_
    refine j_iload hC 1 dX1_weeks_107 rfl ?_
    refine j_iast hC (dmS hG (by decide) rfl) rfl dX1_weeks_109 (fun h109 => ?_)
    refine j_lt (fun M109 => ?_)
    refine j_iincL hC 5 (fun y110 => [(4, .int y110), (2, .int y92), (5, .int y75), (0, .ref (gadr (XG X) (4, 0, 0))), (1, .int x1), (3, .int x3)]) hnl dX1_weeks_110 rfl (by decide) rfl (fun _ => rfl) (fun y110 => ?_)
    refine j_goto (tgt := 32) hC dX1_weeks_113 (by decide) ?_
    exact j_sub [3, 4, 1, 5, 0] rfl (hk32 M109 x1 y92 x3 y110)
set_option linter.unusedVariables false in
set_option maxRecDepth 100000 in
theorem wX1_weeks_32 {X : JX} (hC : JC X cX1_weeks RX1 (some .int) 7 113 1 6) (hT : JT X) (hG : dmI dmX (XG X)) (hnl : nLof X = 6) (fu : Nat) (kn18 : Mem × Int32 × Int32 × Int32 → Option TR) (hk18 : ∀ (M : Mem) (x1 x2 x3 : Int32), J X (ZT X foI 1 6) (kn18 (M, x1, x2, x3)) 18 [(0, .ref (gadr (XG X) (4, 0, 0))), (1, .int x1), (2, .int x2), (3, .int x3)] [] M 1 6) (M : Mem) (x1 x2 x3 x4 : Int32) : J X (ZT X foI 1 6) (FX1_weeks_32 fu (XD X) kn18 M x1 x2 x3 x4) 32 [(0, .ref (gadr (XG X) (4, 0, 0))), (1, .int x1), (2, .int x2), (3, .int x3), (4, .int x4)] [] M 1 6 := by
  exact j_lp (lvf := fun z => [(0, .ref (gadr (XG X) (4, 0, 0))), (1, .int (z.2.1)), (2, .int (z.2.2.1)), (3, .int (z.2.2.2.1)), (4, .int (z.2.2.2.2))]) (Mf := fun z => z.1) (fun kn hk z => wgX1_weeks_32 hC hT hG hnl fu kn (fun M x1 x2 x3 x4 => hk (M, x1, x2, x3, x4)) kn18 hk18 z.1 z.2.1 z.2.2.1 z.2.2.2.1 z.2.2.2.2) fu (M, x1, x2, x3, x4)
set_option linter.unusedVariables false in
set_option maxRecDepth 100000 in
theorem wgX1_weeks_18 {X : JX} (hC : JC X cX1_weeks RX1 (some .int) 7 113 1 6) (hT : JT X) (hG : dmI dmX (XG X)) (hnl : nLof X = 6) (fu : Nat) (kn18 : Mem × Int32 × Int32 × Int32 → Option TR) (hk18 : ∀ (M : Mem) (x1 x2 x3 : Int32), J X (ZT X foI 1 6) (kn18 (M, x1, x2, x3)) 18 [(0, .ref (gadr (XG X) (4, 0, 0))), (1, .int x1), (2, .int x2), (3, .int x3)] [] M 1 6) (M : Mem) (x1 x2 x3 : Int32) : J X (ZT X foI 1 6) (GX1_weeks_18 fu (XD X) kn18 M x1 x2 x3) 18 [(0, .ref (gadr (XG X) (4, 0, 0))), (1, .int x1), (2, .int x2), (3, .int x3)] [] M 1 6 := by
  unfold GX1_weeks_18
  refine j_iload_n hC 3 dX1_weeks_18 rfl ?_
  refine j_aload_n hC 0 dX1_weeks_19 rfl ?_
  refine j_getR (fk := 1) hC (dmY hG rfl) rfl rfl in_X1 rfl rfl q496 rfl dX1_weeks_20 ?_
  refine j_getNI (fk := 8) hC (dmS hG (by decide) rfl) rfl rfl in_X3 rfl rfl q276 rfl dX1_weeks_23 ?_
  refine j_icmp_ge (tgt := 122) hC dX1_weeks_26 (by decide) (fun h26 => ?_) (fun h26 => ?_)
  · refine j_aload_n hC 0 dX1_weeks_122 rfl ?_
    refine j_getR (fk := 1) hC (dmY hG rfl) rfl rfl in_X1 rfl rfl q496 rfl dX1_weeks_123 ?_
    refine j_sipush (v := 9999) hC dX1_weeks_126 (by decide) ?_
    refine j_aload_n hC 0 dX1_weeks_129 rfl ?_
    refine j_getR (fk := 1) hC (dmY hG rfl) rfl rfl in_X1 rfl rfl q496 rfl dX1_weeks_130 ?_
    refine j_getNI (fk := 17) hC (dmS hG (by decide) rfl) rfl rfl in_X3 rfl rfl q303 rfl dX1_weeks_133 ?_
    refine j_iload_n hC 1 dX1_weeks_136 rfl ?_
    refine j_iadd hC dX1_weeks_137 ?_
    refine j_min hC q731 q640 q155 q641 dX1_weeks_138 rfl (Nat.le_of_ble_eq_true rfl) (Nat.le_of_ble_eq_true rfl) (Nat.le_of_ble_eq_true rfl) ?_
    refine j_putN (fk := 17) (ty := .int) hC (dmS hG (by decide) rfl) rfl rfl in_X3 rfl rfl q303 tyX3 tyX3_ok nmX3 rfl rfl (by decide +kernel) rfl rfl dX1_weeks_141 ?_
    refine j_lt (fun M141 => ?_)
    refine j_iload_n hC 2 dX1_weeks_144 rfl ?_
    exact j_iretT hC rfl rfl dX1_weeks_145
  · refine j_iconst (v := 0) hC dX1_weeks_29 (by decide) ?_
    refine j_istore hC [(4, .int 0), (0, .ref (gadr (XG X) (4, 0, 0))), (1, .int x1), (2, .int x2), (3, .int x3)] hnl dX1_weeks_30 rfl rfl ?_
    exact j_sub [1, 2, 3, 4, 0] rfl (wX1_weeks_32 hC hT hG hnl fu kn18 hk18 M x1 x2 x3 0)
set_option linter.unusedVariables false in
set_option maxRecDepth 100000 in
theorem wX1_weeks_18 {X : JX} (hC : JC X cX1_weeks RX1 (some .int) 7 113 1 6) (hT : JT X) (hG : dmI dmX (XG X)) (hnl : nLof X = 6) (fu : Nat) (M : Mem) (x1 x2 x3 : Int32) : J X (ZT X foI 1 6) (FX1_weeks_18 fu (XD X) M x1 x2 x3) 18 [(0, .ref (gadr (XG X) (4, 0, 0))), (1, .int x1), (2, .int x2), (3, .int x3)] [] M 1 6 := by
  exact j_lp (lvf := fun z => [(0, .ref (gadr (XG X) (4, 0, 0))), (1, .int (z.2.1)), (2, .int (z.2.2.1)), (3, .int (z.2.2.2))]) (Mf := fun z => z.1) (fun kn hk z => wgX1_weeks_18 hC hT hG hnl fu kn (fun M x1 x2 x3 => hk (M, x1, x2, x3)) z.1 z.2.1 z.2.2.1 z.2.2.2) fu (M, x1, x2, x3)
set_option linter.unusedVariables false in
set_option maxRecDepth 100000 in
theorem wX1_weeks {X : JX} (hC : JC X cX1_weeks RX1 (some .int) 7 113 1 6) (hT : JT X) (hG : dmI dmX (XG X)) (hnl : nLof X = 6) (fu : Nat) (M : Mem) (x1 : Int32) : J X (ZT X foI 1 6) (FX1_weeks fu (XD X) M x1) 0 [(0, .ref (gadr (XG X) (4, 0, 0))), (1, .int x1)] [] M 0 0 := by
  unfold FX1_weeks
  refine j_iload_n hC 1 dX1_weeks_0 rfl ?_
  refine j_iconst (v := 1) hC dX1_weeks_1 (by decide) ?_
  refine j_bipush (v := 60) hC dX1_weeks_2 (by decide) ?_
  refine j_callS (nA := 3) (rest := []) hC [.int x1, .int 1, .int 60] rfl (fun r hr => mX1_isIn (XL X) (XG X) hG fu (XD X) M x1 1 60 r hr) q558 q559 q126 q560 (by decide +kernel) rfl rfl rfl rfl rfl rfl dX1_weeks_4 (fun v4 => [.int v4]) (fun _ => rfl) (fun v4 M4 => ?_)
  refine j_callST (nA := 1) (rest := []) hC hT [.int v4] rfl (fun r hr => mX1_must (XL X) (JT.st hT) (XG X) hG fu (XD X) M4 v4 r hr) q1167 q1168 q126 q1169 (by decide +kernel) rfl rfl rfl rfl rfl rfl dX1_weeks_7 (fun _ => []) (fun _ => rfl) (fun v7 M7 => ?_)
  refine j_aload_n hC 0 dX1_weeks_10 rfl ?_
  refine j_callV (nA := 0) (rest := []) hC [] rfl (fun r hr => mX1_remembers (XL X) (XG X) hG fu (XD X) M7 r hr) q1198 q1200 qs33 q126 q1201 (dmY hG rfl) rfl rfl (by decide +kernel) rfl rfl rfl rfl rfl rfl dX1_weeks_11 (fun _ => []) (fun _ => rfl) (fun v11 M11 => ?_)
  refine j_iconst (v := 0) hC dX1_weeks_14 (by decide) ?_
  refine j_istore_n hC [(2, .int 0), (0, .ref (gadr (XG X) (4, 0, 0))), (1, .int x1)] hnl dX1_weeks_15 rfl rfl ?_
  refine j_iconst (v := 0) hC dX1_weeks_16 (by decide) ?_
  refine j_istore_n hC [(3, .int 0), (2, .int 0), (0, .ref (gadr (XG X) (4, 0, 0))), (1, .int x1)] hnl dX1_weeks_17 rfl rfl ?_
  exact j_sub [2, 3, 1, 0] rfl (wX1_weeks_18 hC hT hG hnl fu M11 x1 0 0)
set_option linter.unusedVariables false in
set_option maxRecDepth 100000 in
theorem mX1_weeks (l : Launch) (hst : l.stackTraces = false) (Γ : xG) (hG : dmI dmX Γ) (fu : Nat) (D : List LDen) (M : Mem) (x1 : Int32) (r : TR) (hr : FX1_weeks fu D M x1 = some r) : CT l yX1_weeks (ws_ yX1_weeks cX1_weeks 6 (some .int)) 7 113 1 6 Γ D [.ref (gadr Γ (4, 0, 0)), .int x1] M foI r := by
  refine CT.of hst (own := RX1) (lv0 := lv_args 0 [.ref (gadr Γ (4, 0, 0)), .int x1]) (by decide +kernel) rfl (Nat.le_of_ble_eq_true rfl) rfl (fun X e1 e2 e3 e4 hC hT => ?_) r hr
  subst e1
  subst e2
  exact wX1_weeks hC hT hG e4 fu M x1
set_option linter.unusedVariables false in
set_option maxRecDepth 100000 in
theorem wX1_thereIs {X : JX} (hC : JC X cX1_thereIs RX1 none 6 93 1 6) (hT : JT X) (hG : dmI dmX (XG X)) (hnl : nLof X = 1) (fu : Nat) (M : Mem) (x0 : Int32) : J X (ZT X foV 1 6) (FX1_thereIs fu (XD X) M x0) 0 [(0, .int x0)] [] M 0 0 := by
  unfold FX1_thereIs
  refine j_iload_n hC 0 dX1_thereIs_0 rfl ?_
  refine j_if_ne (tgt := 12) hC dX1_thereIs_1 (by decide) (fun h1 => ?_) (fun h1 => ?_)
  · exact j_throw0 hC hT (en := 4) (ik := 75) (ic := 77) (names := ["java/lang/RuntimeException", "java/lang/Exception"]) (by decide +kernel) (by decide +kernel) (by decide) q1111 q154 (tbl_in _ [131, 371, 380, 388, 391, 393, 372, 373, 164, 165, 374, 379, 389, 410, 361, 411, 363, 412, 365, 375, 377, 367, 1121, 1122, 1123, 885, 352, 885, 886, 887, 888, 354, 888, 889, 890, 372, 356, 1120, 1112, 1113, 1114, 387, 1115, 1116, 1117, 1118, 370, 369, 1119] (by decide +kernel)) (by decide +kernel) dX1_thereIs_4 dX1_thereIs_7 dX1_thereIs_8 dX1_thereIs_11 (by decide) (Nat.le_of_ble_eq_true rfl) rfl rfl
  · exact j_vretT hC rfl rfl dX1_thereIs_12
set_option linter.unusedVariables false in
set_option maxRecDepth 100000 in
theorem mX1_thereIs (l : Launch) (hst : l.stackTraces = false) (Γ : xG) (hG : dmI dmX Γ) (fu : Nat) (D : List LDen) (M : Mem) (x0 : Int32) (r : TR) (hr : FX1_thereIs fu D M x0 = some r) : CT l yX1_thereIs (ws_ yX1_thereIs cX1_thereIs 1 none) 6 93 1 6 Γ D [.int x0] M foV r := by
  refine CT.of hst (own := RX1) (lv0 := lv_args 0 [.int x0]) (by decide +kernel) rfl (Nat.le_of_ble_eq_true rfl) rfl (fun X e1 e2 e3 e4 hC hT => ?_) r hr
  subst e1
  subst e2
  exact wX1_thereIs hC hT hG e4 fu M x0
set_option linter.unusedVariables false in
set_option maxRecDepth 100000 in
theorem wgX7_good_4 {X : JX} (hC : JC X cX7_good RX7 (some .int) 1 12 0 0) (hG : dmI dmX (XG X)) (hnl : nLof X = 3) (fu : Nat) (w : Nat) (hw : w < 2) (kn4 : Mem × Int32 × Int32 → Option (Int32 × Mem)) (hk4 : ∀ (M : Mem) (x1 x2 : Int32), J X (ZN X foI) (kn4 (M, x1, x2)) 4 [(0, .ref (gadr (XG X) (3, w, 0))), (1, .int x1), (2, .int x2)] [] M 0 0) (M : Mem) (x1 x2 : Int32) : J X (ZN X foI) (GX7_good_4 fu (XD X) w kn4 M x1 x2) 4 [(0, .ref (gadr (XG X) (3, w, 0))), (1, .int x1), (2, .int x2)] [] M 0 0 := by
  unfold GX7_good_4
  refine j_iload_n hC 2 dX7_good_4 rfl ?_
  refine j_bipush (v := 8) hC dX7_good_5 (by decide) ?_
  refine j_icmp_gt (tgt := 25) hC dX7_good_7 (by decide) (fun h7 => ?_) (fun h7 => ?_)
  · refine j_iload_n hC 1 dX7_good_25 rfl ?_
    exact j_iret hC dX7_good_26
  · refine j_iload_n hC 1 dX7_good_10 rfl ?_
    refine j_aload_n hC 0 dX7_good_11 rfl ?_
    refine j_getR (fk := 0) hC (dmW hG hw rfl) rfl rfl in_X7 rfl rfl q465 rfl dX7_good_12 ?_
    refine j_iload_n hC 2 dX7_good_15 rfl ?_
    refine j_iald hC (dmW hG hw rfl) rfl dX7_good_16 (fun h16 => ?_)
    refine j_iadd hC dX7_good_17 ?_
    refine j_ltT (fun y18 => ?_)
    refine j_istore_n hC [(1, .int y18), (0, .ref (gadr (XG X) (3, w, 0))), (2, .int x2)] hnl dX7_good_18 rfl rfl ?_
    refine j_iincL hC 2 (fun y19 => [(2, .int y19), (1, .int y18), (0, .ref (gadr (XG X) (3, w, 0)))]) hnl dX7_good_19 rfl (by decide) rfl (fun _ => rfl) (fun y19 => ?_)
    refine j_goto (tgt := 4) hC dX7_good_22 (by decide) ?_
    exact j_sub [2, 1, 0] rfl (hk4 M y18 y19)
set_option linter.unusedVariables false in
set_option maxRecDepth 100000 in
theorem wX7_good_4 {X : JX} (hC : JC X cX7_good RX7 (some .int) 1 12 0 0) (hG : dmI dmX (XG X)) (hnl : nLof X = 3) (fu : Nat) (w : Nat) (hw : w < 2) (M : Mem) (x1 x2 : Int32) : J X (ZN X foI) (FX7_good_4 fu (XD X) w M x1 x2) 4 [(0, .ref (gadr (XG X) (3, w, 0))), (1, .int x1), (2, .int x2)] [] M 0 0 := by
  exact j_lp (lvf := fun z => [(0, .ref (gadr (XG X) (3, w, 0))), (1, .int (z.2.1)), (2, .int (z.2.2))]) (Mf := fun z => z.1) (fun kn hk z => wgX7_good_4 hC hG hnl fu w hw kn (fun M x1 x2 => hk (M, x1, x2)) z.1 z.2.1 z.2.2) fu (M, x1, x2)
set_option linter.unusedVariables false in
set_option maxRecDepth 100000 in
theorem wX7_good {X : JX} (hC : JC X cX7_good RX7 (some .int) 1 12 0 0) (hG : dmI dmX (XG X)) (hnl : nLof X = 3) (fu : Nat) (w : Nat) (hw : w < 2) (M : Mem) : J X (ZN X foI) (FX7_good fu (XD X) w M) 0 [(0, .ref (gadr (XG X) (3, w, 0)))] [] M 0 0 := by
  unfold FX7_good
  refine j_iconst (v := 0) hC dX7_good_0 (by decide) ?_
  refine j_istore_n hC [(1, .int 0), (0, .ref (gadr (XG X) (3, w, 0)))] hnl dX7_good_1 rfl rfl ?_
  refine j_iconst (v := 1) hC dX7_good_2 (by decide) ?_
  refine j_istore_n hC [(2, .int 1), (1, .int 0), (0, .ref (gadr (XG X) (3, w, 0)))] hnl dX7_good_3 rfl rfl ?_
  exact j_sub [2, 1, 0] rfl (wX7_good_4 hC hG hnl fu w hw M 0 1)
set_option linter.unusedVariables false in
set_option maxRecDepth 100000 in
theorem mX7_good (l : Launch) (Γ : xG) (hG : dmI dmX Γ) (fu : Nat) (D : List LDen) (w : Nat) (hw : w < 2) (M : Mem) (r : Int32 × Mem) (hr : FX7_good fu D w M = some r) : CN l yX7_good (ws_ yX7_good cX7_good 3 (some .int)) 1 12 Γ D [.ref (gadr Γ (3, w, 0))] M (foI r.1) r.2 := by
  refine CN.of (own := RX7) (lv0 := lv_args 0 [.ref (gadr Γ (3, w, 0))]) (by decide +kernel) rfl (Nat.le_of_ble_eq_true rfl) rfl (fun X e1 e2 e3 e4 hC => ?_) r hr
  subst e1
  subst e2
  exact wX7_good hC hG e4 fu w hw M
set_option linter.unusedVariables false in
set_option maxRecDepth 100000 in
theorem wX1_ways_90 {X : JX} (hC : JC X cX1_ways RX1 (some .int) 39 1440 2 12) (hT : JT X) (hG : dmI dmX (XG X)) (hnl : nLof X = 4) (fu : Nat) (M : Mem) (t0 : Int32) : J X (ZT X foI 2 12) (FX1_ways_90 fu (XD X) M t0) 90 [] [.int t0] M 2 12 := by
  unfold FX1_ways_90
  exact j_iretT hC rfl rfl dX1_ways_90
set_option linter.unusedVariables false in
set_option maxRecDepth 100000 in
theorem wX1_ways {X : JX} (hC : JC X cX1_ways RX1 (some .int) 39 1440 2 12) (hT : JT X) (hG : dmI dmX (XG X)) (hnl : nLof X = 4) (fu : Nat) (M : Mem) (x1 x2 : Int32) : J X (ZT X foI 2 12) (FX1_ways fu (XD X) M x1 x2) 0 [(0, .ref (gadr (XG X) (4, 0, 0))), (1, .int x1), (2, .int x2)] [] M 0 0 := by
  unfold FX1_ways
  refine j_aload_n hC 0 dX1_ways_0 rfl ?_
  refine j_iload_n hC 1 dX1_ways_1 rfl ?_
  refine j_callVT (nA := 1) (rest := []) hC hT [.int x1] rfl (fun r hr => mX1_birdAt (XL X) (JT.st hT) (XG X) hG fu (XD X) M x1 r hr) q1089 q1091 qs30 q126 q1092 (dmY hG rfl) rfl rfl (by decide +kernel) rfl rfl rfl rfl rfl rfl dX1_ways_2 (fun v2 => [.ref (gadr (XG X) (1, 0, v2.toNatClampNeg))]) (fun _ => rfl) (fun v2 M2 => ?_)
  refine j_gd (fun h2 => ?_)
  refine j_pop hC dX1_ways_5 rfl ?_
  refine j_iload_n hC 2 dX1_ways_6 rfl ?_
  refine j_iconst (v := 0) hC dX1_ways_7 (by decide) ?_
  refine j_iconst (v := 3) hC dX1_ways_8 (by decide) ?_
  refine j_callS (nA := 3) (rest := []) hC [.int x2, .int 0, .int 3] rfl (fun r hr => mX1_isIn (XL X) (XG X) hG fu (XD X) M2 x2 0 3 r hr) q558 q559 q126 q560 (by decide +kernel) rfl rfl rfl rfl rfl rfl dX1_ways_9 (fun v9 => [.int v9]) (fun _ => rfl) (fun v9 M9 => ?_)
  refine j_callST (nA := 1) (rest := []) hC hT [.int v9] rfl (fun r hr => mX1_thereIs (XL X) (JT.st hT) (XG X) hG fu (XD X) M9 v9 r hr) q1262 q1263 q126 q1264 (by decide +kernel) rfl rfl rfl rfl rfl rfl dX1_ways_12 (fun _ => []) (fun _ => rfl) (fun v12 M12 => ?_)
  refine j_aload_n hC 0 dX1_ways_15 rfl ?_
  refine j_getR (fk := 4) hC (dmY hG rfl) rfl rfl in_X1 rfl rfl q500 rfl dX1_ways_16 ?_
  refine j_iload_n hC 1 dX1_ways_19 rfl ?_
  refine j_callV (nA := 1) (rest := []) hC [.int x1] rfl (fun r hr => mX7_counts (XL X) (XG X) hG fu (XD X) 0 (by decide) M12 x1 r hr) q569 q570 q571 q135 q572 (dmW hG (by decide) rfl) rfl rfl (by decide +kernel) rfl rfl rfl rfl rfl rfl dX1_ways_20 (fun _ => []) (fun _ => rfl) (fun v20 M20 => ?_)
  refine j_aload_n hC 0 dX1_ways_23 rfl ?_
  refine j_getR (fk := 4) hC (dmY hG rfl) rfl rfl in_X1 rfl rfl q500 rfl dX1_ways_24 ?_
  refine j_callV (nA := 0) (rest := []) hC [] rfl (fun r hr => mX7_good (XL X) (XG X) hG fu (XD X) 0 (by decide) M20 r hr) q1265 q1266 q1267 q135 q1268 (dmW hG (by decide) rfl) rfl rfl (by decide +kernel) rfl rfl rfl rfl rfl rfl dX1_ways_27 (fun v27 => [.int v27]) (fun _ => rfl) (fun v27 M27 => ?_)
  refine j_istore_n hC [(3, .int v27), (0, .ref (gadr (XG X) (4, 0, 0))), (1, .int x1), (2, .int x2)] hnl dX1_ways_30 rfl rfl ?_
  refine j_iload_n hC 3 dX1_ways_31 rfl ?_
  refine j_if_ne (tgt := 39) hC dX1_ways_32 (by decide) (fun h32 => ?_) (fun h32 => ?_)
  · refine j_iload_n hC 0 dX1_ways_35 rfl ?_
    refine j_goto (tgt := 90) hC dX1_ways_36 (by decide) ?_
    exact j_sub [] rfl (wX1_ways_90 hC hT hG hnl fu M27 v27)
  · refine j_iload_n hC 3 dX1_ways_39 rfl ?_
    refine j_iconst (v := 1) hC dX1_ways_40 (by decide) ?_
    refine j_icmp_ne (tgt := 54) hC dX1_ways_41 (by decide) (fun h41 => ?_) (fun h41 => ?_)
    · refine j_aload_n hC 1 dX1_ways_44 rfl ?_
      refine j_getR (fk := 4) hC (dmY hG rfl) rfl rfl in_X1 rfl rfl q500 rfl dX1_ways_45 ?_
      refine j_getNI (fk := 5) hC (dmW hG (by decide) rfl) rfl rfl in_X7 rfl rfl q474 rfl dX1_ways_48 ?_
      refine j_goto (tgt := 90) hC dX1_ways_51 (by decide) ?_
      exact j_sub [] rfl (wX1_ways_90 hC hT hG hnl fu M27 (M27 (3, 0, 0) 5))
    · refine j_iload_n hC 3 dX1_ways_54 rfl ?_
      refine j_iconst (v := 2) hC dX1_ways_55 (by decide) ?_
      refine j_icmp_ne (tgt := 69) hC dX1_ways_56 (by decide) (fun h56 => ?_) (fun h56 => ?_)
      · refine j_aload_n hC 1 dX1_ways_59 rfl ?_
        refine j_getR (fk := 4) hC (dmY hG rfl) rfl rfl in_X1 rfl rfl q500 rfl dX1_ways_60 ?_
        refine j_getNI (fk := 6) hC (dmW hG (by decide) rfl) rfl rfl in_X7 rfl rfl q476 rfl dX1_ways_63 ?_
        refine j_goto (tgt := 90) hC dX1_ways_66 (by decide) ?_
        exact j_sub [] rfl (wX1_ways_90 hC hT hG hnl fu M27 (M27 (3, 0, 0) 6))
      · refine j_sipush (v := 6561) hC dX1_ways_69 (by decide) ?_
        refine j_iload_n hC 0 dX1_ways_72 rfl ?_
        refine j_isub hC dX1_ways_73 ?_
        refine j_aload_n hC 1 dX1_ways_74 rfl ?_
        refine j_getR (fk := 4) hC (dmY hG rfl) rfl rfl in_X1 rfl rfl q500 rfl dX1_ways_75 ?_
        refine j_getNI (fk := 5) hC (dmW hG (by decide) rfl) rfl rfl in_X7 rfl rfl q474 rfl dX1_ways_78 ?_
        refine j_isub hC dX1_ways_81 ?_
        refine j_aload_n hC 1 dX1_ways_82 rfl ?_
        refine j_getR (fk := 4) hC (dmY hG rfl) rfl rfl in_X1 rfl rfl q500 rfl dX1_ways_83 ?_
        refine j_getNI (fk := 6) hC (dmW hG (by decide) rfl) rfl rfl in_X7 rfl rfl q476 rfl dX1_ways_86 ?_
        refine j_isub hC dX1_ways_89 ?_
        exact j_sub [] rfl (wX1_ways_90 hC hT hG hnl fu M27 (((6561 - v27) - (M27 (3, 0, 0) 5)) - (M27 (3, 0, 0) 6)))
set_option linter.unusedVariables false in
set_option maxRecDepth 100000 in
theorem mX1_ways (l : Launch) (hst : l.stackTraces = false) (Γ : xG) (hG : dmI dmX Γ) (fu : Nat) (D : List LDen) (M : Mem) (x1 x2 : Int32) (r : TR) (hr : FX1_ways fu D M x1 x2 = some r) : CT l yX1_ways (ws_ yX1_ways cX1_ways 4 (some .int)) 39 1440 2 12 Γ D [.ref (gadr Γ (4, 0, 0)), .int x1, .int x2] M foI r := by
  refine CT.of hst (own := RX1) (lv0 := lv_args 0 [.ref (gadr Γ (4, 0, 0)), .int x1, .int x2]) (by decide +kernel) rfl (Nat.le_of_ble_eq_true rfl) rfl (fun X e1 e2 e3 e4 hC hT => ?_) r hr
  subst e1
  subst e2
  exact wX1_ways hC hT hG e4 fu M x1 x2
set_option linter.unusedVariables false in
set_option maxRecDepth 100000 in
theorem wX1_lands {X : JX} (hC : JC X cX1_lands RX1 (some .int) 39 1440 2 12) (hT : JT X) (hG : dmI dmX (XG X)) (hnl : nLof X = 3) (fu : Nat) (M : Mem) (x1 x2 : Int32) : J X (ZT X foI 2 12) (FX1_lands fu (XD X) M x1 x2) 0 [(0, .ref (gadr (XG X) (4, 0, 0))), (1, .int x1), (2, .int x2)] [] M 0 0 := by
  unfold FX1_lands
  refine j_aload_n hC 0 dX1_lands_0 rfl ?_
  refine j_iload_n hC 1 dX1_lands_1 rfl ?_
  refine j_callVT (nA := 1) (rest := []) hC hT [.int x1] rfl (fun r hr => mX1_birdAt (XL X) (JT.st hT) (XG X) hG fu (XD X) M x1 r hr) q1089 q1091 qs30 q126 q1092 (dmY hG rfl) rfl rfl (by decide +kernel) rfl rfl rfl rfl rfl rfl dX1_lands_2 (fun v2 => [.ref (gadr (XG X) (1, 0, v2.toNatClampNeg))]) (fun _ => rfl) (fun v2 M2 => ?_)
  refine j_gd (fun h2 => ?_)
  refine j_pop hC dX1_lands_5 rfl ?_
  refine j_iload_n hC 2 dX1_lands_6 rfl ?_
  refine j_iconst (v := 0) hC dX1_lands_7 (by decide) ?_
  refine j_bipush (v := 15) hC dX1_lands_8 (by decide) ?_
  refine j_callS (nA := 3) (rest := []) hC [.int x2, .int 0, .int 15] rfl (fun r hr => mX1_isIn (XL X) (XG X) hG fu (XD X) M2 x2 0 15 r hr) q558 q559 q126 q560 (by decide +kernel) rfl rfl rfl rfl rfl rfl dX1_lands_10 (fun v10 => [.int v10]) (fun _ => rfl) (fun v10 M10 => ?_)
  refine j_callST (nA := 1) (rest := []) hC hT [.int v10] rfl (fun r hr => mX1_mustBe (XL X) (JT.st hT) (XG X) hG fu (XD X) M10 v10 r hr) q1093 q1094 q126 q1095 (by decide +kernel) rfl rfl rfl rfl rfl rfl dX1_lands_13 (fun _ => []) (fun _ => rfl) (fun v13 M13 => ?_)
  refine j_aload_n hC 0 dX1_lands_16 rfl ?_
  refine j_getR (fk := 4) hC (dmY hG rfl) rfl rfl in_X1 rfl rfl q500 rfl dX1_lands_17 ?_
  refine j_iload_n hC 1 dX1_lands_20 rfl ?_
  refine j_callV (nA := 1) (rest := []) hC [.int x1] rfl (fun r hr => mX7_counts (XL X) (XG X) hG fu (XD X) 0 (by decide) M13 x1 r hr) q569 q570 q571 q135 q572 (dmW hG (by decide) rfl) rfl rfl (by decide +kernel) rfl rfl rfl rfl rfl rfl dX1_lands_21 (fun _ => []) (fun _ => rfl) (fun v21 M21 => ?_)
  refine j_aload_n hC 0 dX1_lands_24 rfl ?_
  refine j_getR (fk := 4) hC (dmY hG rfl) rfl rfl in_X1 rfl rfl q500 rfl dX1_lands_25 ?_
  refine j_getNR (fk := 1) hC (dmW hG (by decide) rfl) rfl rfl in_X7 rfl rfl q468 rfl dX1_lands_28 ?_
  refine j_iload_n hC 2 dX1_lands_31 rfl ?_
  refine j_iald hC (dmW hG (by decide) rfl) rfl dX1_lands_32 (fun h32 => ?_)
  exact j_iretT hC rfl rfl dX1_lands_33
set_option linter.unusedVariables false in
set_option maxRecDepth 100000 in
theorem mX1_lands (l : Launch) (hst : l.stackTraces = false) (Γ : xG) (hG : dmI dmX Γ) (fu : Nat) (D : List LDen) (M : Mem) (x1 x2 : Int32) (r : TR) (hr : FX1_lands fu D M x1 x2 = some r) : CT l yX1_lands (ws_ yX1_lands cX1_lands 3 (some .int)) 39 1440 2 12 Γ D [.ref (gadr Γ (4, 0, 0)), .int x1, .int x2] M foI r := by
  refine CT.of hst (own := RX1) (lv0 := lv_args 0 [.ref (gadr Γ (4, 0, 0)), .int x1, .int x2]) (by decide +kernel) rfl (Nat.le_of_ble_eq_true rfl) rfl (fun X e1 e2 e3 e4 hC hT => ?_) r hr
  subst e1
  subst e2
  exact wX1_lands hC hT hG e4 fu M x1 x2
set_option linter.unusedVariables false in
set_option maxRecDepth 100000 in
theorem wX1_good {X : JX} (hC : JC X cX1_good RX1 (some .int) 39 1440 2 12) (hT : JT X) (hG : dmI dmX (XG X)) (hnl : nLof X = 3) (fu : Nat) (M : Mem) (x1 x2 : Int32) : J X (ZT X foI 2 12) (FX1_good fu (XD X) M x1 x2) 0 [(0, .ref (gadr (XG X) (4, 0, 0))), (1, .int x1), (2, .int x2)] [] M 0 0 := by
  unfold FX1_good
  refine j_aload_n hC 0 dX1_good_0 rfl ?_
  refine j_iload_n hC 1 dX1_good_1 rfl ?_
  refine j_callVT (nA := 1) (rest := []) hC hT [.int x1] rfl (fun r hr => mX1_birdAt (XL X) (JT.st hT) (XG X) hG fu (XD X) M x1 r hr) q1089 q1091 qs30 q126 q1092 (dmY hG rfl) rfl rfl (by decide +kernel) rfl rfl rfl rfl rfl rfl dX1_good_2 (fun v2 => [.ref (gadr (XG X) (1, 0, v2.toNatClampNeg))]) (fun _ => rfl) (fun v2 M2 => ?_)
  refine j_gd (fun h2 => ?_)
  refine j_pop hC dX1_good_5 rfl ?_
  refine j_iload_n hC 2 dX1_good_6 rfl ?_
  refine j_iconst (v := 1) hC dX1_good_7 (by decide) ?_
  refine j_bipush (v := 8) hC dX1_good_8 (by decide) ?_
  refine j_callS (nA := 3) (rest := []) hC [.int x2, .int 1, .int 8] rfl (fun r hr => mX1_isIn (XL X) (XG X) hG fu (XD X) M2 x2 1 8 r hr) q558 q559 q126 q560 (by decide +kernel) rfl rfl rfl rfl rfl rfl dX1_good_10 (fun v10 => [.int v10]) (fun _ => rfl) (fun v10 M10 => ?_)
  refine j_callST (nA := 1) (rest := []) hC hT [.int v10] rfl (fun r hr => mX1_must (XL X) (JT.st hT) (XG X) hG fu (XD X) M10 v10 r hr) q1167 q1168 q126 q1169 (by decide +kernel) rfl rfl rfl rfl rfl rfl dX1_good_13 (fun _ => []) (fun _ => rfl) (fun v13 M13 => ?_)
  refine j_aload_n hC 0 dX1_good_16 rfl ?_
  refine j_getR (fk := 4) hC (dmY hG rfl) rfl rfl in_X1 rfl rfl q500 rfl dX1_good_17 ?_
  refine j_iload_n hC 1 dX1_good_20 rfl ?_
  refine j_callV (nA := 1) (rest := []) hC [.int x1] rfl (fun r hr => mX7_counts (XL X) (XG X) hG fu (XD X) 0 (by decide) M13 x1 r hr) q569 q570 q571 q135 q572 (dmW hG (by decide) rfl) rfl rfl (by decide +kernel) rfl rfl rfl rfl rfl rfl dX1_good_21 (fun _ => []) (fun _ => rfl) (fun v21 M21 => ?_)
  refine j_aload_n hC 0 dX1_good_24 rfl ?_
  refine j_getR (fk := 4) hC (dmY hG rfl) rfl rfl in_X1 rfl rfl q500 rfl dX1_good_25 ?_
  refine j_getNR (fk := 0) hC (dmW hG (by decide) rfl) rfl rfl in_X7 rfl rfl q466 rfl dX1_good_28 ?_
  refine j_iload_n hC 2 dX1_good_31 rfl ?_
  refine j_iald hC (dmW hG (by decide) rfl) rfl dX1_good_32 (fun h32 => ?_)
  exact j_iretT hC rfl rfl dX1_good_33
set_option linter.unusedVariables false in
set_option maxRecDepth 100000 in
theorem mX1_good (l : Launch) (hst : l.stackTraces = false) (Γ : xG) (hG : dmI dmX Γ) (fu : Nat) (D : List LDen) (M : Mem) (x1 x2 : Int32) (r : TR) (hr : FX1_good fu D M x1 x2 = some r) : CT l yX1_good (ws_ yX1_good cX1_good 3 (some .int)) 39 1440 2 12 Γ D [.ref (gadr Γ (4, 0, 0)), .int x1, .int x2] M foI r := by
  refine CT.of hst (own := RX1) (lv0 := lv_args 0 [.ref (gadr Γ (4, 0, 0)), .int x1, .int x2]) (by decide +kernel) rfl (Nat.le_of_ble_eq_true rfl) rfl (fun X e1 e2 e3 e4 hC hT => ?_) r hr
  subst e1
  subst e2
  exact wX1_good hC hT hG e4 fu M x1 x2
set_option linter.unusedVariables false in
set_option maxRecDepth 100000 in
theorem wX1_straight_101 {X : JX} (hC : JC X cX1_straight RX1 (some .int) 37 1386 1 6) (hT : JT X) (hG : dmI dmX (XG X)) (hnl : nLof X = 7) (fu : Nat) (M : Mem) (t0 : Int32) : J X (ZT X foI 1 6) (FX1_straight_101 fu (XD X) M t0) 101 [] [.int t0] M 1 6 := by
  unfold FX1_straight_101
  exact j_iretT hC rfl rfl dX1_straight_101
set_option linter.unusedVariables false in
set_option maxRecDepth 100000 in
theorem wgX1_straight_26 {X : JX} (hC : JC X cX1_straight RX1 (some .int) 37 1386 1 6) (hT : JT X) (hG : dmI dmX (XG X)) (hnl : nLof X = 7) (fu : Nat) (kn26 : Mem × Int32 × Int32 × Int32 × Int32 × Int32 → Option TR) (hk26 : ∀ (M : Mem) (x1 x2 x3 x4 x5 : Int32), J X (ZT X foI 1 6) (kn26 (M, x1, x2, x3, x4, x5)) 26 [(0, .ref (gadr (XG X) (4, 0, 0))), (1, .int x1), (2, .int x2), (3, .int x3), (4, .int x4), (5, .int x5)] [] M 1 6) (M : Mem) (x1 x2 x3 x4 x5 : Int32) : J X (ZT X foI 1 6) (GX1_straight_26 fu (XD X) kn26 M x1 x2 x3 x4 x5) 26 [(0, .ref (gadr (XG X) (4, 0, 0))), (1, .int x1), (2, .int x2), (3, .int x3), (4, .int x4), (5, .int x5)] [] M 1 6 := by
  unfold GX1_straight_26
  refine j_iload hC 5 dX1_straight_26 rfl ?_
  refine j_bipush (v := 8) hC dX1_straight_28 (by decide) ?_
  refine j_icmp_ge (tgt := 108) hC dX1_straight_30 (by decide) (fun h30 => ?_) (fun h30 => ?_)
  · refine j_iconst (v := (-1)) hC dX1_straight_108 (by decide) ?_
    exact j_iretT hC rfl rfl dX1_straight_109
  · refine j_aload_n hC 0 dX1_straight_33 rfl ?_
    refine j_getR (fk := 1) hC (dmY hG rfl) rfl rfl in_X1 rfl rfl q496 rfl dX1_straight_34 ?_
    refine j_iload_n hC 1 dX1_straight_37 rfl ?_
    refine j_iload_n hC 3 dX1_straight_38 rfl ?_
    refine j_iload hC 4 dX1_straight_39 rfl ?_
    refine j_iload hC 5 dX1_straight_41 rfl ?_
    refine j_callV (nA := 4) (rest := []) hC [.int x1, .int x3, .int x4, .int x5] rfl (fun r hr => mX3_sinks (XL X) (XG X) hG fu (XD X) 0 (by decide) M x1 x3 x4 x5 r hr) q1171 q578 q579 q128 q580 (dmS hG (by decide) rfl) rfl rfl (by decide +kernel) rfl rfl rfl rfl rfl rfl dX1_straight_43 (fun v43 => [.int v43]) (fun _ => rfl) (fun v43 M43 => ?_)
    refine j_istore hC [(6, .int v43), (0, .ref (gadr (XG X) (4, 0, 0))), (1, .int x1), (2, .int x2), (3, .int x3), (4, .int x4), (5, .int x5)] hnl dX1_straight_46 rfl rfl ?_
    refine j_iload hC 5 dX1_straight_48 rfl ?_
    refine j_aload_n hC 1 dX1_straight_50 rfl ?_
    refine j_getR (fk := 1) hC (dmY hG rfl) rfl rfl in_X1 rfl rfl q496 rfl dX1_straight_51 ?_
    refine j_iload_n hC 2 dX1_straight_54 rfl ?_
    refine j_iload_n hC 4 dX1_straight_55 rfl ?_
    refine j_iload hC 5 dX1_straight_56 rfl ?_
    refine j_iload hC 6 dX1_straight_58 rfl ?_
    refine j_callV (nA := 4) (rest := [.int x4]) hC [.int x1, .int x3, .int x4, .int x5] rfl (fun r hr => mX3_carried (XL X) (XG X) hG fu (XD X) 0 (by decide) M43 x1 x3 x4 x5 r hr) q1170 q646 q647 q128 q648 (dmS hG (by decide) rfl) rfl rfl (by decide +kernel) rfl rfl rfl rfl rfl rfl dX1_straight_60 (fun v60 => [.int v60, .int x4]) (fun _ => rfl) (fun v60 M60 => ?_)
    refine j_iadd hC dX1_straight_63 ?_
    refine j_ltT (fun y64 => ?_)
    refine j_istore hC [(4, .int y64), (6, .int v43), (0, .ref (gadr (XG X) (4, 0, 0))), (1, .int x1), (2, .int x2), (3, .int x3), (5, .int x5)] hnl dX1_straight_64 rfl rfl ?_
    refine j_iload_n hC 5 dX1_straight_66 rfl ?_
    refine j_iload hC 1 dX1_straight_67 rfl ?_
    refine j_isub hC dX1_straight_69 ?_
    refine j_ltT (fun y70 => ?_)
    refine j_istore_n hC [(3, .int y70), (4, .int y64), (6, .int v43), (0, .ref (gadr (XG X) (4, 0, 0))), (1, .int x1), (2, .int x2), (5, .int x5)] hnl dX1_straight_70 rfl rfl ?_
    refine j_iload hC 1 dX1_straight_71 rfl ?_
    refine j_iconst (v := 0) hC dX1_straight_73 (by decide) ?_
    refine j_bipush (v := 15) hC dX1_straight_74 (by decide) ?_
    refine j_callS (nA := 3) (rest := []) hC [.int y64, .int 0, .int 15] rfl (fun r hr => mX1_isIn (XL X) (XG X) hG fu (XD X) M60 y64 0 15 r hr) q558 q559 q126 q560 (by decide +kernel) rfl rfl rfl rfl rfl rfl dX1_straight_76 (fun v76 => [.int v76]) (fun _ => rfl) (fun v76 M76 => ?_)
    refine j_if_ne (tgt := 84) hC dX1_straight_79 (by decide) (fun h79 => ?_) (fun h79 => ?_)
    · refine j_iconst (v := (-1)) hC dX1_straight_82 (by decide) ?_
      exact j_iretT hC rfl rfl dX1_straight_83
    · refine j_iload_n hC 0 dX1_straight_84 rfl ?_
      refine j_if_gt (tgt := 102) hC dX1_straight_85 (by decide) (fun h85 => ?_) (fun h85 => ?_)
      · refine j_iincL hC 6 (fun y102 => [(5, .int y102), (3, .int y70), (4, .int y64), (6, .int v43), (0, .ref (gadr (XG X) (4, 0, 0))), (1, .int x1), (2, .int x2)]) hnl dX1_straight_102 rfl (by decide) rfl (fun _ => rfl) (fun y102 => ?_)
        refine j_goto (tgt := 26) hC dX1_straight_105 (by decide) ?_
        exact j_sub [4, 5, 6, 1, 2, 0] rfl (hk26 M76 x1 x2 y70 y64 y102)
      · refine j_iload_n hC 5 dX1_straight_88 rfl ?_
        refine j_if_eq (tgt := 99) hC dX1_straight_89 (by decide) (fun h89 => ?_) (fun h89 => ?_)
        · refine j_iload hC 1 dX1_straight_99 rfl ?_
          exact j_sub [] rfl (wX1_straight_101 hC hT hG hnl fu M76 y64)
        · refine j_iload hC 6 dX1_straight_92 rfl ?_
          refine j_iconst (v := 1) hC dX1_straight_94 (by decide) ?_
          refine j_iadd hC dX1_straight_95 ?_
          refine j_goto (tgt := 101) hC dX1_straight_96 (by decide) ?_
          exact j_sub [] rfl (wX1_straight_101 hC hT hG hnl fu M76 (x5 + 1))
set_option linter.unusedVariables false in
set_option maxRecDepth 100000 in
theorem wX1_straight_26 {X : JX} (hC : JC X cX1_straight RX1 (some .int) 37 1386 1 6) (hT : JT X) (hG : dmI dmX (XG X)) (hnl : nLof X = 7) (fu : Nat) (M : Mem) (x1 x2 x3 x4 x5 : Int32) : J X (ZT X foI 1 6) (FX1_straight_26 fu (XD X) M x1 x2 x3 x4 x5) 26 [(0, .ref (gadr (XG X) (4, 0, 0))), (1, .int x1), (2, .int x2), (3, .int x3), (4, .int x4), (5, .int x5)] [] M 1 6 := by
  exact j_lp (lvf := fun z => [(0, .ref (gadr (XG X) (4, 0, 0))), (1, .int (z.2.1)), (2, .int (z.2.2.1)), (3, .int (z.2.2.2.1)), (4, .int (z.2.2.2.2.1)), (5, .int (z.2.2.2.2.2))]) (Mf := fun z => z.1) (fun kn hk z => wgX1_straight_26 hC hT hG hnl fu kn (fun M x1 x2 x3 x4 x5 => hk (M, x1, x2, x3, x4, x5)) z.1 z.2.1 z.2.2.1 z.2.2.2.1 z.2.2.2.2.1 z.2.2.2.2.2) fu (M, x1, x2, x3, x4, x5)
set_option linter.unusedVariables false in
set_option maxRecDepth 100000 in
theorem wX1_straight {X : JX} (hC : JC X cX1_straight RX1 (some .int) 37 1386 1 6) (hT : JT X) (hG : dmI dmX (XG X)) (hnl : nLof X = 7) (fu : Nat) (M : Mem) (x1 x2 : Int32) : J X (ZT X foI 1 6) (FX1_straight fu (XD X) M x1 x2) 0 [(0, .ref (gadr (XG X) (4, 0, 0))), (1, .int x1), (2, .int x2)] [] M 0 0 := by
  unfold FX1_straight
  refine j_aload_n hC 0 dX1_straight_0 rfl ?_
  refine j_iload_n hC 1 dX1_straight_1 rfl ?_
  refine j_callVT (nA := 1) (rest := []) hC hT [.int x1] rfl (fun r hr => mX1_birdAt (XL X) (JT.st hT) (XG X) hG fu (XD X) M x1 r hr) q1089 q1091 qs30 q126 q1092 (dmY hG rfl) rfl rfl (by decide +kernel) rfl rfl rfl rfl rfl rfl dX1_straight_2 (fun v2 => [.ref (gadr (XG X) (1, 0, v2.toNatClampNeg))]) (fun _ => rfl) (fun v2 M2 => ?_)
  refine j_gd (fun h2 => ?_)
  refine j_pop hC dX1_straight_5 rfl ?_
  refine j_aload_n hC 0 dX1_straight_6 rfl ?_
  refine j_getR (fk := 1) hC (dmY hG rfl) rfl rfl in_X1 rfl rfl q496 rfl dX1_straight_7 ?_
  refine j_getNI (fk := 13) hC (dmS hG (by decide) rfl) rfl rfl in_X3 rfl rfl q292 rfl dX1_straight_10 ?_
  refine j_ltT (fun y13 => ?_)
  refine j_istore_n hC [(3, .int y13), (0, .ref (gadr (XG X) (4, 0, 0))), (1, .int x1), (2, .int x2)] hnl dX1_straight_13 rfl rfl ?_
  refine j_aload_n hC 1 dX1_straight_14 rfl ?_
  refine j_getR (fk := 1) hC (dmY hG rfl) rfl rfl in_X1 rfl rfl q496 rfl dX1_straight_15 ?_
  refine j_getNI (fk := 12) hC (dmS hG (by decide) rfl) rfl rfl in_X3 rfl rfl q288 rfl dX1_straight_18 ?_
  refine j_ltT (fun y21 => ?_)
  refine j_istore hC [(4, .int y21), (3, .int y13), (0, .ref (gadr (XG X) (4, 0, 0))), (1, .int x1), (2, .int x2)] hnl dX1_straight_21 rfl rfl ?_
  refine j_iconst (v := 0) hC dX1_straight_23 (by decide) ?_
  refine j_istore hC [(5, .int 0), (4, .int y21), (3, .int y13), (0, .ref (gadr (XG X) (4, 0, 0))), (1, .int x1), (2, .int x2)] hnl dX1_straight_24 rfl rfl ?_
  exact j_sub [3, 4, 5, 2, 1, 0] rfl (wX1_straight_26 hC hT hG hnl fu M2 x1 x2 y13 y21 0)
set_option linter.unusedVariables false in
set_option maxRecDepth 100000 in
theorem mX1_straight (l : Launch) (hst : l.stackTraces = false) (Γ : xG) (hG : dmI dmX Γ) (fu : Nat) (D : List LDen) (M : Mem) (x1 x2 : Int32) (r : TR) (hr : FX1_straight fu D M x1 x2 = some r) : CT l yX1_straight (ws_ yX1_straight cX1_straight 7 (some .int)) 37 1386 1 6 Γ D [.ref (gadr Γ (4, 0, 0)), .int x1, .int x2] M foI r := by
  refine CT.of hst (own := RX1) (lv0 := lv_args 0 [.ref (gadr Γ (4, 0, 0)), .int x1, .int x2]) (by decide +kernel) rfl (Nat.le_of_ble_eq_true rfl) rfl (fun X e1 e2 e3 e4 hC hT => ?_) r hr
  subst e1
  subst e2
  exact wX1_straight hC hT hG e4 fu M x1 x2
set_option linter.unusedVariables false in
set_option maxRecDepth 100000 in
theorem wgX1_hasIt_10 {X : JX} (hC : JC X cX1_hasIt RX1 (some .int) 1 12 0 0) (hG : dmI dmX (XG X)) (hnl : nLof X = 6) (fu : Nat) (w : Nat) (hw : w < 2) (w2 : Nat) (hw2 : w2 < 2) (kn10 : Mem × Int32 × Int32 × Int32 → Option (Int32 × Mem)) (hk10 : ∀ (M : Mem) (x3 x4 x5 : Int32), J X (ZN X foI) (kn10 (M, x3, x4, x5)) 10 [(1, .ref (gadr (XG X) (3, w, 0))), (2, .ref (gadr (XG X) (3, w2, 0))), (3, .int x3), (4, .int x4), (5, .int x5)] [] M 0 0) (M : Mem) (x3 x4 x5 : Int32) : J X (ZN X foI) (GX1_hasIt_10 fu (XD X) w w2 kn10 M x3 x4 x5) 10 [(1, .ref (gadr (XG X) (3, w, 0))), (2, .ref (gadr (XG X) (3, w2, 0))), (3, .int x3), (4, .int x4), (5, .int x5)] [] M 0 0 := by
  unfold GX1_hasIt_10
  refine j_iload hC 4 dX1_hasIt_10 rfl ?_
  refine j_bipush (v := 8) hC dX1_hasIt_12 (by decide) ?_
  refine j_icmp_gt (tgt := 48) hC dX1_hasIt_14 (by decide) (fun h14 => ?_) (fun h14 => ?_)
  · refine j_iload_n hC 2 dX1_hasIt_48 rfl ?_
    exact j_iret hC dX1_hasIt_49
  · refine j_iload hC 3 dX1_hasIt_17 rfl ?_
    refine j_aload_n hC 1 dX1_hasIt_19 rfl ?_
    refine j_getNR (fk := 0) hC (dmW hG hw2 rfl) rfl rfl in_X7 rfl rfl q466 rfl dX1_hasIt_20 ?_
    refine j_iload hC 4 dX1_hasIt_23 rfl ?_
    refine j_iald hC (dmW hG hw2 rfl) rfl dX1_hasIt_25 (fun h25 => ?_)
    refine j_isub hC dX1_hasIt_26 ?_
    refine j_ltT (fun y27 => ?_)
    refine j_istore hC [(4, .int y27), (1, .ref (gadr (XG X) (3, w, 0))), (2, .ref (gadr (XG X) (3, w2, 0))), (3, .int x3), (5, .int x5)] hnl dX1_hasIt_27 rfl rfl ?_
    refine j_iload_n hC 3 dX1_hasIt_29 rfl ?_
    refine j_aload_n hC 1 dX1_hasIt_30 rfl ?_
    refine j_getNR (fk := 0) hC (dmW hG hw rfl) rfl rfl in_X7 rfl rfl q466 rfl dX1_hasIt_31 ?_
    refine j_iload hC 4 dX1_hasIt_34 rfl ?_
    refine j_iald hC (dmW hG hw rfl) rfl dX1_hasIt_36 (fun h36 => ?_)
    refine j_iload hC 0 dX1_hasIt_37 rfl ?_
    refine j_imul hC dX1_hasIt_39 ?_
    refine j_iadd hC dX1_hasIt_40 ?_
    refine j_ltT (fun y41 => ?_)
    refine j_istore_n hC [(3, .int y41), (4, .int y27), (1, .ref (gadr (XG X) (3, w, 0))), (2, .ref (gadr (XG X) (3, w2, 0))), (5, .int x5)] hnl dX1_hasIt_41 rfl rfl ?_
    refine j_iincL hC 4 (fun y42 => [(5, .int y42), (3, .int y41), (4, .int y27), (1, .ref (gadr (XG X) (3, w, 0))), (2, .ref (gadr (XG X) (3, w2, 0)))]) hnl dX1_hasIt_42 rfl (by decide) rfl (fun _ => rfl) (fun y42 => ?_)
    refine j_goto (tgt := 10) hC dX1_hasIt_45 (by decide) ?_
    exact j_sub [3, 4, 1, 2, 0] rfl (hk10 M y41 y27 y42)
set_option linter.unusedVariables false in
set_option maxRecDepth 100000 in
theorem wX1_hasIt_10 {X : JX} (hC : JC X cX1_hasIt RX1 (some .int) 1 12 0 0) (hG : dmI dmX (XG X)) (hnl : nLof X = 6) (fu : Nat) (w : Nat) (hw : w < 2) (w2 : Nat) (hw2 : w2 < 2) (M : Mem) (x3 x4 x5 : Int32) : J X (ZN X foI) (FX1_hasIt_10 fu (XD X) w w2 M x3 x4 x5) 10 [(1, .ref (gadr (XG X) (3, w, 0))), (2, .ref (gadr (XG X) (3, w2, 0))), (3, .int x3), (4, .int x4), (5, .int x5)] [] M 0 0 := by
  exact j_lp (lvf := fun z => [(1, .ref (gadr (XG X) (3, w, 0))), (2, .ref (gadr (XG X) (3, w2, 0))), (3, .int (z.2.1)), (4, .int (z.2.2.1)), (5, .int (z.2.2.2))]) (Mf := fun z => z.1) (fun kn hk z => wgX1_hasIt_10 hC hG hnl fu w hw w2 hw2 kn (fun M x3 x4 x5 => hk (M, x3, x4, x5)) z.1 z.2.1 z.2.2.1 z.2.2.2) fu (M, x3, x4, x5)
set_option linter.unusedVariables false in
set_option maxRecDepth 100000 in
theorem wX1_hasIt {X : JX} (hC : JC X cX1_hasIt RX1 (some .int) 1 12 0 0) (hG : dmI dmX (XG X)) (hnl : nLof X = 6) (fu : Nat) (w : Nat) (hw : w < 2) (w2 : Nat) (hw2 : w2 < 2) (M : Mem) : J X (ZN X foI) (FX1_hasIt fu (XD X) w w2 M) 0 [(0, .ref (gadr (XG X) (4, 0, 0))), (1, .ref (gadr (XG X) (3, w, 0))), (2, .ref (gadr (XG X) (3, w2, 0)))] [] M 0 0 := by
  unfold FX1_hasIt
  refine j_iconst (v := 0) hC dX1_hasIt_0 (by decide) ?_
  refine j_istore_n hC [(3, .int 0), (0, .ref (gadr (XG X) (4, 0, 0))), (1, .ref (gadr (XG X) (3, w, 0))), (2, .ref (gadr (XG X) (3, w2, 0)))] hnl dX1_hasIt_1 rfl rfl ?_
  refine j_sipush (v := 6561) hC dX1_hasIt_2 (by decide) ?_
  refine j_istore hC [(4, .int 6561), (3, .int 0), (0, .ref (gadr (XG X) (4, 0, 0))), (1, .ref (gadr (XG X) (3, w, 0))), (2, .ref (gadr (XG X) (3, w2, 0)))] hnl dX1_hasIt_5 rfl rfl ?_
  refine j_iconst (v := 1) hC dX1_hasIt_7 (by decide) ?_
  refine j_istore hC [(5, .int 1), (4, .int 6561), (3, .int 0), (0, .ref (gadr (XG X) (4, 0, 0))), (1, .ref (gadr (XG X) (3, w, 0))), (2, .ref (gadr (XG X) (3, w2, 0)))] hnl dX1_hasIt_8 rfl rfl ?_
  exact j_sub [4, 5, 2, 1, 0] rfl (wX1_hasIt_10 hC hG hnl fu w hw w2 hw2 M 0 6561 1)
set_option linter.unusedVariables false in
set_option maxRecDepth 100000 in
theorem mX1_hasIt (l : Launch) (Γ : xG) (hG : dmI dmX Γ) (fu : Nat) (D : List LDen) (w : Nat) (hw : w < 2) (w2 : Nat) (hw2 : w2 < 2) (M : Mem) (r : Int32 × Mem) (hr : FX1_hasIt fu D w w2 M = some r) : CN l yX1_hasIt (ws_ yX1_hasIt cX1_hasIt 6 (some .int)) 1 12 Γ D [.ref (gadr Γ (4, 0, 0)), .ref (gadr Γ (3, w, 0)), .ref (gadr Γ (3, w2, 0))] M (foI r.1) r.2 := by
  refine CN.of (own := RX1) (lv0 := lv_args 0 [.ref (gadr Γ (4, 0, 0)), .ref (gadr Γ (3, w, 0)), .ref (gadr Γ (3, w2, 0))]) (by decide +kernel) rfl (Nat.le_of_ble_eq_true rfl) rfl (fun X e1 e2 e3 e4 hC => ?_) r hr
  subst e1
  subst e2
  exact wX1_hasIt hC hG e4 fu w hw w2 hw2 M
set_option linter.unusedVariables false in
set_option maxRecDepth 100000 in
theorem wX1_firstHas {X : JX} (hC : JC X cX1_firstHas RX1 (some .int) 39 1440 0 0) (hG : dmI dmX (XG X)) (hnl : nLof X = 3) (fu : Nat) (M : Mem) (x1 x2 : Int32) : J X (ZN X foI) (FX1_firstHas fu (XD X) M x1 x2) 0 [(0, .ref (gadr (XG X) (4, 0, 0))), (1, .int x1), (2, .int x2)] [] M 0 0 := by
  unfold FX1_firstHas
  refine j_aload_n hC 0 dX1_firstHas_0 rfl ?_
  refine j_getR (fk := 4) hC (dmY hG rfl) rfl rfl in_X1 rfl rfl q500 rfl dX1_firstHas_1 ?_
  refine j_iload_n hC 1 dX1_firstHas_4 rfl ?_
  refine j_callV (nA := 1) (rest := []) hC [.int x1] rfl (fun r hr => mX7_counts (XL X) (XG X) hG fu (XD X) 0 (by decide) M x1 r hr) q569 q570 q571 q135 q572 (dmW hG (by decide) rfl) rfl rfl (by decide +kernel) rfl rfl rfl rfl rfl rfl dX1_firstHas_5 (fun _ => []) (fun _ => rfl) (fun v5 M5 => ?_)
  refine j_aload_n hC 0 dX1_firstHas_8 rfl ?_
  refine j_getR (fk := 5) hC (dmY hG rfl) rfl rfl in_X1 rfl rfl q501 rfl dX1_firstHas_9 ?_
  refine j_iload_n hC 2 dX1_firstHas_12 rfl ?_
  refine j_callV (nA := 1) (rest := []) hC [.int x2] rfl (fun r hr => mX7_counts (XL X) (XG X) hG fu (XD X) 1 (by decide) M5 x2 r hr) q569 q570 q571 q135 q572 (dmW hG (by decide) rfl) rfl rfl (by decide +kernel) rfl rfl rfl rfl rfl rfl dX1_firstHas_13 (fun _ => []) (fun _ => rfl) (fun v13 M13 => ?_)
  refine j_aload_n hC 0 dX1_firstHas_16 rfl ?_
  refine j_aload_n hC 0 dX1_firstHas_17 rfl ?_
  refine j_getR (fk := 4) hC (dmY hG rfl) rfl rfl in_X1 rfl rfl q500 rfl dX1_firstHas_18 ?_
  refine j_aload_n hC 0 dX1_firstHas_21 rfl ?_
  refine j_getR (fk := 5) hC (dmY hG rfl) rfl rfl in_X1 rfl rfl q501 rfl dX1_firstHas_22 ?_
  refine j_callV (nA := 2) (rest := []) hC [.ref (gadr (XG X) (3, 0, 0)), .ref (gadr (XG X) (3, 1, 0))] rfl (fun r hr => mX1_hasIt (XL X) (XG X) hG fu (XD X) 0 (by decide) 1 (by decide) M13 r hr) q1301 q1303 qs37 q126 q1304 (dmY hG rfl) rfl rfl (by decide +kernel) rfl rfl rfl rfl rfl rfl dX1_firstHas_25 (fun v25 => [.int v25]) (fun _ => rfl) (fun v25 M25 => ?_)
  exact j_iret hC dX1_firstHas_28
set_option linter.unusedVariables false in
set_option maxRecDepth 100000 in
theorem mX1_firstHas (l : Launch) (Γ : xG) (hG : dmI dmX Γ) (fu : Nat) (D : List LDen) (M : Mem) (x1 x2 : Int32) (r : Int32 × Mem) (hr : FX1_firstHas fu D M x1 x2 = some r) : CN l yX1_firstHas (ws_ yX1_firstHas cX1_firstHas 3 (some .int)) 39 1440 Γ D [.ref (gadr Γ (4, 0, 0)), .int x1, .int x2] M (foI r.1) r.2 := by
  refine CN.of (own := RX1) (lv0 := lv_args 0 [.ref (gadr Γ (4, 0, 0)), .int x1, .int x2]) (by decide +kernel) rfl (Nat.le_of_ble_eq_true rfl) rfl (fun X e1 e2 e3 e4 hC => ?_) r hr
  subst e1
  subst e2
  exact wX1_firstHas hC hG e4 fu M x1 x2
set_option linter.unusedVariables false in
set_option maxRecDepth 100000 in
theorem wX1_odds_132 {X : JX} (hC : JC X cX1_odds RX1 (some .int) 40 1462 3 18) (hT : JT X) (hG : dmI dmX (XG X)) (hnl : nLof X = 7) (fu : Nat) (M : Mem) (t0 : Int32) : J X (ZT X foI 3 18) (FX1_odds_132 fu (XD X) M t0) 132 [] [.int t0] M 3 18 := by
  unfold FX1_odds_132
  exact j_iretT hC rfl rfl dX1_odds_132
set_option linter.unusedVariables false in
set_option maxRecDepth 100000 in
theorem wgX1_odds_60 {X : JX} (hC : JC X cX1_odds RX1 (some .int) 40 1462 3 18) (hT : JT X) (hG : dmI dmX (XG X)) (hnl : nLof X = 7) (fu : Nat) (kn60 : Mem × Int32 × Int32 × Int32 → Option TR) (hk60 : ∀ (M : Mem) (x3 x5 x6 : Int32), J X (ZT X foI 3 18) (kn60 (M, x3, x5, x6)) 60 [(0, .ref (gadr (XG X) (4, 0, 0))), (3, .int x3), (5, .int x5), (6, .int x6)] [] M 3 18) (M : Mem) (x3 x5 x6 : Int32) : J X (ZT X foI 3 18) (GX1_odds_60 fu (XD X) kn60 M x3 x5 x6) 60 [(0, .ref (gadr (XG X) (4, 0, 0))), (3, .int x3), (5, .int x5), (6, .int x6)] [] M 3 18 := by
  unfold GX1_odds_60
  refine j_iload hC 3 dX1_odds_60 rfl ?_
  refine j_bipush (v := 8) hC dX1_odds_62 (by decide) ?_
  refine j_icmp_gt (tgt := 99) hC dX1_odds_64 (by decide) (fun h64 => ?_) (fun h64 => ?_)
  · refine j_iload_n hC 1 dX1_odds_99 rfl ?_
    refine j_iconst (v := 2) hC dX1_odds_100 (by decide) ?_
    refine j_icmp_ne (tgt := 109) hC dX1_odds_101 (by decide) (fun h101 => ?_) (fun h101 => ?_)
    · refine j_iload hC 2 dX1_odds_104 rfl ?_
      refine j_goto (tgt := 132) hC dX1_odds_106 (by decide) ?_
      exact j_sub [] rfl (wX1_odds_132 hC hT hG hnl fu M x5)
    · refine j_sipush (v := 6561) hC dX1_odds_109 (by decide) ?_
      refine j_aload_n hC 0 dX1_odds_112 rfl ?_
      refine j_getR (fk := 4) hC (dmY hG rfl) rfl rfl in_X1 rfl rfl q500 rfl dX1_odds_113 ?_
      refine j_callV (nA := 0) (rest := [.int 6561]) hC [] rfl (fun r hr => mX7_good (XL X) (XG X) hG fu (XD X) 0 (by decide) M r hr) q1265 q1266 q1267 q135 q1268 (dmW hG (by decide) rfl) rfl rfl (by decide +kernel) rfl rfl rfl rfl rfl rfl dX1_odds_116 (fun v116 => [.int v116, .int 6561]) (fun _ => rfl) (fun v116 M116 => ?_)
      refine j_isub hC dX1_odds_119 ?_
      refine j_sipush (v := 6561) hC dX1_odds_120 (by decide) ?_
      refine j_aload_n hC 0 dX1_odds_123 rfl ?_
      refine j_getR (fk := 5) hC (dmY hG rfl) rfl rfl in_X1 rfl rfl q501 rfl dX1_odds_124 ?_
      refine j_callV (nA := 0) (rest := [.int 6561, .int (6561 - v116)]) hC [] rfl (fun r hr => mX7_good (XL X) (XG X) hG fu (XD X) 1 (by decide) M116 r hr) q1265 q1266 q1267 q135 q1268 (dmW hG (by decide) rfl) rfl rfl (by decide +kernel) rfl rfl rfl rfl rfl rfl dX1_odds_127 (fun v127 => [.int v127, .int 6561, .int (6561 - v116)]) (fun _ => rfl) (fun v127 M127 => ?_)
      refine j_isub hC dX1_odds_130 ?_
      refine j_imul hC dX1_odds_131 ?_
      exact j_sub [] rfl (wX1_odds_132 hC hT hG hnl fu M127 ((6561 - v116) * (6561 - v127)))
  · refine j_iload hC 2 dX1_odds_67 rfl ?_
    refine j_aload_n hC 0 dX1_odds_69 rfl ?_
    refine j_getR (fk := 4) hC (dmY hG rfl) rfl rfl in_X1 rfl rfl q500 rfl dX1_odds_70 ?_
    refine j_getNR (fk := 0) hC (dmW hG (by decide) rfl) rfl rfl in_X7 rfl rfl q466 rfl dX1_odds_73 ?_
    refine j_iload hC 3 dX1_odds_76 rfl ?_
    refine j_iald hC (dmW hG (by decide) rfl) rfl dX1_odds_78 (fun h78 => ?_)
    refine j_aload_n hC 0 dX1_odds_79 rfl ?_
    refine j_getR (fk := 5) hC (dmY hG rfl) rfl rfl in_X1 rfl rfl q501 rfl dX1_odds_80 ?_
    refine j_getNR (fk := 0) hC (dmW hG (by decide) rfl) rfl rfl in_X7 rfl rfl q466 rfl dX1_odds_83 ?_
    refine j_iload hC 3 dX1_odds_86 rfl ?_
    refine j_iald hC (dmW hG (by decide) rfl) rfl dX1_odds_88 (fun h88 => ?_)
    refine j_imul hC dX1_odds_89 ?_
    refine j_iadd hC dX1_odds_90 ?_
    refine j_ltT (fun y91 => ?_)
    refine j_istore hC [(5, .int y91), (0, .ref (gadr (XG X) (4, 0, 0))), (3, .int x3), (6, .int x6)] hnl dX1_odds_91 rfl rfl ?_
    refine j_iincL hC 3 (fun y93 => [(6, .int y93), (5, .int y91), (0, .ref (gadr (XG X) (4, 0, 0))), (3, .int x3)]) hnl dX1_odds_93 rfl (by decide) rfl (fun _ => rfl) (fun y93 => ?_)
    refine j_goto (tgt := 60) hC dX1_odds_96 (by decide) ?_
    exact j_sub [2, 3, 1, 0] rfl (hk60 M x3 y91 y93)
set_option linter.unusedVariables false in
set_option maxRecDepth 100000 in
theorem wX1_odds_60 {X : JX} (hC : JC X cX1_odds RX1 (some .int) 40 1462 3 18) (hT : JT X) (hG : dmI dmX (XG X)) (hnl : nLof X = 7) (fu : Nat) (M : Mem) (x3 x5 x6 : Int32) : J X (ZT X foI 3 18) (FX1_odds_60 fu (XD X) M x3 x5 x6) 60 [(0, .ref (gadr (XG X) (4, 0, 0))), (3, .int x3), (5, .int x5), (6, .int x6)] [] M 3 18 := by
  exact j_lp (lvf := fun z => [(0, .ref (gadr (XG X) (4, 0, 0))), (3, .int (z.2.1)), (5, .int (z.2.2.1)), (6, .int (z.2.2.2))]) (Mf := fun z => z.1) (fun kn hk z => wgX1_odds_60 hC hT hG hnl fu kn (fun M x3 x5 x6 => hk (M, x3, x5, x6)) z.1 z.2.1 z.2.2.1 z.2.2.2) fu (M, x3, x5, x6)
set_option linter.unusedVariables false in
set_option maxRecDepth 100000 in
theorem wX1_odds {X : JX} (hC : JC X cX1_odds RX1 (some .int) 40 1462 3 18) (hT : JT X) (hG : dmI dmX (XG X)) (hnl : nLof X = 7) (fu : Nat) (M : Mem) (x1 x2 x3 : Int32) : J X (ZT X foI 3 18) (FX1_odds fu (XD X) M x1 x2 x3) 0 [(0, .ref (gadr (XG X) (4, 0, 0))), (1, .int x1), (2, .int x2), (3, .int x3)] [] M 0 0 := by
  unfold FX1_odds
  refine j_aload_n hC 0 dX1_odds_0 rfl ?_
  refine j_iload_n hC 1 dX1_odds_1 rfl ?_
  refine j_callVT (nA := 1) (rest := []) hC hT [.int x1] rfl (fun r hr => mX1_birdAt (XL X) (JT.st hT) (XG X) hG fu (XD X) M x1 r hr) q1089 q1091 qs30 q126 q1092 (dmY hG rfl) rfl rfl (by decide +kernel) rfl rfl rfl rfl rfl rfl dX1_odds_2 (fun v2 => [.ref (gadr (XG X) (1, 0, v2.toNatClampNeg))]) (fun _ => rfl) (fun v2 M2 => ?_)
  refine j_gd (fun h2 => ?_)
  refine j_pop hC dX1_odds_5 rfl ?_
  refine j_aload_n hC 0 dX1_odds_6 rfl ?_
  refine j_iload_n hC 2 dX1_odds_7 rfl ?_
  refine j_callVT (nA := 1) (rest := []) hC hT [.int x2] rfl (fun r hr => mX1_birdAt (XL X) (JT.st hT) (XG X) hG fu (XD X) M2 x2 r hr) q1089 q1091 qs30 q126 q1092 (dmY hG rfl) rfl rfl (by decide +kernel) rfl rfl rfl rfl rfl rfl dX1_odds_8 (fun v8 => [.ref (gadr (XG X) (1, 0, v8.toNatClampNeg))]) (fun _ => rfl) (fun v8 M8 => ?_)
  refine j_gd (fun h8 => ?_)
  refine j_pop hC dX1_odds_11 rfl ?_
  refine j_iload_n hC 3 dX1_odds_12 rfl ?_
  refine j_iconst (v := 0) hC dX1_odds_13 (by decide) ?_
  refine j_iconst (v := 3) hC dX1_odds_14 (by decide) ?_
  refine j_callS (nA := 3) (rest := []) hC [.int x3, .int 0, .int 3] rfl (fun r hr => mX1_isIn (XL X) (XG X) hG fu (XD X) M8 x3 0 3 r hr) q558 q559 q126 q560 (by decide +kernel) rfl rfl rfl rfl rfl rfl dX1_odds_15 (fun v15 => [.int v15]) (fun _ => rfl) (fun v15 M15 => ?_)
  refine j_callST (nA := 1) (rest := []) hC hT [.int v15] rfl (fun r hr => mX1_thereIs (XL X) (JT.st hT) (XG X) hG fu (XD X) M15 v15 r hr) q1262 q1263 q126 q1264 (by decide +kernel) rfl rfl rfl rfl rfl rfl dX1_odds_18 (fun _ => []) (fun _ => rfl) (fun v18 M18 => ?_)
  refine j_aload_n hC 0 dX1_odds_21 rfl ?_
  refine j_iload_n hC 1 dX1_odds_22 rfl ?_
  refine j_iload_n hC 2 dX1_odds_23 rfl ?_
  refine j_callV (nA := 2) (rest := []) hC [.int x1, .int x2] rfl (fun r hr => mX1_firstHas (XL X) (XG X) hG fu (XD X) M18 x1 x2 r hr) q1297 q1299 qs36 q126 q1300 (dmY hG rfl) rfl rfl (by decide +kernel) rfl rfl rfl rfl rfl rfl dX1_odds_24 (fun v24 => [.int v24]) (fun _ => rfl) (fun v24 M24 => ?_)
  refine j_istore hC [(4, .int v24), (0, .ref (gadr (XG X) (4, 0, 0))), (1, .int x1), (2, .int x2), (3, .int x3)] hnl dX1_odds_27 rfl rfl ?_
  refine j_iload_n hC 4 dX1_odds_29 rfl ?_
  refine j_if_ne (tgt := 36) hC dX1_odds_30 (by decide) (fun h30 => ?_) (fun h30 => ?_)
  · refine j_iload hC 0 dX1_odds_33 rfl ?_
    exact j_iretT hC rfl rfl dX1_odds_35
  · refine j_iload_n hC 4 dX1_odds_36 rfl ?_
    refine j_iconst (v := 1) hC dX1_odds_37 (by decide) ?_
    refine j_icmp_ne (tgt := 54) hC dX1_odds_38 (by decide) (fun h38 => ?_) (fun h38 => ?_)
    · refine j_aload_n hC 1 dX1_odds_41 rfl ?_
      refine j_aload_n hC 1 dX1_odds_42 rfl ?_
      refine j_getR (fk := 5) hC (dmY hG rfl) rfl rfl in_X1 rfl rfl q501 rfl dX1_odds_43 ?_
      refine j_aload_n hC 1 dX1_odds_46 rfl ?_
      refine j_getR (fk := 4) hC (dmY hG rfl) rfl rfl in_X1 rfl rfl q500 rfl dX1_odds_47 ?_
      refine j_callV (nA := 2) (rest := []) hC [.ref (gadr (XG X) (3, 1, 0)), .ref (gadr (XG X) (3, 0, 0))] rfl (fun r hr => mX1_hasIt (XL X) (XG X) hG fu (XD X) 1 (by decide) 0 (by decide) M24 r hr) q1301 q1303 qs37 q126 q1304 (dmY hG rfl) rfl rfl (by decide +kernel) rfl rfl rfl rfl rfl rfl dX1_odds_50 (fun v50 => [.int v50]) (fun _ => rfl) (fun v50 M50 => ?_)
      exact j_iretT hC rfl rfl dX1_odds_53
    · refine j_iconst (v := 0) hC dX1_odds_54 (by decide) ?_
      refine j_istore hC [(5, .int 0), (4, .int v24), (0, .ref (gadr (XG X) (4, 0, 0))), (1, .int x1), (2, .int x2), (3, .int x3)] hnl dX1_odds_55 rfl rfl ?_
      refine j_iconst (v := 1) hC dX1_odds_57 (by decide) ?_
      refine j_istore hC [(6, .int 1), (5, .int 0), (4, .int v24), (0, .ref (gadr (XG X) (4, 0, 0))), (1, .int x1), (2, .int x2), (3, .int x3)] hnl dX1_odds_58 rfl rfl ?_
      exact j_sub [3, 6, 1, 0] rfl (wX1_odds_60 hC hT hG hnl fu M24 x3 0 1)
set_option linter.unusedVariables false in
set_option maxRecDepth 100000 in
theorem mX1_odds (l : Launch) (hst : l.stackTraces = false) (Γ : xG) (hG : dmI dmX Γ) (fu : Nat) (D : List LDen) (M : Mem) (x1 x2 x3 : Int32) (r : TR) (hr : FX1_odds fu D M x1 x2 x3 = some r) : CT l yX1_odds (ws_ yX1_odds cX1_odds 7 (some .int)) 40 1462 3 18 Γ D [.ref (gadr Γ (4, 0, 0)), .int x1, .int x2, .int x3] M foI r := by
  refine CT.of hst (own := RX1) (lv0 := lv_args 0 [.ref (gadr Γ (4, 0, 0)), .int x1, .int x2, .int x3]) (by decide +kernel) rfl (Nat.le_of_ble_eq_true rfl) rfl (fun X e1 e2 e3 e4 hC hT => ?_) r hr
  subst e1
  subst e2
  exact wX1_odds hC hT hG e4 fu M x1 x2 x3
set_option linter.unusedVariables false in
set_option maxRecDepth 100000 in
theorem wX1_best_66 {X : JX} (hC : JC X cX1_best RX1 (some .int) 40 1462 1 6) (hT : JT X) (hG : dmI dmX (XG X)) (hnl : nLof X = 7) (fu : Nat) (kn14 : Mem × Int32 × Int32 × Int32 × Int32 × Int32 → Option TR) (hk14 : ∀ (M : Mem) (x1 x2 x3 x4 x5 : Int32), J X (ZT X foI 1 6) (kn14 (M, x1, x2, x3, x4, x5)) 14 [(0, .ref (gadr (XG X) (4, 0, 0))), (1, .int x1), (2, .int x2), (3, .int x3), (4, .int x4), (5, .int x5)] [] M 1 6) (M : Mem) (x1 x2 x3 x4 x5 : Int32) : J X (ZT X foI 1 6) (FX1_best_66 fu (XD X) kn14 M x1 x2 x3 x4 x5) 66 [(0, .ref (gadr (XG X) (4, 0, 0))), (1, .int x1), (2, .int x2), (3, .int x3), (4, .int x4), (5, .int x5)] [] M 1 6 := by
  unfold FX1_best_66
  refine j_iincL hC 5 (fun y66 => [(5, .int y66), (0, .ref (gadr (XG X) (4, 0, 0))), (1, .int x1), (2, .int x2), (3, .int x3), (4, .int x4)]) hnl dX1_best_66 rfl (by decide) rfl (fun _ => rfl) (fun y66 => ?_)
  refine j_goto (tgt := 14) hC dX1_best_69 (by decide) ?_
  exact j_sub [1, 2, 3, 4, 5, 0] rfl (hk14 M x1 x2 x3 x4 y66)
set_option linter.unusedVariables false in
set_option maxRecDepth 100000 in
theorem wX1_best_47 {X : JX} (hC : JC X cX1_best RX1 (some .int) 40 1462 1 6) (hT : JT X) (hG : dmI dmX (XG X)) (hnl : nLof X = 7) (fu : Nat) (kn14 : Mem × Int32 × Int32 × Int32 × Int32 × Int32 → Option TR) (hk14 : ∀ (M : Mem) (x1 x2 x3 x4 x5 : Int32), J X (ZT X foI 1 6) (kn14 (M, x1, x2, x3, x4, x5)) 14 [(0, .ref (gadr (XG X) (4, 0, 0))), (1, .int x1), (2, .int x2), (3, .int x3), (4, .int x4), (5, .int x5)] [] M 1 6) (M : Mem) (x1 x2 x3 x4 x5 t0 : Int32) : J X (ZT X foI 1 6) (FX1_best_47 fu (XD X) kn14 M x1 x2 x3 x4 x5 t0) 47 [(0, .ref (gadr (XG X) (4, 0, 0))), (1, .int x1), (2, .int x2), (3, .int x3), (4, .int x4), (5, .int x5)] [.int t0] M 1 6 := by
  unfold FX1_best_47
  refine j_istore hC [(6, .int t0), (0, .ref (gadr (XG X) (4, 0, 0))), (1, .int x1), (2, .int x2), (3, .int x3), (4, .int x4), (5, .int x5)] hnl dX1_best_47 rfl rfl ?_
  refine j_iload hC 0 dX1_best_49 rfl ?_
  refine j_iload hC 5 dX1_best_51 rfl ?_
  refine j_icmp_gt (tgt := 59) hC dX1_best_53 (by decide) (fun h53 => ?_) (fun h53 => ?_)
  · refine j_iload hC 0 dX1_best_59 rfl ?_
    refine j_istore hC [(4, .int t0), (6, .int t0), (0, .ref (gadr (XG X) (4, 0, 0))), (1, .int x1), (2, .int x2), (3, .int x3), (5, .int x5)] hnl dX1_best_61 rfl rfl ?_
    refine j_iload hC 6 dX1_best_63 rfl ?_
    refine j_istore_n hC [(3, .int x5), (4, .int t0), (6, .int t0), (0, .ref (gadr (XG X) (4, 0, 0))), (1, .int x1), (2, .int x2), (5, .int x5)] hnl dX1_best_65 rfl rfl ?_
    exact j_sub [3, 4, 5, 0, 1, 6] rfl (wX1_best_66 hC hT hG hnl fu kn14 hk14 M x1 x2 x5 t0 x5)
  · refine j_goto (tgt := 66) hC dX1_best_56 (by decide) ?_
    exact j_sub [1, 2, 3, 4, 5, 6] rfl (wX1_best_66 hC hT hG hnl fu kn14 hk14 M x1 x2 x3 x4 x5)
set_option linter.unusedVariables false in
set_option maxRecDepth 100000 in
theorem wgX1_best_14 {X : JX} (hC : JC X cX1_best RX1 (some .int) 40 1462 1 6) (hT : JT X) (hG : dmI dmX (XG X)) (hnl : nLof X = 7) (fu : Nat) (kn14 : Mem × Int32 × Int32 × Int32 × Int32 × Int32 → Option TR) (hk14 : ∀ (M : Mem) (x1 x2 x3 x4 x5 : Int32), J X (ZT X foI 1 6) (kn14 (M, x1, x2, x3, x4, x5)) 14 [(0, .ref (gadr (XG X) (4, 0, 0))), (1, .int x1), (2, .int x2), (3, .int x3), (4, .int x4), (5, .int x5)] [] M 1 6) (M : Mem) (x1 x2 x3 x4 x5 : Int32) : J X (ZT X foI 1 6) (GX1_best_14 fu (XD X) kn14 M x1 x2 x3 x4 x5) 14 [(0, .ref (gadr (XG X) (4, 0, 0))), (1, .int x1), (2, .int x2), (3, .int x3), (4, .int x4), (5, .int x5)] [] M 1 6 := by
  unfold GX1_best_14
  refine j_iload hC 5 dX1_best_14 rfl ?_
  refine j_aload_n hC 0 dX1_best_16 rfl ?_
  refine j_getR (fk := 1) hC (dmY hG rfl) rfl rfl in_X1 rfl rfl q496 rfl dX1_best_17 ?_
  refine j_getNI (fk := 7) hC (dmS hG (by decide) rfl) rfl rfl in_X3 rfl rfl q273 rfl dX1_best_20 ?_
  refine j_icmp_ge (tgt := 72) hC dX1_best_23 (by decide) (fun h23 => ?_) (fun h23 => ?_)
  · refine j_iload_n hC 3 dX1_best_72 rfl ?_
    exact j_iretT hC rfl rfl dX1_best_73
  · refine j_iload_n hC 2 dX1_best_26 rfl ?_
    refine j_iload hC 5 dX1_best_27 rfl ?_
    refine j_ishr hC dX1_best_29 ?_
    refine j_iconst (v := 1) hC dX1_best_30 (by decide) ?_
    refine j_iand hC dX1_best_31 ?_
    refine j_iconst (v := 1) hC dX1_best_32 (by decide) ?_
    refine j_icmp_ne (tgt := 46) hC dX1_best_33 (by decide) (fun h33 => ?_) (fun h33 => ?_)
    · refine j_aload_n hC 0 dX1_best_36 rfl ?_
      refine j_iload hC 5 dX1_best_37 rfl ?_
      refine j_iload_n hC 1 dX1_best_39 rfl ?_
      refine j_callV (nA := 2) (rest := []) hC [.int x5, .int x1] rfl (fun r hr => mX1_firstHas (XL X) (XG X) hG fu (XD X) M x5 x1 r hr) q1297 q1299 qs36 q126 q1300 (dmY hG rfl) rfl rfl (by decide +kernel) rfl rfl rfl rfl rfl rfl dX1_best_40 (fun v40 => [.int v40]) (fun _ => rfl) (fun v40 M40 => ?_)
      refine j_goto (tgt := 47) hC dX1_best_43 (by decide) ?_
      exact j_sub [0, 1, 2, 3, 4, 5] rfl (wX1_best_47 hC hT hG hnl fu kn14 hk14 M40 x1 x2 x3 x4 x5 v40)
    · refine j_iconst (v := (-1)) hC dX1_best_46 (by decide) ?_
      exact j_sub [0, 1, 2, 3, 4, 5] rfl (wX1_best_47 hC hT hG hnl fu kn14 hk14 M x1 x2 x3 x4 x5 (-1))
set_option linter.unusedVariables false in
set_option maxRecDepth 100000 in
theorem wX1_best_14 {X : JX} (hC : JC X cX1_best RX1 (some .int) 40 1462 1 6) (hT : JT X) (hG : dmI dmX (XG X)) (hnl : nLof X = 7) (fu : Nat) (M : Mem) (x1 x2 x3 x4 x5 : Int32) : J X (ZT X foI 1 6) (FX1_best_14 fu (XD X) M x1 x2 x3 x4 x5) 14 [(0, .ref (gadr (XG X) (4, 0, 0))), (1, .int x1), (2, .int x2), (3, .int x3), (4, .int x4), (5, .int x5)] [] M 1 6 := by
  exact j_lp (lvf := fun z => [(0, .ref (gadr (XG X) (4, 0, 0))), (1, .int (z.2.1)), (2, .int (z.2.2.1)), (3, .int (z.2.2.2.1)), (4, .int (z.2.2.2.2.1)), (5, .int (z.2.2.2.2.2))]) (Mf := fun z => z.1) (fun kn hk z => wgX1_best_14 hC hT hG hnl fu kn (fun M x1 x2 x3 x4 x5 => hk (M, x1, x2, x3, x4, x5)) z.1 z.2.1 z.2.2.1 z.2.2.2.1 z.2.2.2.2.1 z.2.2.2.2.2) fu (M, x1, x2, x3, x4, x5)
set_option linter.unusedVariables false in
set_option maxRecDepth 100000 in
theorem wX1_best {X : JX} (hC : JC X cX1_best RX1 (some .int) 40 1462 1 6) (hT : JT X) (hG : dmI dmX (XG X)) (hnl : nLof X = 7) (fu : Nat) (M : Mem) (x1 x2 : Int32) : J X (ZT X foI 1 6) (FX1_best fu (XD X) M x1 x2) 0 [(0, .ref (gadr (XG X) (4, 0, 0))), (1, .int x1), (2, .int x2)] [] M 0 0 := by
  unfold FX1_best
  refine j_aload_n hC 0 dX1_best_0 rfl ?_
  refine j_iload_n hC 1 dX1_best_1 rfl ?_
  refine j_callVT (nA := 1) (rest := []) hC hT [.int x1] rfl (fun r hr => mX1_birdAt (XL X) (JT.st hT) (XG X) hG fu (XD X) M x1 r hr) q1089 q1091 qs30 q126 q1092 (dmY hG rfl) rfl rfl (by decide +kernel) rfl rfl rfl rfl rfl rfl dX1_best_2 (fun v2 => [.ref (gadr (XG X) (1, 0, v2.toNatClampNeg))]) (fun _ => rfl) (fun v2 M2 => ?_)
  refine j_gd (fun h2 => ?_)
  refine j_pop hC dX1_best_5 rfl ?_
  refine j_iconst (v := (-1)) hC dX1_best_6 (by decide) ?_
  refine j_istore_n hC [(3, .int ((-1))), (0, .ref (gadr (XG X) (4, 0, 0))), (1, .int x1), (2, .int x2)] hnl dX1_best_7 rfl rfl ?_
  refine j_iconst (v := (-1)) hC dX1_best_8 (by decide) ?_
  refine j_istore hC [(4, .int ((-1))), (3, .int ((-1))), (0, .ref (gadr (XG X) (4, 0, 0))), (1, .int x1), (2, .int x2)] hnl dX1_best_9 rfl rfl ?_
  refine j_iconst (v := 0) hC dX1_best_11 (by decide) ?_
  refine j_istore hC [(5, .int 0), (4, .int ((-1))), (3, .int ((-1))), (0, .ref (gadr (XG X) (4, 0, 0))), (1, .int x1), (2, .int x2)] hnl dX1_best_12 rfl rfl ?_
  exact j_sub [3, 4, 5, 2, 1, 0] rfl (wX1_best_14 hC hT hG hnl fu M2 x1 x2 (-1) (-1) 0)
set_option linter.unusedVariables false in
set_option maxRecDepth 100000 in
theorem mX1_best (l : Launch) (hst : l.stackTraces = false) (Γ : xG) (hG : dmI dmX Γ) (fu : Nat) (D : List LDen) (M : Mem) (x1 x2 : Int32) (r : TR) (hr : FX1_best fu D M x1 x2 = some r) : CT l yX1_best (ws_ yX1_best cX1_best 7 (some .int)) 40 1462 1 6 Γ D [.ref (gadr Γ (4, 0, 0)), .int x1, .int x2] M foI r := by
  refine CT.of hst (own := RX1) (lv0 := lv_args 0 [.ref (gadr Γ (4, 0, 0)), .int x1, .int x2]) (by decide +kernel) rfl (Nat.le_of_ble_eq_true rfl) rfl (fun X e1 e2 e3 e4 hC hT => ?_) r hr
  subst e1
  subst e2
  exact wX1_best hC hT hG e4 fu M x1 x2
set_option linter.unusedVariables false in
set_option maxRecDepth 100000 in
theorem wX1_when_71 {X : JX} (hC : JC X cX1_when RX1 (some .int) 40 1462 2 12) (hT : JT X) (hG : dmI dmX (XG X)) (hnl : nLof X = 8) (fu : Nat) (kn29 : Mem × Int32 × Int32 × Int32 × Int32 × Int32 × Int32 → Option TR) (hk29 : ∀ (M : Mem) (x1 x2 x3 x4 x5 x6 : Int32), J X (ZT X foI 2 12) (kn29 (M, x1, x2, x3, x4, x5, x6)) 29 [(0, .ref (gadr (XG X) (4, 0, 0))), (1, .int x1), (2, .int x2), (3, .int x3), (4, .int x4), (5, .int x5), (6, .int x6)] [] M 2 12) (M : Mem) (x1 x2 x3 x4 x5 x6 : Int32) : J X (ZT X foI 2 12) (FX1_when_71 fu (XD X) kn29 M x1 x2 x3 x4 x5 x6) 71 [(0, .ref (gadr (XG X) (4, 0, 0))), (1, .int x1), (2, .int x2), (3, .int x3), (4, .int x4), (5, .int x5), (6, .int x6)] [] M 2 12 := by
  unfold FX1_when_71
  refine j_iincL hC 6 (fun y71 => [(6, .int y71), (0, .ref (gadr (XG X) (4, 0, 0))), (1, .int x1), (2, .int x2), (3, .int x3), (4, .int x4), (5, .int x5)]) hnl dX1_when_71 rfl (by decide) rfl (fun _ => rfl) (fun y71 => ?_)
  refine j_goto (tgt := 29) hC dX1_when_74 (by decide) ?_
  exact j_sub [1, 2, 3, 4, 5, 6, 0] rfl (hk29 M x1 x2 x3 x4 x5 y71)
set_option linter.unusedVariables false in
set_option maxRecDepth 100000 in
theorem wgX1_when_29 {X : JX} (hC : JC X cX1_when RX1 (some .int) 40 1462 2 12) (hT : JT X) (hG : dmI dmX (XG X)) (hnl : nLof X = 8) (fu : Nat) (kn29 : Mem × Int32 × Int32 × Int32 × Int32 × Int32 × Int32 → Option TR) (hk29 : ∀ (M : Mem) (x1 x2 x3 x4 x5 x6 : Int32), J X (ZT X foI 2 12) (kn29 (M, x1, x2, x3, x4, x5, x6)) 29 [(0, .ref (gadr (XG X) (4, 0, 0))), (1, .int x1), (2, .int x2), (3, .int x3), (4, .int x4), (5, .int x5), (6, .int x6)] [] M 2 12) (M : Mem) (x1 x2 x3 x4 x5 x6 : Int32) : J X (ZT X foI 2 12) (GX1_when_29 fu (XD X) kn29 M x1 x2 x3 x4 x5 x6) 29 [(0, .ref (gadr (XG X) (4, 0, 0))), (1, .int x1), (2, .int x2), (3, .int x3), (4, .int x4), (5, .int x5), (6, .int x6)] [] M 2 12 := by
  unfold GX1_when_29
  refine j_iload hC 6 dX1_when_29 rfl ?_
  refine j_bipush (v := 24) hC dX1_when_31 (by decide) ?_
  refine j_icmp_ge (tgt := 77) hC dX1_when_33 (by decide) (fun h33 => ?_) (fun h33 => ?_)
  · refine j_aload_n hC 0 dX1_when_77 rfl ?_
    refine j_getR (fk := 1) hC (dmY hG rfl) rfl rfl in_X1 rfl rfl q496 rfl dX1_when_78 ?_
    refine j_iload_n hC 3 dX1_when_81 rfl ?_
    refine j_putN (fk := 16) (ty := .int) hC (dmS hG (by decide) rfl) rfl rfl in_X3 rfl rfl q301 tyX3 tyX3_ok nmX3 rfl rfl (by decide +kernel) rfl rfl dX1_when_82 ?_
    refine j_lt (fun M82 => ?_)
    refine j_iload hC 4 dX1_when_85 rfl ?_
    exact j_iretT hC rfl rfl dX1_when_87
  · refine j_aload_n hC 0 dX1_when_36 rfl ?_
    refine j_getR (fk := 1) hC (dmY hG rfl) rfl rfl in_X1 rfl rfl q496 rfl dX1_when_37 ?_
    refine j_iload hC 6 dX1_when_40 rfl ?_
    refine j_putN (fk := 16) (ty := .int) hC (dmS hG (by decide) rfl) rfl rfl in_X3 rfl rfl q301 tyX3 tyX3_ok nmX3 rfl rfl (by decide +kernel) rfl rfl dX1_when_42 ?_
    refine j_lt (fun M42 => ?_)
    refine j_aload_n hC 0 dX1_when_45 rfl ?_
    refine j_iload_n hC 1 dX1_when_46 rfl ?_
    refine j_iload_n hC 2 dX1_when_47 rfl ?_
    refine j_callV (nA := 2) (rest := []) hC [.int x1, .int x2] rfl (fun r hr => mX1_firstHas (XL X) (XG X) hG fu (XD X) M42 x1 x2 r hr) q1297 q1299 qs36 q126 q1300 (dmY hG rfl) rfl rfl (by decide +kernel) rfl rfl rfl rfl rfl rfl dX1_when_48 (fun v48 => [.int v48]) (fun _ => rfl) (fun v48 M48 => ?_)
    refine j_istore hC [(7, .int v48), (0, .ref (gadr (XG X) (4, 0, 0))), (1, .int x1), (2, .int x2), (3, .int x3), (4, .int x4), (5, .int x5), (6, .int x6)] hnl dX1_when_51 rfl rfl ?_
    refine j_iload hC 0 dX1_when_53 rfl ?_
    refine j_iload hC 6 dX1_when_55 rfl ?_
    refine j_icmp_gt (tgt := 63) hC dX1_when_57 (by decide) (fun h57 => ?_) (fun h57 => ?_)
    · refine j_iload hC 0 dX1_when_63 rfl ?_
      refine j_istore hC [(5, .int v48), (7, .int v48), (0, .ref (gadr (XG X) (4, 0, 0))), (1, .int x1), (2, .int x2), (3, .int x3), (4, .int x4), (6, .int x6)] hnl dX1_when_65 rfl rfl ?_
      refine j_iload hC 7 dX1_when_67 rfl ?_
      refine j_istore hC [(4, .int x6), (5, .int v48), (7, .int v48), (0, .ref (gadr (XG X) (4, 0, 0))), (1, .int x1), (2, .int x2), (3, .int x3), (6, .int x6)] hnl dX1_when_69 rfl rfl ?_
      exact j_sub [3, 4, 5, 6, 0, 1, 7] rfl (wX1_when_71 hC hT hG hnl fu kn29 hk29 M48 x1 x2 x3 x6 v48 x6)
    · refine j_goto (tgt := 71) hC dX1_when_60 (by decide) ?_
      exact j_sub [1, 2, 3, 4, 5, 6, 7] rfl (wX1_when_71 hC hT hG hnl fu kn29 hk29 M48 x1 x2 x3 x4 x5 x6)
set_option linter.unusedVariables false in
set_option maxRecDepth 100000 in
theorem wX1_when_29 {X : JX} (hC : JC X cX1_when RX1 (some .int) 40 1462 2 12) (hT : JT X) (hG : dmI dmX (XG X)) (hnl : nLof X = 8) (fu : Nat) (M : Mem) (x1 x2 x3 x4 x5 x6 : Int32) : J X (ZT X foI 2 12) (FX1_when_29 fu (XD X) M x1 x2 x3 x4 x5 x6) 29 [(0, .ref (gadr (XG X) (4, 0, 0))), (1, .int x1), (2, .int x2), (3, .int x3), (4, .int x4), (5, .int x5), (6, .int x6)] [] M 2 12 := by
  exact j_lp (lvf := fun z => [(0, .ref (gadr (XG X) (4, 0, 0))), (1, .int (z.2.1)), (2, .int (z.2.2.1)), (3, .int (z.2.2.2.1)), (4, .int (z.2.2.2.2.1)), (5, .int (z.2.2.2.2.2.1)), (6, .int (z.2.2.2.2.2.2))]) (Mf := fun z => z.1) (fun kn hk z => wgX1_when_29 hC hT hG hnl fu kn (fun M x1 x2 x3 x4 x5 x6 => hk (M, x1, x2, x3, x4, x5, x6)) z.1 z.2.1 z.2.2.1 z.2.2.2.1 z.2.2.2.2.1 z.2.2.2.2.2.1 z.2.2.2.2.2.2) fu (M, x1, x2, x3, x4, x5, x6)
set_option linter.unusedVariables false in
set_option maxRecDepth 100000 in
theorem wX1_when {X : JX} (hC : JC X cX1_when RX1 (some .int) 40 1462 2 12) (hT : JT X) (hG : dmI dmX (XG X)) (hnl : nLof X = 8) (fu : Nat) (M : Mem) (x1 x2 : Int32) : J X (ZT X foI 2 12) (FX1_when fu (XD X) M x1 x2) 0 [(0, .ref (gadr (XG X) (4, 0, 0))), (1, .int x1), (2, .int x2)] [] M 0 0 := by
  unfold FX1_when
  refine j_aload_n hC 0 dX1_when_0 rfl ?_
  refine j_iload_n hC 1 dX1_when_1 rfl ?_
  refine j_callVT (nA := 1) (rest := []) hC hT [.int x1] rfl (fun r hr => mX1_birdAt (XL X) (JT.st hT) (XG X) hG fu (XD X) M x1 r hr) q1089 q1091 qs30 q126 q1092 (dmY hG rfl) rfl rfl (by decide +kernel) rfl rfl rfl rfl rfl rfl dX1_when_2 (fun v2 => [.ref (gadr (XG X) (1, 0, v2.toNatClampNeg))]) (fun _ => rfl) (fun v2 M2 => ?_)
  refine j_gd (fun h2 => ?_)
  refine j_pop hC dX1_when_5 rfl ?_
  refine j_aload_n hC 0 dX1_when_6 rfl ?_
  refine j_iload_n hC 2 dX1_when_7 rfl ?_
  refine j_callVT (nA := 1) (rest := []) hC hT [.int x2] rfl (fun r hr => mX1_birdAt (XL X) (JT.st hT) (XG X) hG fu (XD X) M2 x2 r hr) q1089 q1091 qs30 q126 q1092 (dmY hG rfl) rfl rfl (by decide +kernel) rfl rfl rfl rfl rfl rfl dX1_when_8 (fun v8 => [.ref (gadr (XG X) (1, 0, v8.toNatClampNeg))]) (fun _ => rfl) (fun v8 M8 => ?_)
  refine j_gd (fun h8 => ?_)
  refine j_pop hC dX1_when_11 rfl ?_
  refine j_aload_n hC 0 dX1_when_12 rfl ?_
  refine j_getR (fk := 1) hC (dmY hG rfl) rfl rfl in_X1 rfl rfl q496 rfl dX1_when_13 ?_
  refine j_getNI (fk := 16) hC (dmS hG (by decide) rfl) rfl rfl in_X3 rfl rfl q301 rfl dX1_when_16 ?_
  refine j_ltT (fun y19 => ?_)
  refine j_istore_n hC [(3, .int y19), (0, .ref (gadr (XG X) (4, 0, 0))), (1, .int x1), (2, .int x2)] hnl dX1_when_19 rfl rfl ?_
  refine j_iconst (v := 0) hC dX1_when_20 (by decide) ?_
  refine j_istore hC [(4, .int 0), (3, .int y19), (0, .ref (gadr (XG X) (4, 0, 0))), (1, .int x1), (2, .int x2)] hnl dX1_when_21 rfl rfl ?_
  refine j_iconst (v := (-1)) hC dX1_when_23 (by decide) ?_
  refine j_istore hC [(5, .int ((-1))), (4, .int 0), (3, .int y19), (0, .ref (gadr (XG X) (4, 0, 0))), (1, .int x1), (2, .int x2)] hnl dX1_when_24 rfl rfl ?_
  refine j_iconst (v := 0) hC dX1_when_26 (by decide) ?_
  refine j_istore hC [(6, .int 0), (5, .int ((-1))), (4, .int 0), (3, .int y19), (0, .ref (gadr (XG X) (4, 0, 0))), (1, .int x1), (2, .int x2)] hnl dX1_when_27 rfl rfl ?_
  exact j_sub [4, 5, 6, 3, 2, 1, 0] rfl (wX1_when_29 hC hT hG hnl fu M8 x1 x2 y19 0 (-1) 0)
set_option linter.unusedVariables false in
set_option maxRecDepth 100000 in
theorem mX1_when (l : Launch) (hst : l.stackTraces = false) (Γ : xG) (hG : dmI dmX Γ) (fu : Nat) (D : List LDen) (M : Mem) (x1 x2 : Int32) (r : TR) (hr : FX1_when fu D M x1 x2 = some r) : CT l yX1_when (ws_ yX1_when cX1_when 8 (some .int)) 40 1462 2 12 Γ D [.ref (gadr Γ (4, 0, 0)), .int x1, .int x2] M foI r := by
  refine CT.of hst (own := RX1) (lv0 := lv_args 0 [.ref (gadr Γ (4, 0, 0)), .int x1, .int x2]) (by decide +kernel) rfl (Nat.le_of_ble_eq_true rfl) rfl (fun X e1 e2 e3 e4 hC hT => ?_) r hr
  subst e1
  subst e2
  exact wX1_when hC hT hG e4 fu M x1 x2
set_option linter.unusedVariables false in
set_option maxRecDepth 100000 in
theorem wX1_isOpen_16 {X : JX} (hC : JC X cX1_isOpen RX1 none 8 134 2 12) (hT : JT X) (hG : dmI dmX (XG X)) (hnl : nLof X = 2) (fu : Nat) (M : Mem) (t0 : Int32) : J X (ZT X foV 2 12) (FX1_isOpen_16 fu (XD X) M t0) 16 [] [.int t0] M 1 6 := by
  unfold FX1_isOpen_16
  refine j_callST (nA := 1) (rest := []) hC hT [.int t0] rfl (fun r hr => mX1_can (XL X) (JT.st hT) (XG X) hG fu (XD X) M t0 r hr) q1180 q1181 q126 q1182 (by decide +kernel) rfl rfl rfl rfl rfl rfl dX1_isOpen_16 (fun _ => []) (fun _ => rfl) (fun v16 M16 => ?_)
  exact j_vretT hC rfl rfl dX1_isOpen_19
set_option linter.unusedVariables false in
set_option maxRecDepth 100000 in
theorem wX1_isOpen {X : JX} (hC : JC X cX1_isOpen RX1 none 8 134 2 12) (hT : JT X) (hG : dmI dmX (XG X)) (hnl : nLof X = 2) (fu : Nat) (M : Mem) (x1 : Int32) : J X (ZT X foV 2 12) (FX1_isOpen fu (XD X) M x1) 0 [(0, .ref (gadr (XG X) (4, 0, 0))), (1, .int x1)] [] M 0 0 := by
  unfold FX1_isOpen
  refine j_aload_n hC 0 dX1_isOpen_0 rfl ?_
  refine j_iload_n hC 1 dX1_isOpen_1 rfl ?_
  refine j_callVT (nA := 1) (rest := []) hC hT [.int x1] rfl (fun r hr => mX1_caseAt (XL X) (JT.st hT) (XG X) hG fu (XD X) M x1 r hr) q1144 q1146 qs32 q126 q1147 (dmY hG rfl) rfl rfl (by decide +kernel) rfl rfl rfl rfl rfl rfl dX1_isOpen_2 (fun v2 => [.ref (gadr (XG X) (2, 0, v2.toNatClampNeg))]) (fun _ => rfl) (fun v2 M2 => ?_)
  refine j_gd (fun h2 => ?_)
  refine j_getNI (fk := 3) hC (dmC hG (by decide) (vin_lt h2)) rfl rfl in_X5 rfl rfl q245 rfl dX1_isOpen_5 ?_
  refine j_if_ne (tgt := 15) hC dX1_isOpen_8 (by decide) (fun h8 => ?_) (fun h8 => ?_)
  · refine j_iconst (v := 1) hC dX1_isOpen_11 (by decide) ?_
    refine j_goto (tgt := 16) hC dX1_isOpen_12 (by decide) ?_
    exact j_sub [] rfl (wX1_isOpen_16 hC hT hG hnl fu M2 1)
  · refine j_iconst (v := 0) hC dX1_isOpen_15 (by decide) ?_
    exact j_sub [] rfl (wX1_isOpen_16 hC hT hG hnl fu M2 0)
set_option linter.unusedVariables false in
set_option maxRecDepth 100000 in
theorem mX1_isOpen (l : Launch) (hst : l.stackTraces = false) (Γ : xG) (hG : dmI dmX Γ) (fu : Nat) (D : List LDen) (M : Mem) (x1 : Int32) (r : TR) (hr : FX1_isOpen fu D M x1 = some r) : CT l yX1_isOpen (ws_ yX1_isOpen cX1_isOpen 2 none) 8 134 2 12 Γ D [.ref (gadr Γ (4, 0, 0)), .int x1] M foV r := by
  refine CT.of hst (own := RX1) (lv0 := lv_args 0 [.ref (gadr Γ (4, 0, 0)), .int x1]) (by decide +kernel) rfl (Nat.le_of_ble_eq_true rfl) rfl (fun X e1 e2 e3 e4 hC hT => ?_) r hr
  subst e1
  subst e2
  exact wX1_isOpen hC hT hG e4 fu M x1
set_option linter.unusedVariables false in
set_option maxRecDepth 100000 in
theorem wX1_compares_117 {X : JX} (hC : JC X cX1_compares RX1 none 40 1462 0 0) (hG : dmI dmX (XG X)) (hnl : nLof X = 6) (fu : Nat) (kn38 : Mem × Int32 × Int32 × Int32 × Int32 → Option (Int32 × Mem)) (hk38 : ∀ (M : Mem) (x2 x3 x4 x5 : Int32), J X (ZN X foV) (kn38 (M, x2, x3, x4, x5)) 38 [(0, .ref (gadr (XG X) (4, 0, 0))), (2, .int x2), (3, .int x3), (4, .int x4), (5, .int x5)] [] M 0 0) (M : Mem) (x2 x3 x4 x5 : Int32) : J X (ZN X foV) (FX1_compares_117 fu (XD X) kn38 M x2 x3 x4 x5) 117 [(0, .ref (gadr (XG X) (4, 0, 0))), (2, .int x2), (3, .int x3), (4, .int x4), (5, .int x5)] [] M 0 0 := by
  unfold FX1_compares_117
  refine j_iincL hC 4 (fun y117 => [(5, .int y117), (0, .ref (gadr (XG X) (4, 0, 0))), (2, .int x2), (3, .int x3), (4, .int x4)]) hnl dX1_compares_117 rfl (by decide) rfl (fun _ => rfl) (fun y117 => ?_)
  refine j_goto (tgt := 38) hC dX1_compares_120 (by decide) ?_
  exact j_sub [1, 2, 3, 4, 0] rfl (hk38 M x2 x3 x4 y117)
set_option linter.unusedVariables false in
set_option maxRecDepth 100000 in
theorem wgX1_compares_38 {X : JX} (hC : JC X cX1_compares RX1 none 40 1462 0 0) (hG : dmI dmX (XG X)) (hnl : nLof X = 6) (fu : Nat) (kn38 : Mem × Int32 × Int32 × Int32 × Int32 → Option (Int32 × Mem)) (hk38 : ∀ (M : Mem) (x2 x3 x4 x5 : Int32), J X (ZN X foV) (kn38 (M, x2, x3, x4, x5)) 38 [(0, .ref (gadr (XG X) (4, 0, 0))), (2, .int x2), (3, .int x3), (4, .int x4), (5, .int x5)] [] M 0 0) (kn23 : Mem × Int32 × Int32 × Int32 → Option (Int32 × Mem)) (hk23 : ∀ (M : Mem) (x2 x3 x4 : Int32), J X (ZN X foV) (kn23 (M, x2, x3, x4)) 23 [(0, .ref (gadr (XG X) (4, 0, 0))), (2, .int x2), (3, .int x3), (4, .int x4)] [] M 0 0) (M : Mem) (x2 x3 x4 x5 : Int32) : J X (ZN X foV) (GX1_compares_38 fu (XD X) kn38 kn23 M x2 x3 x4 x5) 38 [(0, .ref (gadr (XG X) (4, 0, 0))), (2, .int x2), (3, .int x3), (4, .int x4), (5, .int x5)] [] M 0 0 := by
  unfold GX1_compares_38
  refine j_iload hC 4 dX1_compares_38 rfl ?_
  refine j_aload_n hC 0 dX1_compares_40 rfl ?_
  refine j_getR (fk := 1) hC (dmY hG rfl) rfl rfl in_X1 rfl rfl q496 rfl dX1_compares_41 ?_
  refine j_getNI (fk := 7) hC (dmS hG (by decide) rfl) rfl rfl in_X3 rfl rfl q273 rfl dX1_compares_44 ?_
  refine j_icmp_ge (tgt := 123) hC dX1_compares_47 (by decide) (fun h47 => ?_) (fun h47 => ?_)
  · refine j_iincL hC 3 (fun y123 => [(4, .int y123), (0, .ref (gadr (XG X) (4, 0, 0))), (2, .int x2), (3, .int x3), (5, .int x5)]) hnl dX1_compares_123 rfl (by decide) rfl (fun _ => rfl) (fun y123 => ?_)
    refine j_goto (tgt := 23) hC dX1_compares_126 (by decide) ?_
    exact j_sub [1, 2, 3, 0] rfl (hk23 M x2 x3 y123)
  · refine j_iload_n hC 1 dX1_compares_50 rfl ?_
    refine j_iload hC 3 dX1_compares_51 rfl ?_
    refine j_ishr hC dX1_compares_53 ?_
    refine j_iconst (v := 1) hC dX1_compares_54 (by decide) ?_
    refine j_iand hC dX1_compares_55 ?_
    refine j_if_eq (tgt := 117) hC dX1_compares_56 (by decide) (fun h56 => ?_) (fun h56 => ?_)
    · exact j_sub [0, 1, 2, 3, 4] rfl (wX1_compares_117 hC hG hnl fu kn38 hk38 M x2 x3 x4 x5)
    · refine j_iload_n hC 2 dX1_compares_59 rfl ?_
      refine j_iload hC 4 dX1_compares_60 rfl ?_
      refine j_ishr hC dX1_compares_62 ?_
      refine j_iconst (v := 1) hC dX1_compares_63 (by decide) ?_
      refine j_iand hC dX1_compares_64 ?_
      refine j_if_ne (tgt := 71) hC dX1_compares_65 (by decide) (fun h65 => ?_) (fun h65 => ?_)
      · refine j_goto (tgt := 117) hC dX1_compares_68 (by decide) ?_
        exact j_sub [0, 1, 2, 3, 4] rfl (wX1_compares_117 hC hG hnl fu kn38 hk38 M x2 x3 x4 x5)
      · refine j_aload_n hC 0 dX1_compares_71 rfl ?_
        refine j_getR (fk := 6) hC (dmY hG rfl) rfl rfl in_X1 rfl rfl q502 rfl dX1_compares_72 ?_
        refine j_bipush (v := 6) hC dX1_compares_75 (by decide) ?_
        refine j_iload hC 3 dX1_compares_77 rfl ?_
        refine j_imul hC dX1_compares_79 ?_
        refine j_iload hC 4 dX1_compares_80 rfl ?_
        refine j_iadd hC dX1_compares_82 ?_
        refine j_aload_n hC 0 dX1_compares_83 rfl ?_
        refine j_iload hC 3 dX1_compares_84 rfl ?_
        refine j_iload hC 4 dX1_compares_86 rfl ?_
        refine j_callV (nA := 2) (rest := [.int ((6 * x4) + x5), .ref (gadr (XG X) (4, 0, 2))]) hC [.int x4, .int x5] rfl (fun r hr => mX1_firstHas (XL X) (XG X) hG fu (XD X) M x4 x5 r hr) q1297 q1299 qs36 q126 q1300 (dmY hG rfl) rfl rfl (by decide +kernel) rfl rfl rfl rfl rfl rfl dX1_compares_88 (fun v88 => [.int v88, .int ((6 * x4) + x5), .ref (gadr (XG X) (4, 0, 2))]) (fun _ => rfl) (fun v88 M88 => ?_)
        refine j_iast hC (dmY hG rfl) rfl dX1_compares_91 (fun h91 => ?_)
        refine j_lt (fun M91 => ?_)
        refine j_aload_n hC 0 dX1_compares_92 rfl ?_
        refine j_getR (fk := 7) hC (dmY hG rfl) rfl rfl in_X1 rfl rfl q503 rfl dX1_compares_93 ?_
        refine j_bipush (v := 6) hC dX1_compares_96 (by decide) ?_
        refine j_iload hC 3 dX1_compares_98 rfl ?_
        refine j_imul hC dX1_compares_100 ?_
        refine j_iload hC 4 dX1_compares_101 rfl ?_
        refine j_iadd hC dX1_compares_103 ?_
        refine j_aload_n hC 0 dX1_compares_104 rfl ?_
        refine j_aload_n hC 0 dX1_compares_105 rfl ?_
        refine j_getR (fk := 5) hC (dmY hG rfl) rfl rfl in_X1 rfl rfl q501 rfl dX1_compares_106 ?_
        refine j_aload_n hC 0 dX1_compares_109 rfl ?_
        refine j_getR (fk := 4) hC (dmY hG rfl) rfl rfl in_X1 rfl rfl q500 rfl dX1_compares_110 ?_
        refine j_callV (nA := 2) (rest := [.int ((6 * x4) + x5), .ref (gadr (XG X) (4, 0, 3))]) hC [.ref (gadr (XG X) (3, 1, 0)), .ref (gadr (XG X) (3, 0, 0))] rfl (fun r hr => mX1_hasIt (XL X) (XG X) hG fu (XD X) 1 (by decide) 0 (by decide) M91 r hr) q1301 q1303 qs37 q126 q1304 (dmY hG rfl) rfl rfl (by decide +kernel) rfl rfl rfl rfl rfl rfl dX1_compares_113 (fun v113 => [.int v113, .int ((6 * x4) + x5), .ref (gadr (XG X) (4, 0, 3))]) (fun _ => rfl) (fun v113 M113 => ?_)
        refine j_iast hC (dmY hG rfl) rfl dX1_compares_116 (fun h116 => ?_)
        refine j_lt (fun M116 => ?_)
        exact j_sub [0, 1, 2, 3, 4] rfl (wX1_compares_117 hC hG hnl fu kn38 hk38 M116 x2 x3 x4 x5)
set_option linter.unusedVariables false in
set_option maxRecDepth 100000 in
theorem wX1_compares_38 {X : JX} (hC : JC X cX1_compares RX1 none 40 1462 0 0) (hG : dmI dmX (XG X)) (hnl : nLof X = 6) (fu : Nat) (kn23 : Mem × Int32 × Int32 × Int32 → Option (Int32 × Mem)) (hk23 : ∀ (M : Mem) (x2 x3 x4 : Int32), J X (ZN X foV) (kn23 (M, x2, x3, x4)) 23 [(0, .ref (gadr (XG X) (4, 0, 0))), (2, .int x2), (3, .int x3), (4, .int x4)] [] M 0 0) (M : Mem) (x2 x3 x4 x5 : Int32) : J X (ZN X foV) (FX1_compares_38 fu (XD X) kn23 M x2 x3 x4 x5) 38 [(0, .ref (gadr (XG X) (4, 0, 0))), (2, .int x2), (3, .int x3), (4, .int x4), (5, .int x5)] [] M 0 0 := by
  exact j_lp (lvf := fun z => [(0, .ref (gadr (XG X) (4, 0, 0))), (2, .int (z.2.1)), (3, .int (z.2.2.1)), (4, .int (z.2.2.2.1)), (5, .int (z.2.2.2.2))]) (Mf := fun z => z.1) (fun kn hk z => wgX1_compares_38 hC hG hnl fu kn (fun M x2 x3 x4 x5 => hk (M, x2, x3, x4, x5)) kn23 hk23 z.1 z.2.1 z.2.2.1 z.2.2.2.1 z.2.2.2.2) fu (M, x2, x3, x4, x5)
set_option linter.unusedVariables false in
set_option maxRecDepth 100000 in
theorem wgX1_compares_23 {X : JX} (hC : JC X cX1_compares RX1 none 40 1462 0 0) (hG : dmI dmX (XG X)) (hnl : nLof X = 6) (fu : Nat) (kn23 : Mem × Int32 × Int32 × Int32 → Option (Int32 × Mem)) (hk23 : ∀ (M : Mem) (x2 x3 x4 : Int32), J X (ZN X foV) (kn23 (M, x2, x3, x4)) 23 [(0, .ref (gadr (XG X) (4, 0, 0))), (2, .int x2), (3, .int x3), (4, .int x4)] [] M 0 0) (M : Mem) (x2 x3 x4 : Int32) : J X (ZN X foV) (GX1_compares_23 fu (XD X) kn23 M x2 x3 x4) 23 [(0, .ref (gadr (XG X) (4, 0, 0))), (2, .int x2), (3, .int x3), (4, .int x4)] [] M 0 0 := by
  unfold GX1_compares_23
  refine j_iload hC 3 dX1_compares_23 rfl ?_
  refine j_aload_n hC 0 dX1_compares_25 rfl ?_
  refine j_getR (fk := 1) hC (dmY hG rfl) rfl rfl in_X1 rfl rfl q496 rfl dX1_compares_26 ?_
  refine j_getNI (fk := 7) hC (dmS hG (by decide) rfl) rfl rfl in_X3 rfl rfl q273 rfl dX1_compares_29 ?_
  refine j_icmp_ge (tgt := 129) hC dX1_compares_32 (by decide) (fun h32 => ?_) (fun h32 => ?_)
  · exact j_vret hC dX1_compares_129
  · refine j_iconst (v := 0) hC dX1_compares_35 (by decide) ?_
    refine j_istore hC [(5, .int 0), (0, .ref (gadr (XG X) (4, 0, 0))), (2, .int x2), (3, .int x3), (4, .int x4)] hnl dX1_compares_36 rfl rfl ?_
    exact j_sub [1, 2, 3, 4, 0] rfl (wX1_compares_38 hC hG hnl fu kn23 hk23 M x2 x3 x4 0)
set_option linter.unusedVariables false in
set_option maxRecDepth 100000 in
theorem wX1_compares_23 {X : JX} (hC : JC X cX1_compares RX1 none 40 1462 0 0) (hG : dmI dmX (XG X)) (hnl : nLof X = 6) (fu : Nat) (M : Mem) (x2 x3 x4 : Int32) : J X (ZN X foV) (FX1_compares_23 fu (XD X) M x2 x3 x4) 23 [(0, .ref (gadr (XG X) (4, 0, 0))), (2, .int x2), (3, .int x3), (4, .int x4)] [] M 0 0 := by
  exact j_lp (lvf := fun z => [(0, .ref (gadr (XG X) (4, 0, 0))), (2, .int (z.2.1)), (3, .int (z.2.2.1)), (4, .int (z.2.2.2))]) (Mf := fun z => z.1) (fun kn hk z => wgX1_compares_23 hC hG hnl fu kn (fun M x2 x3 x4 => hk (M, x2, x3, x4)) z.1 z.2.1 z.2.2.1 z.2.2.2) fu (M, x2, x3, x4)
set_option linter.unusedVariables false in
set_option maxRecDepth 100000 in
theorem wX1_compares {X : JX} (hC : JC X cX1_compares RX1 none 40 1462 0 0) (hG : dmI dmX (XG X)) (hnl : nLof X = 6) (fu : Nat) (M : Mem) (x1 : Int32) : J X (ZN X foV) (FX1_compares fu (XD X) M x1) 0 [(0, .ref (gadr (XG X) (4, 0, 0))), (1, .int x1)] [] M 0 0 := by
  unfold FX1_compares
  refine j_aload_n hC 0 dX1_compares_0 rfl ?_
  refine j_getR (fk := 1) hC (dmY hG rfl) rfl rfl in_X1 rfl rfl q496 rfl dX1_compares_1 ?_
  refine j_iload_n hC 1 dX1_compares_4 rfl ?_
  refine j_iconst (v := 0) hC dX1_compares_5 (by decide) ?_
  refine j_callV (nA := 2) (rest := []) hC [.int x1, .int 0] rfl (fun r hr => mX3_choices (XL X) (XG X) hG fu (XD X) 0 (by decide) M x1 0 r hr) q1148 q1149 q1150 q128 q1151 (dmS hG (by decide) rfl) rfl rfl (by decide +kernel) rfl rfl rfl rfl rfl rfl dX1_compares_6 (fun v6 => [.int v6]) (fun _ => rfl) (fun v6 M6 => ?_)
  refine j_istore_n hC [(2, .int v6), (0, .ref (gadr (XG X) (4, 0, 0))), (1, .int x1)] hnl dX1_compares_9 rfl rfl ?_
  refine j_aload_n hC 1 dX1_compares_10 rfl ?_
  refine j_getR (fk := 1) hC (dmY hG rfl) rfl rfl in_X1 rfl rfl q496 rfl dX1_compares_11 ?_
  refine j_iload_n hC 2 dX1_compares_14 rfl ?_
  refine j_iconst (v := 1) hC dX1_compares_15 (by decide) ?_
  refine j_callV (nA := 2) (rest := []) hC [.int x1, .int 1] rfl (fun r hr => mX3_choices (XL X) (XG X) hG fu (XD X) 0 (by decide) M6 x1 1 r hr) q1148 q1149 q1150 q128 q1151 (dmS hG (by decide) rfl) rfl rfl (by decide +kernel) rfl rfl rfl rfl rfl rfl dX1_compares_16 (fun v16 => [.int v16]) (fun _ => rfl) (fun v16 M16 => ?_)
  refine j_istore_n hC [(3, .int v16), (2, .int v6), (0, .ref (gadr (XG X) (4, 0, 0))), (1, .int x1)] hnl dX1_compares_19 rfl rfl ?_
  refine j_iconst (v := 0) hC dX1_compares_20 (by decide) ?_
  refine j_istore hC [(4, .int 0), (3, .int v16), (2, .int v6), (0, .ref (gadr (XG X) (4, 0, 0))), (1, .int x1)] hnl dX1_compares_21 rfl rfl ?_
  exact j_sub [3, 2, 1, 0] rfl (wX1_compares_23 hC hG hnl fu M16 v6 v16 0)
set_option linter.unusedVariables false in
set_option maxRecDepth 100000 in
theorem mX1_compares (l : Launch) (Γ : xG) (hG : dmI dmX Γ) (fu : Nat) (D : List LDen) (M : Mem) (x1 : Int32) (r : Int32 × Mem) (hr : FX1_compares fu D M x1 = some r) : CN l yX1_compares (ws_ yX1_compares cX1_compares 6 none) 40 1462 Γ D [.ref (gadr Γ (4, 0, 0)), .int x1] M (foV r.1) r.2 := by
  refine CN.of (own := RX1) (lv0 := lv_args 0 [.ref (gadr Γ (4, 0, 0)), .int x1]) (by decide +kernel) rfl (Nat.le_of_ble_eq_true rfl) rfl (fun X e1 e2 e3 e4 hC => ?_) r hr
  subst e1
  subst e2
  exact wX1_compares hC hG e4 fu M x1
set_option linter.unusedVariables false in
set_option maxRecDepth 100000 in
theorem wX1_leastBy_68 {X : JX} (hC : JC X cX1_leastBy RX1 (some .int) 1 30 0 0) (hG : dmI dmX (XG X)) (hnl : nLof X = 6) (fu : Nat) (kn8 : Mem × Int32 × Int32 × Int32 × Int32 × Int32 → Option (Int32 × Mem)) (hk8 : ∀ (M : Mem) (x1 x2 x3 x4 x5 : Int32), J X (ZN X foI) (kn8 (M, x1, x2, x3, x4, x5)) 8 [(0, .ref (gadr (XG X) (4, 0, 0))), (1, .int x1), (2, .int x2), (3, .int x3), (4, .int x4), (5, .int x5)] [] M 0 0) (M : Mem) (x1 x2 x3 x4 x5 : Int32) : J X (ZN X foI) (FX1_leastBy_68 fu (XD X) kn8 M x1 x2 x3 x4 x5) 68 [(0, .ref (gadr (XG X) (4, 0, 0))), (1, .int x1), (2, .int x2), (3, .int x3), (4, .int x4), (5, .int x5)] [] M 0 0 := by
  unfold FX1_leastBy_68
  refine j_iincL hC 5 (fun y68 => [(5, .int y68), (0, .ref (gadr (XG X) (4, 0, 0))), (1, .int x1), (2, .int x2), (3, .int x3), (4, .int x4)]) hnl dX1_leastBy_68 rfl (by decide) rfl (fun _ => rfl) (fun y68 => ?_)
  refine j_goto (tgt := 8) hC dX1_leastBy_71 (by decide) ?_
  exact j_sub [1, 2, 3, 4, 5, 0] rfl (hk8 M x1 x2 x3 x4 y68)
set_option linter.unusedVariables false in
set_option maxRecDepth 100000 in
theorem wX1_leastBy_63 {X : JX} (hC : JC X cX1_leastBy RX1 (some .int) 1 30 0 0) (hG : dmI dmX (XG X)) (hnl : nLof X = 6) (fu : Nat) (kn8 : Mem × Int32 × Int32 × Int32 × Int32 × Int32 → Option (Int32 × Mem)) (hk8 : ∀ (M : Mem) (x1 x2 x3 x4 x5 : Int32), J X (ZN X foI) (kn8 (M, x1, x2, x3, x4, x5)) 8 [(0, .ref (gadr (XG X) (4, 0, 0))), (1, .int x1), (2, .int x2), (3, .int x3), (4, .int x4), (5, .int x5)] [] M 0 0) (M : Mem) (x1 x2 x3 x5 t0 t1 : Int32) : J X (ZN X foI) (FX1_leastBy_63 fu (XD X) kn8 M x1 x2 x3 x5 t0 t1) 63 [(0, .ref (gadr (XG X) (4, 0, 0))), (1, .int x1), (2, .int x2), (3, .int x3), (5, .int x5)] [.int t0, .int t1] M 0 0 := by
  unfold FX1_leastBy_63
  refine j_min hC q731 q640 q155 q641 dX1_leastBy_63 rfl (Nat.le_of_ble_eq_true rfl) (Nat.le_of_ble_eq_true rfl) (Nat.le_of_ble_eq_true rfl) ?_
  refine j_ltT (fun y66 => ?_)
  refine j_istore hC [(4, .int y66), (0, .ref (gadr (XG X) (4, 0, 0))), (1, .int x1), (2, .int x2), (3, .int x3), (5, .int x5)] hnl dX1_leastBy_66 rfl rfl ?_
  exact j_sub [1, 2, 3, 4, 0, 5] rfl (wX1_leastBy_68 hC hG hnl fu kn8 hk8 M x1 x2 x3 y66 x5)
set_option linter.unusedVariables false in
set_option maxRecDepth 100000 in
theorem wgX1_leastBy_8 {X : JX} (hC : JC X cX1_leastBy RX1 (some .int) 1 30 0 0) (hG : dmI dmX (XG X)) (hnl : nLof X = 6) (fu : Nat) (kn8 : Mem × Int32 × Int32 × Int32 × Int32 × Int32 → Option (Int32 × Mem)) (hk8 : ∀ (M : Mem) (x1 x2 x3 x4 x5 : Int32), J X (ZN X foI) (kn8 (M, x1, x2, x3, x4, x5)) 8 [(0, .ref (gadr (XG X) (4, 0, 0))), (1, .int x1), (2, .int x2), (3, .int x3), (4, .int x4), (5, .int x5)] [] M 0 0) (M : Mem) (x1 x2 x3 x4 x5 : Int32) : J X (ZN X foI) (GX1_leastBy_8 fu (XD X) kn8 M x1 x2 x3 x4 x5) 8 [(0, .ref (gadr (XG X) (4, 0, 0))), (1, .int x1), (2, .int x2), (3, .int x3), (4, .int x4), (5, .int x5)] [] M 0 0 := by
  unfold GX1_leastBy_8
  refine j_iload hC 5 dX1_leastBy_8 rfl ?_
  refine j_aload_n hC 0 dX1_leastBy_10 rfl ?_
  refine j_getR (fk := 1) hC (dmY hG rfl) rfl rfl in_X1 rfl rfl q496 rfl dX1_leastBy_11 ?_
  refine j_getNI (fk := 7) hC (dmS hG (by decide) rfl) rfl rfl in_X3 rfl rfl q273 rfl dX1_leastBy_14 ?_
  refine j_icmp_ge (tgt := 74) hC dX1_leastBy_17 (by decide) (fun h17 => ?_) (fun h17 => ?_)
  · refine j_ldc2 (v := 100) hC dX1_leastBy_74 q1339 ?_
    refine j_iload hC 4 dX1_leastBy_77 rfl ?_
    refine j_i2l hC dX1_leastBy_79 ?_
    refine j_lmul hC dX1_leastBy_80 ?_
    refine j_ldc2 (v := 43046721) hC dX1_leastBy_81 q1340 ?_
    refine j_ldivL hC dX1_leastBy_84 (by decide) ?_
    refine j_l2i hC dX1_leastBy_85 ?_
    exact j_iret hC dX1_leastBy_86
  · refine j_iload_n hC 2 dX1_leastBy_20 rfl ?_
    refine j_iload hC 5 dX1_leastBy_21 rfl ?_
    refine j_ishr hC dX1_leastBy_23 ?_
    refine j_iconst (v := 1) hC dX1_leastBy_24 (by decide) ?_
    refine j_iand hC dX1_leastBy_25 ?_
    refine j_iconst (v := 1) hC dX1_leastBy_26 (by decide) ?_
    refine j_icmp_ne (tgt := 68) hC dX1_leastBy_27 (by decide) (fun h27 => ?_) (fun h27 => ?_)
    · refine j_iload hC 4 dX1_leastBy_30 rfl ?_
      refine j_iload_n hC 3 dX1_leastBy_32 rfl ?_
      refine j_if_eq (tgt := 51) hC dX1_leastBy_33 (by decide) (fun h33 => ?_) (fun h33 => ?_)
      · refine j_aload_n hC 0 dX1_leastBy_51 rfl ?_
        refine j_getR (fk := 6) hC (dmY hG rfl) rfl rfl in_X1 rfl rfl q502 rfl dX1_leastBy_52 ?_
        refine j_bipush (v := 6) hC dX1_leastBy_55 (by decide) ?_
        refine j_iload_n hC 1 dX1_leastBy_57 rfl ?_
        refine j_imul hC dX1_leastBy_58 ?_
        refine j_iload hC 5 dX1_leastBy_59 rfl ?_
        refine j_iadd hC dX1_leastBy_61 ?_
        refine j_iald hC (dmY hG rfl) rfl dX1_leastBy_62 (fun h62 => ?_)
        exact j_sub [0, 1, 2, 3, 5] rfl (wX1_leastBy_63 hC hG hnl fu kn8 hk8 M x1 x2 x3 x5 (M (4, 0, 2) (((6 * x1) + x5).toNatClampNeg)) x4)
      · refine j_aload_n hC 0 dX1_leastBy_36 rfl ?_
        refine j_getR (fk := 7) hC (dmY hG rfl) rfl rfl in_X1 rfl rfl q503 rfl dX1_leastBy_37 ?_
        refine j_bipush (v := 6) hC dX1_leastBy_40 (by decide) ?_
        refine j_iload hC 5 dX1_leastBy_42 rfl ?_
        refine j_imul hC dX1_leastBy_44 ?_
        refine j_iload_n hC 1 dX1_leastBy_45 rfl ?_
        refine j_iadd hC dX1_leastBy_46 ?_
        refine j_iald hC (dmY hG rfl) rfl dX1_leastBy_47 (fun h47 => ?_)
        refine j_goto (tgt := 63) hC dX1_leastBy_48 (by decide) ?_
        exact j_sub [0, 1, 2, 3, 5] rfl (wX1_leastBy_63 hC hG hnl fu kn8 hk8 M x1 x2 x3 x5 (M (4, 0, 3) (((6 * x5) + x1).toNatClampNeg)) x4)
    · exact j_sub [0, 1, 2, 3, 4, 5] rfl (wX1_leastBy_68 hC hG hnl fu kn8 hk8 M x1 x2 x3 x4 x5)
set_option linter.unusedVariables false in
set_option maxRecDepth 100000 in
theorem wX1_leastBy_8 {X : JX} (hC : JC X cX1_leastBy RX1 (some .int) 1 30 0 0) (hG : dmI dmX (XG X)) (hnl : nLof X = 6) (fu : Nat) (M : Mem) (x1 x2 x3 x4 x5 : Int32) : J X (ZN X foI) (FX1_leastBy_8 fu (XD X) M x1 x2 x3 x4 x5) 8 [(0, .ref (gadr (XG X) (4, 0, 0))), (1, .int x1), (2, .int x2), (3, .int x3), (4, .int x4), (5, .int x5)] [] M 0 0 := by
  exact j_lp (lvf := fun z => [(0, .ref (gadr (XG X) (4, 0, 0))), (1, .int (z.2.1)), (2, .int (z.2.2.1)), (3, .int (z.2.2.2.1)), (4, .int (z.2.2.2.2.1)), (5, .int (z.2.2.2.2.2))]) (Mf := fun z => z.1) (fun kn hk z => wgX1_leastBy_8 hC hG hnl fu kn (fun M x1 x2 x3 x4 x5 => hk (M, x1, x2, x3, x4, x5)) z.1 z.2.1 z.2.2.1 z.2.2.2.1 z.2.2.2.2.1 z.2.2.2.2.2) fu (M, x1, x2, x3, x4, x5)
set_option linter.unusedVariables false in
set_option maxRecDepth 100000 in
theorem wX1_leastBy {X : JX} (hC : JC X cX1_leastBy RX1 (some .int) 1 30 0 0) (hG : dmI dmX (XG X)) (hnl : nLof X = 6) (fu : Nat) (M : Mem) (x1 x2 x3 : Int32) : J X (ZN X foI) (FX1_leastBy fu (XD X) M x1 x2 x3) 0 [(0, .ref (gadr (XG X) (4, 0, 0))), (1, .int x1), (2, .int x2), (3, .int x3)] [] M 0 0 := by
  unfold FX1_leastBy
  refine j_ldcw (v := 1000000000) hC dX1_leastBy_0 q1338 ?_
  refine j_istore hC [(4, .int 1000000000), (0, .ref (gadr (XG X) (4, 0, 0))), (1, .int x1), (2, .int x2), (3, .int x3)] hnl dX1_leastBy_3 rfl rfl ?_
  refine j_iconst (v := 0) hC dX1_leastBy_5 (by decide) ?_
  refine j_istore hC [(5, .int 0), (4, .int 1000000000), (0, .ref (gadr (XG X) (4, 0, 0))), (1, .int x1), (2, .int x2), (3, .int x3)] hnl dX1_leastBy_6 rfl rfl ?_
  exact j_sub [2, 3, 4, 5, 1, 0] rfl (wX1_leastBy_8 hC hG hnl fu M x1 x2 x3 1000000000 0)
set_option linter.unusedVariables false in
set_option maxRecDepth 100000 in
theorem mX1_leastBy (l : Launch) (Γ : xG) (hG : dmI dmX Γ) (fu : Nat) (D : List LDen) (M : Mem) (x1 x2 x3 : Int32) (r : Int32 × Mem) (hr : FX1_leastBy fu D M x1 x2 x3 = some r) : CN l yX1_leastBy (ws_ yX1_leastBy cX1_leastBy 6 (some .int)) 1 30 Γ D [.ref (gadr Γ (4, 0, 0)), .int x1, .int x2, .int x3] M (foI r.1) r.2 := by
  refine CN.of (own := RX1) (lv0 := lv_args 0 [.ref (gadr Γ (4, 0, 0)), .int x1, .int x2, .int x3]) (by decide +kernel) rfl (Nat.le_of_ble_eq_true rfl) rfl (fun X e1 e2 e3 e4 hC => ?_) r hr
  subst e1
  subst e2
  exact wX1_leastBy hC hG e4 fu M x1 x2 x3
set_option linter.unusedVariables false in
set_option maxRecDepth 100000 in
theorem wX1_surest_129 {X : JX} (hC : JC X cX1_surest RX1 (some .int) 41 1487 2 12) (hT : JT X) (hG : dmI dmX (XG X)) (hnl : nLof X = 10) (fu : Nat) (M : Mem) (t0 : Int32) : J X (ZT X foI 2 12) (FX1_surest_129 fu (XD X) M t0) 129 [] [.int t0] M 2 12 := by
  unfold FX1_surest_129
  exact j_iretT hC rfl rfl dX1_surest_129
set_option linter.unusedVariables false in
set_option maxRecDepth 100000 in
theorem wX1_surest_112 {X : JX} (hC : JC X cX1_surest RX1 (some .int) 41 1487 2 12) (hT : JT X) (hG : dmI dmX (XG X)) (hnl : nLof X = 10) (fu : Nat) (kn56 : Mem × Int32 × Int32 × Int32 × Int32 × Int32 × Int32 × Int32 → Option TR) (hk56 : ∀ (M : Mem) (x2 x3 x4 x5 x6 x7 x8 : Int32), J X (ZT X foI 2 12) (kn56 (M, x2, x3, x4, x5, x6, x7, x8)) 56 [(0, .ref (gadr (XG X) (4, 0, 0))), (2, .int x2), (3, .int x3), (4, .int x4), (5, .int x5), (6, .int x6), (7, .int x7), (8, .int x8)] [] M 2 12) (M : Mem) (x2 x3 x4 x5 x6 x7 x8 : Int32) : J X (ZT X foI 2 12) (FX1_surest_112 fu (XD X) kn56 M x2 x3 x4 x5 x6 x7 x8) 112 [(0, .ref (gadr (XG X) (4, 0, 0))), (2, .int x2), (3, .int x3), (4, .int x4), (5, .int x5), (6, .int x6), (7, .int x7), (8, .int x8)] [] M 2 12 := by
  unfold FX1_surest_112
  refine j_iincL hC 7 (fun y112 => [(8, .int y112), (0, .ref (gadr (XG X) (4, 0, 0))), (2, .int x2), (3, .int x3), (4, .int x4), (5, .int x5), (6, .int x6), (7, .int x7)]) hnl dX1_surest_112 rfl (by decide) rfl (fun _ => rfl) (fun y112 => ?_)
  refine j_goto (tgt := 56) hC dX1_surest_115 (by decide) ?_
  exact j_sub [1, 2, 3, 4, 5, 6, 7, 0] rfl (hk56 M x2 x3 x4 x5 x6 x7 y112)
set_option linter.unusedVariables false in
set_option maxRecDepth 100000 in
theorem wX1_surest_92 {X : JX} (hC : JC X cX1_surest RX1 (some .int) 41 1487 2 12) (hT : JT X) (hG : dmI dmX (XG X)) (hnl : nLof X = 10) (fu : Nat) (kn56 : Mem × Int32 × Int32 × Int32 × Int32 × Int32 × Int32 × Int32 → Option TR) (hk56 : ∀ (M : Mem) (x2 x3 x4 x5 x6 x7 x8 : Int32), J X (ZT X foI 2 12) (kn56 (M, x2, x3, x4, x5, x6, x7, x8)) 56 [(0, .ref (gadr (XG X) (4, 0, 0))), (2, .int x2), (3, .int x3), (4, .int x4), (5, .int x5), (6, .int x6), (7, .int x7), (8, .int x8)] [] M 2 12) (M : Mem) (x2 x3 x4 x5 x6 x7 x8 t0 : Int32) : J X (ZT X foI 2 12) (FX1_surest_92 fu (XD X) kn56 M x2 x3 x4 x5 x6 x7 x8 t0) 92 [(0, .ref (gadr (XG X) (4, 0, 0))), (2, .int x2), (3, .int x3), (4, .int x4), (5, .int x5), (6, .int x6), (7, .int x7), (8, .int x8)] [.int t0] M 2 12 := by
  unfold FX1_surest_92
  refine j_istore hC [(9, .int t0), (0, .ref (gadr (XG X) (4, 0, 0))), (2, .int x2), (3, .int x3), (4, .int x4), (5, .int x5), (6, .int x6), (7, .int x7), (8, .int x8)] hnl dX1_surest_92 rfl rfl ?_
  refine j_iload hC 0 dX1_surest_94 rfl ?_
  refine j_iload hC 7 dX1_surest_96 rfl ?_
  refine j_icmp_gt (tgt := 104) hC dX1_surest_98 (by decide) (fun h98 => ?_) (fun h98 => ?_)
  · refine j_iload hC 0 dX1_surest_104 rfl ?_
    refine j_istore hC [(7, .int t0), (9, .int t0), (0, .ref (gadr (XG X) (4, 0, 0))), (2, .int x2), (3, .int x3), (4, .int x4), (5, .int x5), (6, .int x6), (8, .int x8)] hnl dX1_surest_106 rfl rfl ?_
    refine j_iload hC 8 dX1_surest_108 rfl ?_
    refine j_istore hC [(6, .int x8), (7, .int t0), (9, .int t0), (0, .ref (gadr (XG X) (4, 0, 0))), (2, .int x2), (3, .int x3), (4, .int x4), (5, .int x5), (8, .int x8)] hnl dX1_surest_110 rfl rfl ?_
    exact j_sub [3, 4, 5, 6, 7, 0, 1, 8] rfl (wX1_surest_112 hC hT hG hnl fu kn56 hk56 M x2 x3 x4 x5 x8 t0 x8)
  · refine j_goto (tgt := 112) hC dX1_surest_101 (by decide) ?_
    exact j_sub [1, 2, 3, 4, 5, 6, 7, 8] rfl (wX1_surest_112 hC hT hG hnl fu kn56 hk56 M x2 x3 x4 x5 x6 x7 x8)
set_option linter.unusedVariables false in
set_option maxRecDepth 100000 in
theorem wgX1_surest_56 {X : JX} (hC : JC X cX1_surest RX1 (some .int) 41 1487 2 12) (hT : JT X) (hG : dmI dmX (XG X)) (hnl : nLof X = 10) (fu : Nat) (kn56 : Mem × Int32 × Int32 × Int32 × Int32 × Int32 × Int32 × Int32 → Option TR) (hk56 : ∀ (M : Mem) (x2 x3 x4 x5 x6 x7 x8 : Int32), J X (ZT X foI 2 12) (kn56 (M, x2, x3, x4, x5, x6, x7, x8)) 56 [(0, .ref (gadr (XG X) (4, 0, 0))), (2, .int x2), (3, .int x3), (4, .int x4), (5, .int x5), (6, .int x6), (7, .int x7), (8, .int x8)] [] M 2 12) (M : Mem) (x2 x3 x4 x5 x6 x7 x8 : Int32) : J X (ZT X foI 2 12) (GX1_surest_56 fu (XD X) kn56 M x2 x3 x4 x5 x6 x7 x8) 56 [(0, .ref (gadr (XG X) (4, 0, 0))), (2, .int x2), (3, .int x3), (4, .int x4), (5, .int x5), (6, .int x6), (7, .int x7), (8, .int x8)] [] M 2 12 := by
  unfold GX1_surest_56
  refine j_iload hC 7 dX1_surest_56 rfl ?_
  refine j_aload_n hC 0 dX1_surest_58 rfl ?_
  refine j_getR (fk := 1) hC (dmY hG rfl) rfl rfl in_X1 rfl rfl q496 rfl dX1_surest_59 ?_
  refine j_getNI (fk := 7) hC (dmS hG (by decide) rfl) rfl rfl in_X3 rfl rfl q273 rfl dX1_surest_62 ?_
  refine j_icmp_ge (tgt := 118) hC dX1_surest_65 (by decide) (fun h65 => ?_) (fun h65 => ?_)
  · refine j_iload_n hC 2 dX1_surest_118 rfl ?_
    refine j_if_eq (tgt := 127) hC dX1_surest_119 (by decide) (fun h119 => ?_) (fun h119 => ?_)
    · refine j_iload hC 5 dX1_surest_127 rfl ?_
      exact j_sub [] rfl (wX1_surest_129 hC hT hG hnl fu M x6)
    · refine j_iload hC 6 dX1_surest_122 rfl ?_
      refine j_goto (tgt := 129) hC dX1_surest_124 (by decide) ?_
      exact j_sub [] rfl (wX1_surest_129 hC hT hG hnl fu M x7)
  · refine j_iload hC 3 dX1_surest_68 rfl ?_
    refine j_iload hC 7 dX1_surest_70 rfl ?_
    refine j_ishr hC dX1_surest_72 ?_
    refine j_iconst (v := 1) hC dX1_surest_73 (by decide) ?_
    refine j_iand hC dX1_surest_74 ?_
    refine j_iconst (v := 1) hC dX1_surest_75 (by decide) ?_
    refine j_icmp_ne (tgt := 91) hC dX1_surest_76 (by decide) (fun h76 => ?_) (fun h76 => ?_)
    · refine j_aload_n hC 0 dX1_surest_79 rfl ?_
      refine j_iload hC 7 dX1_surest_80 rfl ?_
      refine j_iload hC 4 dX1_surest_82 rfl ?_
      refine j_iload_n hC 1 dX1_surest_84 rfl ?_
      refine j_callV (nA := 3) (rest := []) hC [.int x8, .int x5, .int x2] rfl (fun r hr => mX1_leastBy (XL X) (XG X) hG fu (XD X) M x8 x5 x2 r hr) q1334 q1336 qs40 q126 q1337 (dmY hG rfl) rfl rfl (by decide +kernel) rfl rfl rfl rfl rfl rfl dX1_surest_85 (fun v85 => [.int v85]) (fun _ => rfl) (fun v85 M85 => ?_)
      refine j_goto (tgt := 92) hC dX1_surest_88 (by decide) ?_
      exact j_sub [0, 1, 2, 3, 4, 5, 6, 7] rfl (wX1_surest_92 hC hT hG hnl fu kn56 hk56 M85 x2 x3 x4 x5 x6 x7 x8 v85)
    · refine j_iconst (v := (-1)) hC dX1_surest_91 (by decide) ?_
      exact j_sub [0, 1, 2, 3, 4, 5, 6, 7] rfl (wX1_surest_92 hC hT hG hnl fu kn56 hk56 M x2 x3 x4 x5 x6 x7 x8 (-1))
set_option linter.unusedVariables false in
set_option maxRecDepth 100000 in
theorem wX1_surest_56 {X : JX} (hC : JC X cX1_surest RX1 (some .int) 41 1487 2 12) (hT : JT X) (hG : dmI dmX (XG X)) (hnl : nLof X = 10) (fu : Nat) (M : Mem) (x2 x3 x4 x5 x6 x7 x8 : Int32) : J X (ZT X foI 2 12) (FX1_surest_56 fu (XD X) M x2 x3 x4 x5 x6 x7 x8) 56 [(0, .ref (gadr (XG X) (4, 0, 0))), (2, .int x2), (3, .int x3), (4, .int x4), (5, .int x5), (6, .int x6), (7, .int x7), (8, .int x8)] [] M 2 12 := by
  exact j_lp (lvf := fun z => [(0, .ref (gadr (XG X) (4, 0, 0))), (2, .int (z.2.1)), (3, .int (z.2.2.1)), (4, .int (z.2.2.2.1)), (5, .int (z.2.2.2.2.1)), (6, .int (z.2.2.2.2.2.1)), (7, .int (z.2.2.2.2.2.2.1)), (8, .int (z.2.2.2.2.2.2.2))]) (Mf := fun z => z.1) (fun kn hk z => wgX1_surest_56 hC hT hG hnl fu kn (fun M x2 x3 x4 x5 x6 x7 x8 => hk (M, x2, x3, x4, x5, x6, x7, x8)) z.1 z.2.1 z.2.2.1 z.2.2.2.1 z.2.2.2.2.1 z.2.2.2.2.2.1 z.2.2.2.2.2.2.1 z.2.2.2.2.2.2.2) fu (M, x2, x3, x4, x5, x6, x7, x8)
set_option linter.unusedVariables false in
set_option maxRecDepth 100000 in
theorem wX1_surest_30 {X : JX} (hC : JC X cX1_surest RX1 (some .int) 41 1487 2 12) (hT : JT X) (hG : dmI dmX (XG X)) (hnl : nLof X = 10) (fu : Nat) (M : Mem) (x1 x2 x3 x4 t0 t1 : Int32) : J X (ZT X foI 2 12) (FX1_surest_30 fu (XD X) M x1 x2 x3 x4 t0 t1) 30 [(0, .ref (gadr (XG X) (4, 0, 0))), (1, .int x1), (2, .int x2), (3, .int x3), (4, .int x4)] [.int t0, .int t1, .ref (gadr (XG X) (0, 0, 0))] M 2 12 := by
  unfold FX1_surest_30
  refine j_callV (nA := 2) (rest := []) hC [.int t1, .int t0] rfl (fun r hr => mX3_choices (XL X) (XG X) hG fu (XD X) 0 (by decide) M t1 t0 r hr) q1148 q1149 q1150 q128 q1151 (dmS hG (by decide) rfl) rfl rfl (by decide +kernel) rfl rfl rfl rfl rfl rfl dX1_surest_30 (fun v30 => [.int v30]) (fun _ => rfl) (fun v30 M30 => ?_)
  refine j_istore hC [(5, .int v30), (0, .ref (gadr (XG X) (4, 0, 0))), (1, .int x1), (2, .int x2), (3, .int x3), (4, .int x4)] hnl dX1_surest_33 rfl rfl ?_
  refine j_iload hC 0 dX1_surest_35 rfl ?_
  refine j_if_ne (tgt := 42) hC dX1_surest_37 (by decide) (fun h37 => ?_) (fun h37 => ?_)
  · refine j_iconst (v := (-1)) hC dX1_surest_40 (by decide) ?_
    exact j_iretT hC rfl rfl dX1_surest_41
  · refine j_aload_n hC 1 dX1_surest_42 rfl ?_
    refine j_iload_n hC 2 dX1_surest_43 rfl ?_
    refine j_callV (nA := 1) (rest := []) hC [.int x1] rfl (fun r hr => mX1_compares (XL X) (XG X) hG fu (XD X) M30 x1 r hr) q1330 q1332 qs39 q126 q1333 (dmY hG rfl) rfl rfl (by decide +kernel) rfl rfl rfl rfl rfl rfl dX1_surest_44 (fun _ => []) (fun _ => rfl) (fun v44 M44 => ?_)
    refine j_iconst (v := (-1)) hC dX1_surest_47 (by decide) ?_
    refine j_istore hC [(6, .int ((-1))), (5, .int v30), (0, .ref (gadr (XG X) (4, 0, 0))), (1, .int x1), (2, .int x2), (3, .int x3), (4, .int x4)] hnl dX1_surest_48 rfl rfl ?_
    refine j_iconst (v := (-1)) hC dX1_surest_50 (by decide) ?_
    refine j_istore hC [(7, .int ((-1))), (6, .int ((-1))), (5, .int v30), (0, .ref (gadr (XG X) (4, 0, 0))), (1, .int x1), (2, .int x2), (3, .int x3), (4, .int x4)] hnl dX1_surest_51 rfl rfl ?_
    refine j_iconst (v := 0) hC dX1_surest_53 (by decide) ?_
    refine j_istore hC [(8, .int 0), (7, .int ((-1))), (6, .int ((-1))), (5, .int v30), (0, .ref (gadr (XG X) (4, 0, 0))), (1, .int x1), (2, .int x2), (3, .int x3), (4, .int x4)] hnl dX1_surest_54 rfl rfl ?_
    exact j_sub [4, 6, 7, 8, 3, 2, 1, 0] rfl (wX1_surest_56 hC hT hG hnl fu M44 x2 x3 x4 v30 (-1) (-1) 0)
set_option linter.unusedVariables false in
set_option maxRecDepth 100000 in
theorem wX1_surest {X : JX} (hC : JC X cX1_surest RX1 (some .int) 41 1487 2 12) (hT : JT X) (hG : dmI dmX (XG X)) (hnl : nLof X = 10) (fu : Nat) (M : Mem) (x1 x2 x3 : Int32) : J X (ZT X foI 2 12) (FX1_surest fu (XD X) M x1 x2 x3) 0 [(0, .ref (gadr (XG X) (4, 0, 0))), (1, .int x1), (2, .int x2), (3, .int x3)] [] M 0 0 := by
  unfold FX1_surest
  refine j_aload_n hC 0 dX1_surest_0 rfl ?_
  refine j_iload_n hC 1 dX1_surest_1 rfl ?_
  refine j_callVT (nA := 1) (rest := []) hC hT [.int x1] rfl (fun r hr => mX1_isOpen (XL X) (JT.st hT) (XG X) hG fu (XD X) M x1 r hr) q1326 q1328 qs38 q126 q1329 (dmY hG rfl) rfl rfl (by decide +kernel) rfl rfl rfl rfl rfl rfl dX1_surest_2 (fun _ => []) (fun _ => rfl) (fun v2 M2 => ?_)
  refine j_aload_n hC 0 dX1_surest_5 rfl ?_
  refine j_getR (fk := 1) hC (dmY hG rfl) rfl rfl in_X1 rfl rfl q496 rfl dX1_surest_6 ?_
  refine j_iload_n hC 1 dX1_surest_9 rfl ?_
  refine j_iload_n hC 2 dX1_surest_10 rfl ?_
  refine j_callV (nA := 2) (rest := []) hC [.int x1, .int x2] rfl (fun r hr => mX3_choices (XL X) (XG X) hG fu (XD X) 0 (by decide) M2 x1 x2 r hr) q1148 q1149 q1150 q128 q1151 (dmS hG (by decide) rfl) rfl rfl (by decide +kernel) rfl rfl rfl rfl rfl rfl dX1_surest_11 (fun v11 => [.int v11]) (fun _ => rfl) (fun v11 M11 => ?_)
  refine j_istore hC [(4, .int v11), (0, .ref (gadr (XG X) (4, 0, 0))), (1, .int x1), (2, .int x2), (3, .int x3)] hnl dX1_surest_14 rfl rfl ?_
  refine j_aload_n hC 1 dX1_surest_16 rfl ?_
  refine j_getR (fk := 1) hC (dmY hG rfl) rfl rfl in_X1 rfl rfl q496 rfl dX1_surest_17 ?_
  refine j_iload_n hC 2 dX1_surest_20 rfl ?_
  refine j_iload_n hC 3 dX1_surest_21 rfl ?_
  refine j_if_ne (tgt := 29) hC dX1_surest_22 (by decide) (fun h22 => ?_) (fun h22 => ?_)
  · refine j_iconst (v := 1) hC dX1_surest_25 (by decide) ?_
    refine j_goto (tgt := 30) hC dX1_surest_26 (by decide) ?_
    exact j_sub [1, 2, 3, 4, 0] rfl (wX1_surest_30 hC hT hG hnl fu M11 x1 x2 x3 v11 1 x1)
  · refine j_iconst (v := 0) hC dX1_surest_29 (by decide) ?_
    exact j_sub [1, 2, 3, 4, 0] rfl (wX1_surest_30 hC hT hG hnl fu M11 x1 x2 x3 v11 0 x1)
set_option linter.unusedVariables false in
set_option maxRecDepth 100000 in
theorem mX1_surest (l : Launch) (hst : l.stackTraces = false) (Γ : xG) (hG : dmI dmX Γ) (fu : Nat) (D : List LDen) (M : Mem) (x1 x2 x3 : Int32) (r : TR) (hr : FX1_surest fu D M x1 x2 x3 = some r) : CT l yX1_surest (ws_ yX1_surest cX1_surest 10 (some .int)) 41 1487 2 12 Γ D [.ref (gadr Γ (4, 0, 0)), .int x1, .int x2, .int x3] M foI r := by
  refine CT.of hst (own := RX1) (lv0 := lv_args 0 [.ref (gadr Γ (4, 0, 0)), .int x1, .int x2, .int x3]) (by decide +kernel) rfl (Nat.le_of_ble_eq_true rfl) rfl (fun X e1 e2 e3 e4 hC hT => ?_) r hr
  subst e1
  subst e2
  exact wX1_surest hC hT hG e4 fu M x1 x2 x3
set_option linter.unusedVariables false in
set_option maxRecDepth 100000 in
theorem wX1_isRest_106 {X : JX} (hC : JC X cX1_isRest RX1 (some .boolean) 1 12 0 0) (hG : dmI dmX (XG X)) (hnl : nLof X = 7) (fu : Nat) (kn6 : Mem × Int32 × Int32 × Int32 × Int32 × Int32 × Int32 → Option (Int32 × Mem)) (hk6 : ∀ (M : Mem) (x1 x2 x3 x4 x5 x6 : Int32), J X (ZN X foI) (kn6 (M, x1, x2, x3, x4, x5, x6)) 6 [(0, .ref (gadr (XG X) (4, 0, 0))), (1, .int x1), (2, .int x2), (3, .int x3), (4, .int x4), (5, .int x5), (6, .int x6)] [] M 0 0) (M : Mem) (x1 x2 x3 x4 x6 t0 t1 : Int32) : J X (ZN X foI) (FX1_isRest_106 fu (XD X) kn6 M x1 x2 x3 x4 x6 t0 t1) 106 [(0, .ref (gadr (XG X) (4, 0, 0))), (1, .int x1), (2, .int x2), (3, .int x3), (4, .int x4), (6, .int x6)] [.int t0, .int t1] M 0 0 := by
  unfold FX1_isRest_106
  refine j_iand hC dX1_isRest_106 ?_
  refine j_ltT (fun y107 => ?_)
  refine j_istore hC [(5, .int y107), (0, .ref (gadr (XG X) (4, 0, 0))), (1, .int x1), (2, .int x2), (3, .int x3), (4, .int x4), (6, .int x6)] hnl dX1_isRest_107 rfl rfl ?_
  refine j_iincL hC 6 (fun y109 => [(6, .int y109), (5, .int y107), (0, .ref (gadr (XG X) (4, 0, 0))), (1, .int x1), (2, .int x2), (3, .int x3), (4, .int x4)]) hnl dX1_isRest_109 rfl (by decide) rfl (fun _ => rfl) (fun y109 => ?_)
  refine j_goto (tgt := 6) hC dX1_isRest_112 (by decide) ?_
  exact j_sub [2, 3, 4, 5, 6, 1, 0] rfl (hk6 M x1 x2 x3 x4 y107 y109)
set_option linter.unusedVariables false in
set_option maxRecDepth 100000 in
theorem wX1_isRest_101 {X : JX} (hC : JC X cX1_isRest RX1 (some .boolean) 1 12 0 0) (hG : dmI dmX (XG X)) (hnl : nLof X = 7) (fu : Nat) (kn6 : Mem × Int32 × Int32 × Int32 × Int32 × Int32 × Int32 → Option (Int32 × Mem)) (hk6 : ∀ (M : Mem) (x1 x2 x3 x4 x5 x6 : Int32), J X (ZN X foI) (kn6 (M, x1, x2, x3, x4, x5, x6)) 6 [(0, .ref (gadr (XG X) (4, 0, 0))), (1, .int x1), (2, .int x2), (3, .int x3), (4, .int x4), (5, .int x5), (6, .int x6)] [] M 0 0) (M : Mem) (x1 x2 x3 x4 x6 t0 : Int32) : J X (ZN X foI) (FX1_isRest_101 fu (XD X) kn6 M x1 x2 x3 x4 x6 t0) 101 [(0, .ref (gadr (XG X) (4, 0, 0))), (1, .int x1), (2, .int x2), (3, .int x3), (4, .int x4), (6, .int x6)] [.int t0] M 0 0 := by
  unfold FX1_isRest_101
  refine j_iconst (v := 1) hC dX1_isRest_101 (by decide) ?_
  refine j_goto (tgt := 106) hC dX1_isRest_102 (by decide) ?_
  exact j_sub [0, 1, 2, 3, 4, 5] rfl (wX1_isRest_106 hC hG hnl fu kn6 hk6 M x1 x2 x3 x4 x6 1 t0)
set_option linter.unusedVariables false in
set_option maxRecDepth 100000 in
theorem wX1_isRest_60 {X : JX} (hC : JC X cX1_isRest RX1 (some .boolean) 1 12 0 0) (hG : dmI dmX (XG X)) (hnl : nLof X = 7) (fu : Nat) (kn6 : Mem × Int32 × Int32 × Int32 × Int32 × Int32 × Int32 → Option (Int32 × Mem)) (hk6 : ∀ (M : Mem) (x1 x2 x3 x4 x5 x6 : Int32), J X (ZN X foI) (kn6 (M, x1, x2, x3, x4, x5, x6)) 6 [(0, .ref (gadr (XG X) (4, 0, 0))), (1, .int x1), (2, .int x2), (3, .int x3), (4, .int x4), (5, .int x5), (6, .int x6)] [] M 0 0) (M : Mem) (x1 x2 x3 x4 x6 t0 t1 : Int32) : J X (ZN X foI) (FX1_isRest_60 fu (XD X) kn6 M x1 x2 x3 x4 x6 t0 t1) 60 [(0, .ref (gadr (XG X) (4, 0, 0))), (1, .int x1), (2, .int x2), (3, .int x3), (4, .int x4), (6, .int x6)] [.int t0, .int t1] M 0 0 := by
  unfold FX1_isRest_60
  refine j_iand hC dX1_isRest_60 ?_
  refine j_ltT (fun y61 => ?_)
  refine j_istore hC [(5, .int y61), (0, .ref (gadr (XG X) (4, 0, 0))), (1, .int x1), (2, .int x2), (3, .int x3), (4, .int x4), (6, .int x6)] hnl dX1_isRest_61 rfl rfl ?_
  refine j_iload hC 0 dX1_isRest_63 rfl ?_
  refine j_iload hC 5 dX1_isRest_65 rfl ?_
  refine j_iload hC 6 dX1_isRest_67 rfl ?_
  refine j_ishr hC dX1_isRest_69 ?_
  refine j_iconst (v := 1) hC dX1_isRest_70 (by decide) ?_
  refine j_iand hC dX1_isRest_71 ?_
  refine j_if_eq (tgt := 101) hC dX1_isRest_72 (by decide) (fun h72 => ?_) (fun h72 => ?_)
  · exact j_sub [1, 2, 3, 4, 5, 6] rfl (wX1_isRest_101 hC hG hnl fu kn6 hk6 M x1 x2 x3 x4 x6 y61)
  · refine j_aload_n hC 1 dX1_isRest_75 rfl ?_
    refine j_getR (fk := 7) hC (dmY hG rfl) rfl rfl in_X1 rfl rfl q503 rfl dX1_isRest_76 ?_
    refine j_bipush (v := 6) hC dX1_isRest_79 (by decide) ?_
    refine j_iload_n hC 2 dX1_isRest_81 rfl ?_
    refine j_imul hC dX1_isRest_82 ?_
    refine j_iload hC 6 dX1_isRest_83 rfl ?_
    refine j_iadd hC dX1_isRest_85 ?_
    refine j_iald hC (dmY hG rfl) rfl dX1_isRest_86 (fun h86 => ?_)
    refine j_aload_n hC 1 dX1_isRest_87 rfl ?_
    refine j_getR (fk := 7) hC (dmY hG rfl) rfl rfl in_X1 rfl rfl q503 rfl dX1_isRest_88 ?_
    refine j_bipush (v := 6) hC dX1_isRest_91 (by decide) ?_
    refine j_iload_n hC 2 dX1_isRest_93 rfl ?_
    refine j_imul hC dX1_isRest_94 ?_
    refine j_iload_n hC 3 dX1_isRest_95 rfl ?_
    refine j_iadd hC dX1_isRest_96 ?_
    refine j_iald hC (dmY hG rfl) rfl dX1_isRest_97 (fun h97 => ?_)
    refine j_icmp_gt (tgt := 105) hC dX1_isRest_98 (by decide) (fun h98 => ?_) (fun h98 => ?_)
    · refine j_iconst (v := 0) hC dX1_isRest_105 (by decide) ?_
      exact j_sub [1, 2, 3, 4, 5, 6] rfl (wX1_isRest_106 hC hG hnl fu kn6 hk6 M x1 x2 x3 x4 x6 0 y61)
    · exact j_sub [1, 2, 3, 4, 5, 6] rfl (wX1_isRest_101 hC hG hnl fu kn6 hk6 M x1 x2 x3 x4 x6 y61)
set_option linter.unusedVariables false in
set_option maxRecDepth 100000 in
theorem wX1_isRest_55 {X : JX} (hC : JC X cX1_isRest RX1 (some .boolean) 1 12 0 0) (hG : dmI dmX (XG X)) (hnl : nLof X = 7) (fu : Nat) (kn6 : Mem × Int32 × Int32 × Int32 × Int32 × Int32 × Int32 → Option (Int32 × Mem)) (hk6 : ∀ (M : Mem) (x1 x2 x3 x4 x5 x6 : Int32), J X (ZN X foI) (kn6 (M, x1, x2, x3, x4, x5, x6)) 6 [(0, .ref (gadr (XG X) (4, 0, 0))), (1, .int x1), (2, .int x2), (3, .int x3), (4, .int x4), (5, .int x5), (6, .int x6)] [] M 0 0) (M : Mem) (x1 x2 x3 x4 x6 t0 : Int32) : J X (ZN X foI) (FX1_isRest_55 fu (XD X) kn6 M x1 x2 x3 x4 x6 t0) 55 [(0, .ref (gadr (XG X) (4, 0, 0))), (1, .int x1), (2, .int x2), (3, .int x3), (4, .int x4), (6, .int x6)] [.int t0] M 0 0 := by
  unfold FX1_isRest_55
  refine j_iconst (v := 1) hC dX1_isRest_55 (by decide) ?_
  refine j_goto (tgt := 60) hC dX1_isRest_56 (by decide) ?_
  exact j_sub [0, 1, 2, 3, 4, 5] rfl (wX1_isRest_60 hC hG hnl fu kn6 hk6 M x1 x2 x3 x4 x6 1 t0)
set_option linter.unusedVariables false in
set_option maxRecDepth 100000 in
theorem wgX1_isRest_6 {X : JX} (hC : JC X cX1_isRest RX1 (some .boolean) 1 12 0 0) (hG : dmI dmX (XG X)) (hnl : nLof X = 7) (fu : Nat) (kn6 : Mem × Int32 × Int32 × Int32 × Int32 × Int32 × Int32 → Option (Int32 × Mem)) (hk6 : ∀ (M : Mem) (x1 x2 x3 x4 x5 x6 : Int32), J X (ZN X foI) (kn6 (M, x1, x2, x3, x4, x5, x6)) 6 [(0, .ref (gadr (XG X) (4, 0, 0))), (1, .int x1), (2, .int x2), (3, .int x3), (4, .int x4), (5, .int x5), (6, .int x6)] [] M 0 0) (M : Mem) (x1 x2 x3 x4 x5 x6 : Int32) : J X (ZN X foI) (GX1_isRest_6 fu (XD X) kn6 M x1 x2 x3 x4 x5 x6) 6 [(0, .ref (gadr (XG X) (4, 0, 0))), (1, .int x1), (2, .int x2), (3, .int x3), (4, .int x4), (5, .int x5), (6, .int x6)] [] M 0 0 := by
  unfold GX1_isRest_6
  refine j_iload hC 6 dX1_isRest_6 rfl ?_
  refine j_aload_n hC 0 dX1_isRest_8 rfl ?_
  refine j_getR (fk := 1) hC (dmY hG rfl) rfl rfl in_X1 rfl rfl q496 rfl dX1_isRest_9 ?_
  refine j_getNI (fk := 7) hC (dmS hG (by decide) rfl) rfl rfl in_X3 rfl rfl q273 rfl dX1_isRest_12 ?_
  refine j_icmp_ge (tgt := 115) hC dX1_isRest_15 (by decide) (fun h15 => ?_) (fun h15 => ?_)
  · refine j_iload hC 5 dX1_isRest_115 rfl ?_
    exact j_zret hC rfl dX1_isRest_117
  · refine j_iload hC 5 dX1_isRest_18 rfl ?_
    refine j_iload_n hC 3 dX1_isRest_20 rfl ?_
    refine j_iload hC 6 dX1_isRest_21 rfl ?_
    refine j_ishr hC dX1_isRest_23 ?_
    refine j_iconst (v := 1) hC dX1_isRest_24 (by decide) ?_
    refine j_iand hC dX1_isRest_25 ?_
    refine j_if_eq (tgt := 55) hC dX1_isRest_26 (by decide) (fun h26 => ?_) (fun h26 => ?_)
    · exact j_sub [0, 1, 2, 3, 4, 6] rfl (wX1_isRest_55 hC hG hnl fu kn6 hk6 M x1 x2 x3 x4 x6 x5)
    · refine j_aload_n hC 0 dX1_isRest_29 rfl ?_
      refine j_getR (fk := 6) hC (dmY hG rfl) rfl rfl in_X1 rfl rfl q502 rfl dX1_isRest_30 ?_
      refine j_bipush (v := 6) hC dX1_isRest_33 (by decide) ?_
      refine j_iload hC 6 dX1_isRest_35 rfl ?_
      refine j_imul hC dX1_isRest_37 ?_
      refine j_iload_n hC 2 dX1_isRest_38 rfl ?_
      refine j_iadd hC dX1_isRest_39 ?_
      refine j_iald hC (dmY hG rfl) rfl dX1_isRest_40 (fun h40 => ?_)
      refine j_aload_n hC 0 dX1_isRest_41 rfl ?_
      refine j_getR (fk := 6) hC (dmY hG rfl) rfl rfl in_X1 rfl rfl q502 rfl dX1_isRest_42 ?_
      refine j_bipush (v := 6) hC dX1_isRest_45 (by decide) ?_
      refine j_iload_n hC 1 dX1_isRest_47 rfl ?_
      refine j_imul hC dX1_isRest_48 ?_
      refine j_iload_n hC 2 dX1_isRest_49 rfl ?_
      refine j_iadd hC dX1_isRest_50 ?_
      refine j_iald hC (dmY hG rfl) rfl dX1_isRest_51 (fun h51 => ?_)
      refine j_icmp_gt (tgt := 59) hC dX1_isRest_52 (by decide) (fun h52 => ?_) (fun h52 => ?_)
      · refine j_iconst (v := 0) hC dX1_isRest_59 (by decide) ?_
        exact j_sub [0, 1, 2, 3, 4, 6] rfl (wX1_isRest_60 hC hG hnl fu kn6 hk6 M x1 x2 x3 x4 x6 0 x5)
      · exact j_sub [0, 1, 2, 3, 4, 6] rfl (wX1_isRest_55 hC hG hnl fu kn6 hk6 M x1 x2 x3 x4 x6 x5)
set_option linter.unusedVariables false in
set_option maxRecDepth 100000 in
theorem wX1_isRest_6 {X : JX} (hC : JC X cX1_isRest RX1 (some .boolean) 1 12 0 0) (hG : dmI dmX (XG X)) (hnl : nLof X = 7) (fu : Nat) (M : Mem) (x1 x2 x3 x4 x5 x6 : Int32) : J X (ZN X foI) (FX1_isRest_6 fu (XD X) M x1 x2 x3 x4 x5 x6) 6 [(0, .ref (gadr (XG X) (4, 0, 0))), (1, .int x1), (2, .int x2), (3, .int x3), (4, .int x4), (5, .int x5), (6, .int x6)] [] M 0 0 := by
  exact j_lp (lvf := fun z => [(0, .ref (gadr (XG X) (4, 0, 0))), (1, .int (z.2.1)), (2, .int (z.2.2.1)), (3, .int (z.2.2.2.1)), (4, .int (z.2.2.2.2.1)), (5, .int (z.2.2.2.2.2.1)), (6, .int (z.2.2.2.2.2.2))]) (Mf := fun z => z.1) (fun kn hk z => wgX1_isRest_6 hC hG hnl fu kn (fun M x1 x2 x3 x4 x5 x6 => hk (M, x1, x2, x3, x4, x5, x6)) z.1 z.2.1 z.2.2.1 z.2.2.2.1 z.2.2.2.2.1 z.2.2.2.2.2.1 z.2.2.2.2.2.2) fu (M, x1, x2, x3, x4, x5, x6)
set_option linter.unusedVariables false in
set_option maxRecDepth 100000 in
theorem wX1_isRest {X : JX} (hC : JC X cX1_isRest RX1 (some .boolean) 1 12 0 0) (hG : dmI dmX (XG X)) (hnl : nLof X = 7) (fu : Nat) (M : Mem) (x1 x2 x3 x4 : Int32) : J X (ZN X foI) (FX1_isRest fu (XD X) M x1 x2 x3 x4) 0 [(0, .ref (gadr (XG X) (4, 0, 0))), (1, .int x1), (2, .int x2), (3, .int x3), (4, .int x4)] [] M 0 0 := by
  unfold FX1_isRest
  refine j_iconst (v := 1) hC dX1_isRest_0 (by decide) ?_
  refine j_istore hC [(5, .int 1), (0, .ref (gadr (XG X) (4, 0, 0))), (1, .int x1), (2, .int x2), (3, .int x3), (4, .int x4)] hnl dX1_isRest_1 rfl rfl ?_
  refine j_iconst (v := 0) hC dX1_isRest_3 (by decide) ?_
  refine j_istore hC [(6, .int 0), (5, .int 1), (0, .ref (gadr (XG X) (4, 0, 0))), (1, .int x1), (2, .int x2), (3, .int x3), (4, .int x4)] hnl dX1_isRest_4 rfl rfl ?_
  exact j_sub [2, 3, 4, 5, 6, 1, 0] rfl (wX1_isRest_6 hC hG hnl fu M x1 x2 x3 x4 1 0)
set_option linter.unusedVariables false in
set_option maxRecDepth 100000 in
theorem mX1_isRest (l : Launch) (Γ : xG) (hG : dmI dmX Γ) (fu : Nat) (D : List LDen) (M : Mem) (x1 x2 x3 x4 : Int32) (r : Int32 × Mem) (hr : FX1_isRest fu D M x1 x2 x3 x4 = some r) : CN l yX1_isRest (ws_ yX1_isRest cX1_isRest 7 (some .boolean)) 1 12 Γ D [.ref (gadr Γ (4, 0, 0)), .int x1, .int x2, .int x3, .int x4] M (foI r.1) r.2 := by
  refine CN.of (own := RX1) (lv0 := lv_args 0 [.ref (gadr Γ (4, 0, 0)), .int x1, .int x2, .int x3, .int x4]) (by decide +kernel) rfl (Nat.le_of_ble_eq_true rfl) rfl (fun X e1 e2 e3 e4 hC => ?_) r hr
  subst e1
  subst e2
  exact wX1_isRest hC hG e4 fu M x1 x2 x3 x4
set_option linter.unusedVariables false in
set_option maxRecDepth 100000 in
theorem wX1_rests_138 {X : JX} (hC : JC X cX1_rests RX1 (some .int) 41 1487 2 12) (hT : JT X) (hG : dmI dmX (XG X)) (hnl : nLof X = 10) (fu : Nat) (M : Mem) (t0 : Int32) : J X (ZT X foI 2 12) (FX1_rests_138 fu (XD X) M t0) 138 [] [.int t0] M 2 12 := by
  unfold FX1_rests_138
  exact j_iretT hC rfl rfl dX1_rests_138
set_option linter.unusedVariables false in
set_option maxRecDepth 100000 in
theorem wX1_rests_121 {X : JX} (hC : JC X cX1_rests RX1 (some .int) 41 1487 2 12) (hT : JT X) (hG : dmI dmX (XG X)) (hnl : nLof X = 10) (fu : Nat) (kn40 : Mem × Int32 × Int32 × Int32 × Int32 × Int32 × Int32 → Option TR) (hk40 : ∀ (M : Mem) (x2 x3 x4 x5 x6 x7 : Int32), J X (ZT X foI 2 12) (kn40 (M, x2, x3, x4, x5, x6, x7)) 40 [(0, .ref (gadr (XG X) (4, 0, 0))), (2, .int x2), (3, .int x3), (4, .int x4), (5, .int x5), (6, .int x6), (7, .int x7)] [] M 2 12) (M : Mem) (x2 x3 x4 x5 x6 x7 : Int32) : J X (ZT X foI 2 12) (FX1_rests_121 fu (XD X) kn40 M x2 x3 x4 x5 x6 x7) 121 [(0, .ref (gadr (XG X) (4, 0, 0))), (2, .int x2), (3, .int x3), (4, .int x4), (5, .int x5), (6, .int x6), (7, .int x7)] [] M 2 12 := by
  unfold FX1_rests_121
  refine j_iincL hC 6 (fun y121 => [(7, .int y121), (0, .ref (gadr (XG X) (4, 0, 0))), (2, .int x2), (3, .int x3), (4, .int x4), (5, .int x5), (6, .int x6)]) hnl dX1_rests_121 rfl (by decide) rfl (fun _ => rfl) (fun y121 => ?_)
  refine j_goto (tgt := 40) hC dX1_rests_124 (by decide) ?_
  exact j_sub [1, 2, 3, 4, 5, 6, 0] rfl (hk40 M x2 x3 x4 x5 x6 y121)
set_option linter.unusedVariables false in
set_option maxRecDepth 100000 in
theorem wX1_rests_119 {X : JX} (hC : JC X cX1_rests RX1 (some .int) 41 1487 2 12) (hT : JT X) (hG : dmI dmX (XG X)) (hnl : nLof X = 10) (fu : Nat) (kn40 : Mem × Int32 × Int32 × Int32 × Int32 × Int32 × Int32 → Option TR) (hk40 : ∀ (M : Mem) (x2 x3 x4 x5 x6 x7 : Int32), J X (ZT X foI 2 12) (kn40 (M, x2, x3, x4, x5, x6, x7)) 40 [(0, .ref (gadr (XG X) (4, 0, 0))), (2, .int x2), (3, .int x3), (4, .int x4), (5, .int x5), (6, .int x6), (7, .int x7)] [] M 2 12) (M : Mem) (x2 x3 x4 x5 x7 t0 : Int32) : J X (ZT X foI 2 12) (FX1_rests_119 fu (XD X) kn40 M x2 x3 x4 x5 x7 t0) 119 [(0, .ref (gadr (XG X) (4, 0, 0))), (2, .int x2), (3, .int x3), (4, .int x4), (5, .int x5), (7, .int x7)] [.int t0] M 2 12 := by
  unfold FX1_rests_119
  refine j_istore hC [(6, .int t0), (0, .ref (gadr (XG X) (4, 0, 0))), (2, .int x2), (3, .int x3), (4, .int x4), (5, .int x5), (7, .int x7)] hnl dX1_rests_119 rfl rfl ?_
  exact j_sub [1, 2, 3, 4, 5, 0, 6] rfl (wX1_rests_121 hC hT hG hnl fu kn40 hk40 M x2 x3 x4 x5 t0 x7)
set_option linter.unusedVariables false in
set_option maxRecDepth 100000 in
theorem wgX1_rests_40 {X : JX} (hC : JC X cX1_rests RX1 (some .int) 41 1487 2 12) (hT : JT X) (hG : dmI dmX (XG X)) (hnl : nLof X = 10) (fu : Nat) (kn40 : Mem × Int32 × Int32 × Int32 × Int32 × Int32 × Int32 → Option TR) (hk40 : ∀ (M : Mem) (x2 x3 x4 x5 x6 x7 : Int32), J X (ZT X foI 2 12) (kn40 (M, x2, x3, x4, x5, x6, x7)) 40 [(0, .ref (gadr (XG X) (4, 0, 0))), (2, .int x2), (3, .int x3), (4, .int x4), (5, .int x5), (6, .int x6), (7, .int x7)] [] M 2 12) (M : Mem) (x2 x3 x4 x5 x6 x7 : Int32) : J X (ZT X foI 2 12) (GX1_rests_40 fu (XD X) kn40 M x2 x3 x4 x5 x6 x7) 40 [(0, .ref (gadr (XG X) (4, 0, 0))), (2, .int x2), (3, .int x3), (4, .int x4), (5, .int x5), (6, .int x6), (7, .int x7)] [] M 2 12 := by
  unfold GX1_rests_40
  refine j_iload hC 6 dX1_rests_40 rfl ?_
  refine j_bipush (v := 36) hC dX1_rests_42 (by decide) ?_
  refine j_icmp_ge (tgt := 127) hC dX1_rests_44 (by decide) (fun h44 => ?_) (fun h44 => ?_)
  · refine j_iload_n hC 1 dX1_rests_127 rfl ?_
    refine j_if_eq (tgt := 136) hC dX1_rests_128 (by decide) (fun h128 => ?_) (fun h128 => ?_)
    · refine j_iload hC 4 dX1_rests_136 rfl ?_
      exact j_sub [] rfl (wX1_rests_138 hC hT hG hnl fu M x5)
    · refine j_iload hC 5 dX1_rests_131 rfl ?_
      refine j_goto (tgt := 138) hC dX1_rests_133 (by decide) ?_
      exact j_sub [] rfl (wX1_rests_138 hC hT hG hnl fu M x6)
  · refine j_iload hC 6 dX1_rests_47 rfl ?_
    refine j_bipush (v := 6) hC dX1_rests_49 (by decide) ?_
    refine j_idivL hC dX1_rests_51 (by decide) ?_
    refine j_ltT (fun y52 => ?_)
    refine j_istore hC [(8, .int y52), (0, .ref (gadr (XG X) (4, 0, 0))), (2, .int x2), (3, .int x3), (4, .int x4), (5, .int x5), (6, .int x6), (7, .int x7)] hnl dX1_rests_52 rfl rfl ?_
    refine j_iload hC 7 dX1_rests_54 rfl ?_
    refine j_bipush (v := 6) hC dX1_rests_56 (by decide) ?_
    refine j_iremL hC dX1_rests_58 (by decide) ?_
    refine j_ltT (fun y59 => ?_)
    refine j_istore hC [(9, .int y59), (8, .int y52), (0, .ref (gadr (XG X) (4, 0, 0))), (2, .int x2), (3, .int x3), (4, .int x4), (5, .int x5), (6, .int x6), (7, .int x7)] hnl dX1_rests_59 rfl rfl ?_
    refine j_iload_n hC 4 dX1_rests_61 rfl ?_
    refine j_iload hC 1 dX1_rests_62 rfl ?_
    refine j_ishr hC dX1_rests_64 ?_
    refine j_iconst (v := 1) hC dX1_rests_65 (by decide) ?_
    refine j_iand hC dX1_rests_66 ?_
    refine j_if_eq (tgt := 121) hC dX1_rests_67 (by decide) (fun h67 => ?_) (fun h67 => ?_)
    · exact j_sub [2, 3, 4, 5, 6, 7, 8] rfl (wX1_rests_121 hC hT hG hnl fu kn40 hk40 M x2 x3 x4 x5 x6 x7)
    · refine j_iload hC 5 dX1_rests_70 rfl ?_
      refine j_iload hC 0 dX1_rests_72 rfl ?_
      refine j_ishr hC dX1_rests_74 ?_
      refine j_iconst (v := 1) hC dX1_rests_75 (by decide) ?_
      refine j_iand hC dX1_rests_76 ?_
      refine j_if_eq (tgt := 121) hC dX1_rests_77 (by decide) (fun h77 => ?_) (fun h77 => ?_)
      · exact j_sub [2, 3, 4, 5, 6, 7, 8] rfl (wX1_rests_121 hC hT hG hnl fu kn40 hk40 M x2 x3 x4 x5 x6 x7)
      · refine j_aload_n hC 2 dX1_rests_80 rfl ?_
        refine j_iload hC 1 dX1_rests_81 rfl ?_
        refine j_iload hC 0 dX1_rests_83 rfl ?_
        refine j_iload_n hC 4 dX1_rests_85 rfl ?_
        refine j_iload hC 5 dX1_rests_86 rfl ?_
        refine j_callV (nA := 4) (rest := []) hC [.int y52, .int y59, .int x3, .int x4] rfl (fun r hr => mX1_isRest (XL X) (XG X) hG fu (XD X) M y52 y59 x3 x4 r hr) q1348 q1350 qs41 q126 q1351 (dmY hG rfl) rfl rfl (by decide +kernel) rfl rfl rfl rfl rfl rfl dX1_rests_88 (fun v88 => [.int v88]) (fun _ => rfl) (fun v88 M88 => ?_)
        refine j_if_ne (tgt := 97) hC dX1_rests_91 (by decide) (fun h91 => ?_) (fun h91 => ?_)
        · refine j_goto (tgt := 121) hC dX1_rests_94 (by decide) ?_
          exact j_sub [2, 3, 4, 5, 6, 7, 8] rfl (wX1_rests_121 hC hT hG hnl fu kn40 hk40 M88 x2 x3 x4 x5 x6 x7)
        · refine j_iincL hC 6 (fun y97 => [(5, .int y97), (9, .int y59), (8, .int y52), (0, .ref (gadr (XG X) (4, 0, 0))), (2, .int x2), (3, .int x3), (4, .int x4), (6, .int x6), (7, .int x7)]) hnl dX1_rests_97 rfl (by decide) rfl (fun _ => rfl) (fun y97 => ?_)
          refine j_iload hC 7 dX1_rests_100 rfl ?_
          refine j_iconst (v := (-1)) hC dX1_rests_102 (by decide) ?_
          refine j_icmp_ne (tgt := 117) hC dX1_rests_103 (by decide) (fun h103 => ?_) (fun h103 => ?_)
          · refine j_bipush (v := 10) hC dX1_rests_106 (by decide) ?_
            refine j_iload hC 2 dX1_rests_108 rfl ?_
            refine j_imul hC dX1_rests_110 ?_
            refine j_iload hC 1 dX1_rests_111 rfl ?_
            refine j_iadd hC dX1_rests_113 ?_
            refine j_goto (tgt := 119) hC dX1_rests_114 (by decide) ?_
            exact j_sub [3, 4, 5, 6, 0, 8] rfl (wX1_rests_119 hC hT hG hnl fu kn40 hk40 M88 x2 x3 x4 y97 x7 ((10 * y52) + y59))
          · refine j_iload hC 7 dX1_rests_117 rfl ?_
            exact j_sub [3, 4, 5, 6, 0, 8] rfl (wX1_rests_119 hC hT hG hnl fu kn40 hk40 M88 x2 x3 x4 y97 x7 x6)
set_option linter.unusedVariables false in
set_option maxRecDepth 100000 in
theorem wX1_rests_40 {X : JX} (hC : JC X cX1_rests RX1 (some .int) 41 1487 2 12) (hT : JT X) (hG : dmI dmX (XG X)) (hnl : nLof X = 10) (fu : Nat) (M : Mem) (x2 x3 x4 x5 x6 x7 : Int32) : J X (ZT X foI 2 12) (FX1_rests_40 fu (XD X) M x2 x3 x4 x5 x6 x7) 40 [(0, .ref (gadr (XG X) (4, 0, 0))), (2, .int x2), (3, .int x3), (4, .int x4), (5, .int x5), (6, .int x6), (7, .int x7)] [] M 2 12 := by
  exact j_lp (lvf := fun z => [(0, .ref (gadr (XG X) (4, 0, 0))), (2, .int (z.2.1)), (3, .int (z.2.2.1)), (4, .int (z.2.2.2.1)), (5, .int (z.2.2.2.2.1)), (6, .int (z.2.2.2.2.2.1)), (7, .int (z.2.2.2.2.2.2))]) (Mf := fun z => z.1) (fun kn hk z => wgX1_rests_40 hC hT hG hnl fu kn (fun M x2 x3 x4 x5 x6 x7 => hk (M, x2, x3, x4, x5, x6, x7)) z.1 z.2.1 z.2.2.1 z.2.2.2.1 z.2.2.2.2.1 z.2.2.2.2.2.1 z.2.2.2.2.2.2) fu (M, x2, x3, x4, x5, x6, x7)
set_option linter.unusedVariables false in
set_option maxRecDepth 100000 in
theorem wX1_rests {X : JX} (hC : JC X cX1_rests RX1 (some .int) 41 1487 2 12) (hT : JT X) (hG : dmI dmX (XG X)) (hnl : nLof X = 10) (fu : Nat) (M : Mem) (x1 x2 : Int32) : J X (ZT X foI 2 12) (FX1_rests fu (XD X) M x1 x2) 0 [(0, .ref (gadr (XG X) (4, 0, 0))), (1, .int x1), (2, .int x2)] [] M 0 0 := by
  unfold FX1_rests
  refine j_aload_n hC 0 dX1_rests_0 rfl ?_
  refine j_iload_n hC 1 dX1_rests_1 rfl ?_
  refine j_callVT (nA := 1) (rest := []) hC hT [.int x1] rfl (fun r hr => mX1_isOpen (XL X) (JT.st hT) (XG X) hG fu (XD X) M x1 r hr) q1326 q1328 qs38 q126 q1329 (dmY hG rfl) rfl rfl (by decide +kernel) rfl rfl rfl rfl rfl rfl dX1_rests_2 (fun _ => []) (fun _ => rfl) (fun v2 M2 => ?_)
  refine j_aload_n hC 0 dX1_rests_5 rfl ?_
  refine j_iload_n hC 1 dX1_rests_6 rfl ?_
  refine j_callV (nA := 1) (rest := []) hC [.int x1] rfl (fun r hr => mX1_compares (XL X) (XG X) hG fu (XD X) M2 x1 r hr) q1330 q1332 qs39 q126 q1333 (dmY hG rfl) rfl rfl (by decide +kernel) rfl rfl rfl rfl rfl rfl dX1_rests_7 (fun _ => []) (fun _ => rfl) (fun v7 M7 => ?_)
  refine j_aload_n hC 0 dX1_rests_10 rfl ?_
  refine j_getR (fk := 1) hC (dmY hG rfl) rfl rfl in_X1 rfl rfl q496 rfl dX1_rests_11 ?_
  refine j_iload_n hC 1 dX1_rests_14 rfl ?_
  refine j_iconst (v := 0) hC dX1_rests_15 (by decide) ?_
  refine j_callV (nA := 2) (rest := []) hC [.int x1, .int 0] rfl (fun r hr => mX3_choices (XL X) (XG X) hG fu (XD X) 0 (by decide) M7 x1 0 r hr) q1148 q1149 q1150 q128 q1151 (dmS hG (by decide) rfl) rfl rfl (by decide +kernel) rfl rfl rfl rfl rfl rfl dX1_rests_16 (fun v16 => [.int v16]) (fun _ => rfl) (fun v16 M16 => ?_)
  refine j_istore_n hC [(3, .int v16), (0, .ref (gadr (XG X) (4, 0, 0))), (1, .int x1), (2, .int x2)] hnl dX1_rests_19 rfl rfl ?_
  refine j_aload_n hC 1 dX1_rests_20 rfl ?_
  refine j_getR (fk := 1) hC (dmY hG rfl) rfl rfl in_X1 rfl rfl q496 rfl dX1_rests_21 ?_
  refine j_iload_n hC 2 dX1_rests_24 rfl ?_
  refine j_iconst (v := 1) hC dX1_rests_25 (by decide) ?_
  refine j_callV (nA := 2) (rest := []) hC [.int x1, .int 1] rfl (fun r hr => mX3_choices (XL X) (XG X) hG fu (XD X) 0 (by decide) M16 x1 1 r hr) q1148 q1149 q1150 q128 q1151 (dmS hG (by decide) rfl) rfl rfl (by decide +kernel) rfl rfl rfl rfl rfl rfl dX1_rests_26 (fun v26 => [.int v26]) (fun _ => rfl) (fun v26 M26 => ?_)
  refine j_istore hC [(4, .int v26), (3, .int v16), (0, .ref (gadr (XG X) (4, 0, 0))), (1, .int x1), (2, .int x2)] hnl dX1_rests_29 rfl rfl ?_
  refine j_iconst (v := 0) hC dX1_rests_31 (by decide) ?_
  refine j_istore hC [(5, .int 0), (4, .int v26), (3, .int v16), (0, .ref (gadr (XG X) (4, 0, 0))), (1, .int x1), (2, .int x2)] hnl dX1_rests_32 rfl rfl ?_
  refine j_iconst (v := (-1)) hC dX1_rests_34 (by decide) ?_
  refine j_istore hC [(6, .int ((-1))), (5, .int 0), (4, .int v26), (3, .int v16), (0, .ref (gadr (XG X) (4, 0, 0))), (1, .int x1), (2, .int x2)] hnl dX1_rests_35 rfl rfl ?_
  refine j_iconst (v := 0) hC dX1_rests_37 (by decide) ?_
  refine j_istore hC [(7, .int 0), (6, .int ((-1))), (5, .int 0), (4, .int v26), (3, .int v16), (0, .ref (gadr (XG X) (4, 0, 0))), (1, .int x1), (2, .int x2)] hnl dX1_rests_38 rfl rfl ?_
  exact j_sub [5, 7, 4, 3, 2, 1, 0] rfl (wX1_rests_40 hC hT hG hnl fu M26 x2 v16 v26 0 (-1) 0)
set_option linter.unusedVariables false in
set_option maxRecDepth 100000 in
theorem mX1_rests (l : Launch) (hst : l.stackTraces = false) (Γ : xG) (hG : dmI dmX Γ) (fu : Nat) (D : List LDen) (M : Mem) (x1 x2 : Int32) (r : TR) (hr : FX1_rests fu D M x1 x2 = some r) : CT l yX1_rests (ws_ yX1_rests cX1_rests 10 (some .int)) 41 1487 2 12 Γ D [.ref (gadr Γ (4, 0, 0)), .int x1, .int x2] M foI r := by
  refine CT.of hst (own := RX1) (lv0 := lv_args 0 [.ref (gadr Γ (4, 0, 0)), .int x1, .int x2]) (by decide +kernel) rfl (Nat.le_of_ble_eq_true rfl) rfl (fun X e1 e2 e3 e4 hC hT => ?_) r hr
  subst e1
  subst e2
  exact wX1_rests hC hT hG e4 fu M x1 x2
set_option linter.unusedVariables false in
set_option maxRecDepth 100000 in
theorem wX1_fair_125 {X : JX} (hC : JC X cX1_fair RX1 (some .int) 41 1487 2 12) (hT : JT X) (hG : dmI dmX (XG X)) (hnl : nLof X = 8) (fu : Nat) (kn41 : Mem × Int32 × Int32 × Int32 × Int32 × Int32 → Option TR) (hk41 : ∀ (M : Mem) (x2 x3 x4 x5 x6 : Int32), J X (ZT X foI 2 12) (kn41 (M, x2, x3, x4, x5, x6)) 41 [(0, .ref (gadr (XG X) (4, 0, 0))), (2, .int x2), (3, .int x3), (4, .int x4), (5, .int x5), (6, .int x6)] [] M 2 12) (M : Mem) (x2 x3 x4 x5 x6 : Int32) : J X (ZT X foI 2 12) (FX1_fair_125 fu (XD X) kn41 M x2 x3 x4 x5 x6) 125 [(0, .ref (gadr (XG X) (4, 0, 0))), (2, .int x2), (3, .int x3), (4, .int x4), (5, .int x5), (6, .int x6)] [] M 2 12 := by
  unfold FX1_fair_125
  refine j_iincL hC 5 (fun y125 => [(6, .int y125), (0, .ref (gadr (XG X) (4, 0, 0))), (2, .int x2), (3, .int x3), (4, .int x4), (5, .int x5)]) hnl dX1_fair_125 rfl (by decide) rfl (fun _ => rfl) (fun y125 => ?_)
  refine j_goto (tgt := 41) hC dX1_fair_128 (by decide) ?_
  exact j_sub [1, 2, 3, 4, 5, 0] rfl (hk41 M x2 x3 x4 x5 y125)
set_option linter.unusedVariables false in
set_option maxRecDepth 100000 in
theorem wgX1_fair_41 {X : JX} (hC : JC X cX1_fair RX1 (some .int) 41 1487 2 12) (hT : JT X) (hG : dmI dmX (XG X)) (hnl : nLof X = 8) (fu : Nat) (kn41 : Mem × Int32 × Int32 × Int32 × Int32 × Int32 → Option TR) (hk41 : ∀ (M : Mem) (x2 x3 x4 x5 x6 : Int32), J X (ZT X foI 2 12) (kn41 (M, x2, x3, x4, x5, x6)) 41 [(0, .ref (gadr (XG X) (4, 0, 0))), (2, .int x2), (3, .int x3), (4, .int x4), (5, .int x5), (6, .int x6)] [] M 2 12) (M : Mem) (x2 x3 x4 x5 x6 : Int32) : J X (ZT X foI 2 12) (GX1_fair_41 fu (XD X) kn41 M x2 x3 x4 x5 x6) 41 [(0, .ref (gadr (XG X) (4, 0, 0))), (2, .int x2), (3, .int x3), (4, .int x4), (5, .int x5), (6, .int x6)] [] M 2 12 := by
  unfold GX1_fair_41
  refine j_iload hC 5 dX1_fair_41 rfl ?_
  refine j_bipush (v := 36) hC dX1_fair_43 (by decide) ?_
  refine j_icmp_ge (tgt := 131) hC dX1_fair_45 (by decide) (fun h45 => ?_) (fun h45 => ?_)
  · refine j_iload hC 4 dX1_fair_131 rfl ?_
    exact j_iretT hC rfl rfl dX1_fair_133
  · refine j_iload_n hC 1 dX1_fair_48 rfl ?_
    refine j_iload hC 5 dX1_fair_49 rfl ?_
    refine j_bipush (v := 6) hC dX1_fair_51 (by decide) ?_
    refine j_idivL hC dX1_fair_53 (by decide) ?_
    refine j_ishr hC dX1_fair_54 ?_
    refine j_iconst (v := 1) hC dX1_fair_55 (by decide) ?_
    refine j_iand hC dX1_fair_56 ?_
    refine j_if_eq (tgt := 125) hC dX1_fair_57 (by decide) (fun h57 => ?_) (fun h57 => ?_)
    · exact j_sub [0, 1, 2, 3, 4, 5] rfl (wX1_fair_125 hC hT hG hnl fu kn41 hk41 M x2 x3 x4 x5 x6)
    · refine j_iload_n hC 2 dX1_fair_60 rfl ?_
      refine j_iload hC 5 dX1_fair_61 rfl ?_
      refine j_bipush (v := 6) hC dX1_fair_63 (by decide) ?_
      refine j_iremL hC dX1_fair_65 (by decide) ?_
      refine j_ishr hC dX1_fair_66 ?_
      refine j_iconst (v := 1) hC dX1_fair_67 (by decide) ?_
      refine j_iand hC dX1_fair_68 ?_
      refine j_if_ne (tgt := 75) hC dX1_fair_69 (by decide) (fun h69 => ?_) (fun h69 => ?_)
      · refine j_goto (tgt := 125) hC dX1_fair_72 (by decide) ?_
        exact j_sub [0, 1, 2, 3, 4, 5] rfl (wX1_fair_125 hC hT hG hnl fu kn41 hk41 M x2 x3 x4 x5 x6)
      · refine j_aload_n hC 0 dX1_fair_75 rfl ?_
        refine j_getR (fk := 6) hC (dmY hG rfl) rfl rfl in_X1 rfl rfl q502 rfl dX1_fair_76 ?_
        refine j_iload hC 5 dX1_fair_79 rfl ?_
        refine j_iald hC (dmY hG rfl) rfl dX1_fair_81 (fun h81 => ?_)
        refine j_aload_n hC 0 dX1_fair_82 rfl ?_
        refine j_getR (fk := 7) hC (dmY hG rfl) rfl rfl in_X1 rfl rfl q503 rfl dX1_fair_83 ?_
        refine j_iload hC 5 dX1_fair_86 rfl ?_
        refine j_iald hC (dmY hG rfl) rfl dX1_fair_88 (fun h88 => ?_)
        refine j_isub hC dX1_fair_89 ?_
        refine j_abs hC q1359 q1360 q155 q1361 dX1_fair_90 rfl (Nat.le_of_ble_eq_true rfl) (Nat.le_of_ble_eq_true rfl) (Nat.le_of_ble_eq_true rfl) ?_
        refine j_ltT (fun y93 => ?_)
        refine j_istore hC [(7, .int y93), (0, .ref (gadr (XG X) (4, 0, 0))), (2, .int x2), (3, .int x3), (4, .int x4), (5, .int x5), (6, .int x6)] hnl dX1_fair_93 rfl rfl ?_
        refine j_iload hC 0 dX1_fair_95 rfl ?_
        refine j_iload hC 4 dX1_fair_97 rfl ?_
        refine j_icmp_lt (tgt := 105) hC dX1_fair_99 (by decide) (fun h99 => ?_) (fun h99 => ?_)
        · refine j_iload hC 0 dX1_fair_105 rfl ?_
          refine j_istore hC [(4, .int y93), (7, .int y93), (0, .ref (gadr (XG X) (4, 0, 0))), (2, .int x2), (3, .int x3), (5, .int x5), (6, .int x6)] hnl dX1_fair_107 rfl rfl ?_
          refine j_bipush (v := 10) hC dX1_fair_109 (by decide) ?_
          refine j_iload hC 6 dX1_fair_111 rfl ?_
          refine j_bipush (v := 6) hC dX1_fair_113 (by decide) ?_
          refine j_idivL hC dX1_fair_115 (by decide) ?_
          refine j_imul hC dX1_fair_116 ?_
          refine j_iload hC 6 dX1_fair_117 rfl ?_
          refine j_bipush (v := 6) hC dX1_fair_119 (by decide) ?_
          refine j_iremL hC dX1_fair_121 (by decide) ?_
          refine j_iadd hC dX1_fair_122 ?_
          refine j_ltT (fun y123 => ?_)
          refine j_istore hC [(5, .int y123), (4, .int y93), (7, .int y93), (0, .ref (gadr (XG X) (4, 0, 0))), (2, .int x2), (3, .int x3), (6, .int x6)] hnl dX1_fair_123 rfl rfl ?_
          exact j_sub [3, 4, 5, 1, 0, 6] rfl (wX1_fair_125 hC hT hG hnl fu kn41 hk41 M x2 x3 y93 y123 x6)
        · refine j_goto (tgt := 125) hC dX1_fair_102 (by decide) ?_
          exact j_sub [1, 2, 3, 4, 5, 6] rfl (wX1_fair_125 hC hT hG hnl fu kn41 hk41 M x2 x3 x4 x5 x6)
set_option linter.unusedVariables false in
set_option maxRecDepth 100000 in
theorem wX1_fair_41 {X : JX} (hC : JC X cX1_fair RX1 (some .int) 41 1487 2 12) (hT : JT X) (hG : dmI dmX (XG X)) (hnl : nLof X = 8) (fu : Nat) (M : Mem) (x2 x3 x4 x5 x6 : Int32) : J X (ZT X foI 2 12) (FX1_fair_41 fu (XD X) M x2 x3 x4 x5 x6) 41 [(0, .ref (gadr (XG X) (4, 0, 0))), (2, .int x2), (3, .int x3), (4, .int x4), (5, .int x5), (6, .int x6)] [] M 2 12 := by
  exact j_lp (lvf := fun z => [(0, .ref (gadr (XG X) (4, 0, 0))), (2, .int (z.2.1)), (3, .int (z.2.2.1)), (4, .int (z.2.2.2.1)), (5, .int (z.2.2.2.2.1)), (6, .int (z.2.2.2.2.2))]) (Mf := fun z => z.1) (fun kn hk z => wgX1_fair_41 hC hT hG hnl fu kn (fun M x2 x3 x4 x5 x6 => hk (M, x2, x3, x4, x5, x6)) z.1 z.2.1 z.2.2.1 z.2.2.2.1 z.2.2.2.2.1 z.2.2.2.2.2) fu (M, x2, x3, x4, x5, x6)
set_option linter.unusedVariables false in
set_option maxRecDepth 100000 in
theorem wX1_fair {X : JX} (hC : JC X cX1_fair RX1 (some .int) 41 1487 2 12) (hT : JT X) (hG : dmI dmX (XG X)) (hnl : nLof X = 8) (fu : Nat) (M : Mem) (x1 : Int32) : J X (ZT X foI 2 12) (FX1_fair fu (XD X) M x1) 0 [(0, .ref (gadr (XG X) (4, 0, 0))), (1, .int x1)] [] M 0 0 := by
  unfold FX1_fair
  refine j_aload_n hC 0 dX1_fair_0 rfl ?_
  refine j_iload_n hC 1 dX1_fair_1 rfl ?_
  refine j_callVT (nA := 1) (rest := []) hC hT [.int x1] rfl (fun r hr => mX1_isOpen (XL X) (JT.st hT) (XG X) hG fu (XD X) M x1 r hr) q1326 q1328 qs38 q126 q1329 (dmY hG rfl) rfl rfl (by decide +kernel) rfl rfl rfl rfl rfl rfl dX1_fair_2 (fun _ => []) (fun _ => rfl) (fun v2 M2 => ?_)
  refine j_aload_n hC 0 dX1_fair_5 rfl ?_
  refine j_iload_n hC 1 dX1_fair_6 rfl ?_
  refine j_callV (nA := 1) (rest := []) hC [.int x1] rfl (fun r hr => mX1_compares (XL X) (XG X) hG fu (XD X) M2 x1 r hr) q1330 q1332 qs39 q126 q1333 (dmY hG rfl) rfl rfl (by decide +kernel) rfl rfl rfl rfl rfl rfl dX1_fair_7 (fun _ => []) (fun _ => rfl) (fun v7 M7 => ?_)
  refine j_aload_n hC 0 dX1_fair_10 rfl ?_
  refine j_getR (fk := 1) hC (dmY hG rfl) rfl rfl in_X1 rfl rfl q496 rfl dX1_fair_11 ?_
  refine j_iload_n hC 1 dX1_fair_14 rfl ?_
  refine j_iconst (v := 0) hC dX1_fair_15 (by decide) ?_
  refine j_callV (nA := 2) (rest := []) hC [.int x1, .int 0] rfl (fun r hr => mX3_choices (XL X) (XG X) hG fu (XD X) 0 (by decide) M7 x1 0 r hr) q1148 q1149 q1150 q128 q1151 (dmS hG (by decide) rfl) rfl rfl (by decide +kernel) rfl rfl rfl rfl rfl rfl dX1_fair_16 (fun v16 => [.int v16]) (fun _ => rfl) (fun v16 M16 => ?_)
  refine j_istore_n hC [(2, .int v16), (0, .ref (gadr (XG X) (4, 0, 0))), (1, .int x1)] hnl dX1_fair_19 rfl rfl ?_
  refine j_aload_n hC 1 dX1_fair_20 rfl ?_
  refine j_getR (fk := 1) hC (dmY hG rfl) rfl rfl in_X1 rfl rfl q496 rfl dX1_fair_21 ?_
  refine j_iload_n hC 2 dX1_fair_24 rfl ?_
  refine j_iconst (v := 1) hC dX1_fair_25 (by decide) ?_
  refine j_callV (nA := 2) (rest := []) hC [.int x1, .int 1] rfl (fun r hr => mX3_choices (XL X) (XG X) hG fu (XD X) 0 (by decide) M16 x1 1 r hr) q1148 q1149 q1150 q128 q1151 (dmS hG (by decide) rfl) rfl rfl (by decide +kernel) rfl rfl rfl rfl rfl rfl dX1_fair_26 (fun v26 => [.int v26]) (fun _ => rfl) (fun v26 M26 => ?_)
  refine j_istore_n hC [(3, .int v26), (2, .int v16), (0, .ref (gadr (XG X) (4, 0, 0))), (1, .int x1)] hnl dX1_fair_29 rfl rfl ?_
  refine j_ldcw (v := 1000000000) hC dX1_fair_30 q1338 ?_
  refine j_istore hC [(4, .int 1000000000), (3, .int v26), (2, .int v16), (0, .ref (gadr (XG X) (4, 0, 0))), (1, .int x1)] hnl dX1_fair_33 rfl rfl ?_
  refine j_iconst (v := (-1)) hC dX1_fair_35 (by decide) ?_
  refine j_istore hC [(5, .int ((-1))), (4, .int 1000000000), (3, .int v26), (2, .int v16), (0, .ref (gadr (XG X) (4, 0, 0))), (1, .int x1)] hnl dX1_fair_36 rfl rfl ?_
  refine j_iconst (v := 0) hC dX1_fair_38 (by decide) ?_
  refine j_istore hC [(6, .int 0), (5, .int ((-1))), (4, .int 1000000000), (3, .int v26), (2, .int v16), (0, .ref (gadr (XG X) (4, 0, 0))), (1, .int x1)] hnl dX1_fair_39 rfl rfl ?_
  exact j_sub [5, 4, 3, 2, 1, 0] rfl (wX1_fair_41 hC hT hG hnl fu M26 v16 v26 1000000000 (-1) 0)
set_option linter.unusedVariables false in
set_option maxRecDepth 100000 in
theorem mX1_fair (l : Launch) (hst : l.stackTraces = false) (Γ : xG) (hG : dmI dmX Γ) (fu : Nat) (D : List LDen) (M : Mem) (x1 : Int32) (r : TR) (hr : FX1_fair fu D M x1 = some r) : CT l yX1_fair (ws_ yX1_fair cX1_fair 8 (some .int)) 41 1487 2 12 Γ D [.ref (gadr Γ (4, 0, 0)), .int x1] M foI r := by
  refine CT.of hst (own := RX1) (lv0 := lv_args 0 [.ref (gadr Γ (4, 0, 0)), .int x1]) (by decide +kernel) rfl (Nat.le_of_ble_eq_true rfl) rfl (fun X e1 e2 e3 e4 hC hT => ?_) r hr
  subst e1
  subst e2
  exact wX1_fair hC hT hG e4 fu M x1
set_option linter.unusedVariables false in
set_option maxRecDepth 100000 in
theorem wX1_sung_41 {X : JX} (hC : JC X cX1_sung RX1 (some .int) 1 12 0 0) (hG : dmI dmX (XG X)) (hnl : nLof X = 4) (fu : Nat) (kn4 : Mem × Int32 × Int32 × Int32 → Option (Int32 × Mem)) (hk4 : ∀ (M : Mem) (x1 x2 x3 : Int32), J X (ZN X foI) (kn4 (M, x1, x2, x3)) 4 [(0, .ref (gadr (XG X) (4, 0, 0))), (1, .int x1), (2, .int x2), (3, .int x3)] [] M 0 0) (M : Mem) (x1 x3 t0 t1 : Int32) : J X (ZN X foI) (FX1_sung_41 fu (XD X) kn4 M x1 x3 t0 t1) 41 [(0, .ref (gadr (XG X) (4, 0, 0))), (1, .int x1), (3, .int x3)] [.int t0, .int t1] M 0 0 := by
  unfold FX1_sung_41
  refine j_ior hC dX1_sung_41 ?_
  refine j_ltT (fun y42 => ?_)
  refine j_istore_n hC [(2, .int y42), (0, .ref (gadr (XG X) (4, 0, 0))), (1, .int x1), (3, .int x3)] hnl dX1_sung_42 rfl rfl ?_
  refine j_iincL hC 3 (fun y43 => [(3, .int y43), (2, .int y42), (0, .ref (gadr (XG X) (4, 0, 0))), (1, .int x1)]) hnl dX1_sung_43 rfl (by decide) rfl (fun _ => rfl) (fun y43 => ?_)
  refine j_goto (tgt := 4) hC dX1_sung_46 (by decide) ?_
  exact j_sub [2, 3, 1, 0] rfl (hk4 M x1 y42 y43)
set_option linter.unusedVariables false in
set_option maxRecDepth 100000 in
theorem wgX1_sung_4 {X : JX} (hC : JC X cX1_sung RX1 (some .int) 1 12 0 0) (hG : dmI dmX (XG X)) (hnl : nLof X = 4) (fu : Nat) (kn4 : Mem × Int32 × Int32 × Int32 → Option (Int32 × Mem)) (hk4 : ∀ (M : Mem) (x1 x2 x3 : Int32), J X (ZN X foI) (kn4 (M, x1, x2, x3)) 4 [(0, .ref (gadr (XG X) (4, 0, 0))), (1, .int x1), (2, .int x2), (3, .int x3)] [] M 0 0) (M : Mem) (x1 x2 x3 : Int32) : J X (ZN X foI) (GX1_sung_4 fu (XD X) kn4 M x1 x2 x3) 4 [(0, .ref (gadr (XG X) (4, 0, 0))), (1, .int x1), (2, .int x2), (3, .int x3)] [] M 0 0 := by
  unfold GX1_sung_4
  refine j_iload_n hC 3 dX1_sung_4 rfl ?_
  refine j_aload_n hC 0 dX1_sung_5 rfl ?_
  refine j_getR (fk := 1) hC (dmY hG rfl) rfl rfl in_X1 rfl rfl q496 rfl dX1_sung_6 ?_
  refine j_getNI (fk := 7) hC (dmS hG (by decide) rfl) rfl rfl in_X3 rfl rfl q273 rfl dX1_sung_9 ?_
  refine j_icmp_ge (tgt := 49) hC dX1_sung_12 (by decide) (fun h12 => ?_) (fun h12 => ?_)
  · refine j_iload_n hC 2 dX1_sung_49 rfl ?_
    exact j_iret hC dX1_sung_50
  · refine j_iload_n hC 2 dX1_sung_15 rfl ?_
    refine j_iload_n hC 1 dX1_sung_16 rfl ?_
    refine j_iload_n hC 3 dX1_sung_17 rfl ?_
    refine j_ishr hC dX1_sung_18 ?_
    refine j_iconst (v := 1) hC dX1_sung_19 (by decide) ?_
    refine j_iand hC dX1_sung_20 ?_
    refine j_iconst (v := 1) hC dX1_sung_21 (by decide) ?_
    refine j_icmp_ne (tgt := 40) hC dX1_sung_22 (by decide) (fun h22 => ?_) (fun h22 => ?_)
    · refine j_aload_n hC 0 dX1_sung_25 rfl ?_
      refine j_getR (fk := 1) hC (dmY hG rfl) rfl rfl in_X1 rfl rfl q496 rfl dX1_sung_26 ?_
      refine j_getNR (fk := 0) hC (dmS hG (by decide) rfl) rfl rfl in_X3 rfl rfl q257 rfl dX1_sung_29 ?_
      refine j_iload_n hC 3 dX1_sung_32 rfl ?_
      refine j_aald3 (d := (1, 0, x3.toNatClampNeg)) hC (dmS hG (by decide) rfl) rfl rfl dX1_sung_33 (fun h33 => ?_)
      refine j_getNI (fk := 2) hC (dmB hG (by decide) (vin_lt h33)) rfl rfl in_X4 rfl rfl q211 rfl dX1_sung_34 ?_
      refine j_goto (tgt := 41) hC dX1_sung_37 (by decide) ?_
      exact j_sub [0, 1, 3] rfl (wX1_sung_41 hC hG hnl fu kn4 hk4 M x1 x3 (M (1, 0, x3.toNatClampNeg) 2) x2)
    · refine j_iconst (v := 0) hC dX1_sung_40 (by decide) ?_
      exact j_sub [0, 1, 3] rfl (wX1_sung_41 hC hG hnl fu kn4 hk4 M x1 x3 0 x2)
set_option linter.unusedVariables false in
set_option maxRecDepth 100000 in
theorem wX1_sung_4 {X : JX} (hC : JC X cX1_sung RX1 (some .int) 1 12 0 0) (hG : dmI dmX (XG X)) (hnl : nLof X = 4) (fu : Nat) (M : Mem) (x1 x2 x3 : Int32) : J X (ZN X foI) (FX1_sung_4 fu (XD X) M x1 x2 x3) 4 [(0, .ref (gadr (XG X) (4, 0, 0))), (1, .int x1), (2, .int x2), (3, .int x3)] [] M 0 0 := by
  exact j_lp (lvf := fun z => [(0, .ref (gadr (XG X) (4, 0, 0))), (1, .int (z.2.1)), (2, .int (z.2.2.1)), (3, .int (z.2.2.2))]) (Mf := fun z => z.1) (fun kn hk z => wgX1_sung_4 hC hG hnl fu kn (fun M x1 x2 x3 => hk (M, x1, x2, x3)) z.1 z.2.1 z.2.2.1 z.2.2.2) fu (M, x1, x2, x3)
set_option linter.unusedVariables false in
set_option maxRecDepth 100000 in
theorem wX1_sung {X : JX} (hC : JC X cX1_sung RX1 (some .int) 1 12 0 0) (hG : dmI dmX (XG X)) (hnl : nLof X = 4) (fu : Nat) (M : Mem) (x1 : Int32) : J X (ZN X foI) (FX1_sung fu (XD X) M x1) 0 [(0, .ref (gadr (XG X) (4, 0, 0))), (1, .int x1)] [] M 0 0 := by
  unfold FX1_sung
  refine j_iconst (v := 0) hC dX1_sung_0 (by decide) ?_
  refine j_istore_n hC [(2, .int 0), (0, .ref (gadr (XG X) (4, 0, 0))), (1, .int x1)] hnl dX1_sung_1 rfl rfl ?_
  refine j_iconst (v := 0) hC dX1_sung_2 (by decide) ?_
  refine j_istore_n hC [(3, .int 0), (2, .int 0), (0, .ref (gadr (XG X) (4, 0, 0))), (1, .int x1)] hnl dX1_sung_3 rfl rfl ?_
  exact j_sub [2, 3, 1, 0] rfl (wX1_sung_4 hC hG hnl fu M x1 0 0)
set_option linter.unusedVariables false in
set_option maxRecDepth 100000 in
theorem mX1_sung (l : Launch) (Γ : xG) (hG : dmI dmX Γ) (fu : Nat) (D : List LDen) (M : Mem) (x1 : Int32) (r : Int32 × Mem) (hr : FX1_sung fu D M x1 = some r) : CN l yX1_sung (ws_ yX1_sung cX1_sung 4 (some .int)) 1 12 Γ D [.ref (gadr Γ (4, 0, 0)), .int x1] M (foI r.1) r.2 := by
  refine CN.of (own := RX1) (lv0 := lv_args 0 [.ref (gadr Γ (4, 0, 0)), .int x1]) (by decide +kernel) rfl (Nat.le_of_ble_eq_true rfl) rfl (fun X e1 e2 e3 e4 hC => ?_) r hr
  subst e1
  subst e2
  exact wX1_sung hC hG e4 fu M x1
set_option linter.unusedVariables false in
set_option maxRecDepth 100000 in
theorem wX1_told_192 {X : JX} (hC : JC X cX1_told RX1 (some .int) 7 113 1 6) (hT : JT X) (hG : dmI dmX (XG X)) (hnl : nLof X = 6) (fu : Nat) (kn83 : Mem × Int32 × Int32 × Int32 → Option TR) (hk83 : ∀ (M : Mem) (x1 x3 x4 : Int32), J X (ZT X foI 1 6) (kn83 (M, x1, x3, x4)) 83 [(0, .ref (gadr (XG X) (4, 0, 0))), (1, .int x1), (3, .int x3), (4, .int x4)] [] M 1 6) (M : Mem) (x1 x4 t0 t1 : Int32) : J X (ZT X foI 1 6) (FX1_told_192 fu (XD X) kn83 M x1 x4 t0 t1) 192 [(0, .ref (gadr (XG X) (4, 0, 0))), (1, .int x1), (4, .int x4)] [.int t0, .int t1] M 1 6 := by
  unfold FX1_told_192
  refine j_iadd hC dX1_told_192 ?_
  refine j_ltT (fun y193 => ?_)
  refine j_istore_n hC [(3, .int y193), (0, .ref (gadr (XG X) (4, 0, 0))), (1, .int x1), (4, .int x4)] hnl dX1_told_193 rfl rfl ?_
  refine j_iincL hC 3 (fun y194 => [(4, .int y194), (3, .int y193), (0, .ref (gadr (XG X) (4, 0, 0))), (1, .int x1)]) hnl dX1_told_194 rfl (by decide) rfl (fun _ => rfl) (fun y194 => ?_)
  refine j_goto (tgt := 83) hC dX1_told_197 (by decide) ?_
  exact j_sub [2, 3, 1, 0] rfl (hk83 M x1 y193 y194)
set_option linter.unusedVariables false in
set_option maxRecDepth 100000 in
theorem wX1_told_176 {X : JX} (hC : JC X cX1_told RX1 (some .int) 7 113 1 6) (hT : JT X) (hG : dmI dmX (XG X)) (hnl : nLof X = 6) (fu : Nat) (kn83 : Mem × Int32 × Int32 × Int32 → Option TR) (hk83 : ∀ (M : Mem) (x1 x3 x4 : Int32), J X (ZT X foI 1 6) (kn83 (M, x1, x3, x4)) 83 [(0, .ref (gadr (XG X) (4, 0, 0))), (1, .int x1), (3, .int x3), (4, .int x4)] [] M 1 6) (M : Mem) (x1 x3 x4 : Int32) : J X (ZT X foI 1 6) (FX1_told_176 fu (XD X) kn83 M x1 x3 x4) 176 [(0, .ref (gadr (XG X) (4, 0, 0))), (1, .int x1), (3, .int x3), (4, .int x4)] [] M 1 6 := by
  unfold FX1_told_176
  refine j_iload_n hC 2 dX1_told_176 rfl ?_
  refine j_aload_n hC 0 dX1_told_177 rfl ?_
  refine j_getR (fk := 11) hC (dmY hG rfl) rfl rfl in_X1 rfl rfl q507 rfl dX1_told_178 ?_
  refine j_iload hC 3 dX1_told_181 rfl ?_
  refine j_zald hC (dmY hG rfl) rfl dX1_told_183 (fun h183 => ?_)
  refine j_if_eq (tgt := 191) hC dX1_told_184 (by decide) (fun h184 => ?_) (fun h184 => ?_)
  · refine j_iconst (v := 0) hC dX1_told_191 (by decide) ?_
    exact j_sub [0, 1, 3] rfl (wX1_told_192 hC hT hG hnl fu kn83 hk83 M x1 x4 0 x3)
  · refine j_iconst (v := 1) hC dX1_told_187 (by decide) ?_
    refine j_goto (tgt := 192) hC dX1_told_188 (by decide) ?_
    exact j_sub [0, 1, 3] rfl (wX1_told_192 hC hT hG hnl fu kn83 hk83 M x1 x4 1 x3)
set_option linter.unusedVariables false in
set_option maxRecDepth 100000 in
theorem wX1_told_169 {X : JX} (hC : JC X cX1_told RX1 (some .int) 7 113 1 6) (hT : JT X) (hG : dmI dmX (XG X)) (hnl : nLof X = 6) (fu : Nat) (kn108 : Mem × Int32 × Int32 × Int32 × Int32 → Option TR) (hk108 : ∀ (M : Mem) (x1 x3 x4 x5 : Int32), J X (ZT X foI 1 6) (kn108 (M, x1, x3, x4, x5)) 108 [(0, .ref (gadr (XG X) (4, 0, 0))), (1, .int x1), (3, .int x3), (4, .int x4), (5, .int x5)] [] M 1 6) (M : Mem) (x1 x3 x4 x5 t0 t1 : Int32) : J X (ZT X foI 1 6) (FX1_told_169 fu (XD X) kn108 M x1 x3 x4 x5 t0 t1) 169 [(0, .ref (gadr (XG X) (4, 0, 0))), (1, .int x1), (3, .int x3), (4, .int x4), (5, .int x5)] [.int t0, .int t1, .ref (gadr (XG X) (4, 0, 7))] M 1 6 := by
  unfold FX1_told_169
  refine j_zast hC (dmY hG rfl) rfl dX1_told_169 (fun h169 => ?_)
  refine j_lt (fun M169 => ?_)
  refine j_iincL hC 4 (fun y170 => [(5, .int y170), (0, .ref (gadr (XG X) (4, 0, 0))), (1, .int x1), (3, .int x3), (4, .int x4)]) hnl dX1_told_170 rfl (by decide) rfl (fun _ => rfl) (fun y170 => ?_)
  refine j_goto (tgt := 108) hC dX1_told_173 (by decide) ?_
  exact j_sub [1, 2, 3, 4, 0] rfl (hk108 M169 x1 x3 x4 y170)
set_option linter.unusedVariables false in
set_option maxRecDepth 100000 in
theorem wgX1_told_108 {X : JX} (hC : JC X cX1_told RX1 (some .int) 7 113 1 6) (hT : JT X) (hG : dmI dmX (XG X)) (hnl : nLof X = 6) (fu : Nat) (kn108 : Mem × Int32 × Int32 × Int32 × Int32 → Option TR) (hk108 : ∀ (M : Mem) (x1 x3 x4 x5 : Int32), J X (ZT X foI 1 6) (kn108 (M, x1, x3, x4, x5)) 108 [(0, .ref (gadr (XG X) (4, 0, 0))), (1, .int x1), (3, .int x3), (4, .int x4), (5, .int x5)] [] M 1 6) (kn83 : Mem × Int32 × Int32 × Int32 → Option TR) (hk83 : ∀ (M : Mem) (x1 x3 x4 : Int32), J X (ZT X foI 1 6) (kn83 (M, x1, x3, x4)) 83 [(0, .ref (gadr (XG X) (4, 0, 0))), (1, .int x1), (3, .int x3), (4, .int x4)] [] M 1 6) (M : Mem) (x1 x3 x4 x5 : Int32) : J X (ZT X foI 1 6) (GX1_told_108 fu (XD X) kn108 kn83 M x1 x3 x4 x5) 108 [(0, .ref (gadr (XG X) (4, 0, 0))), (1, .int x1), (3, .int x3), (4, .int x4), (5, .int x5)] [] M 1 6 := by
  unfold GX1_told_108
  refine j_iload hC 4 dX1_told_108 rfl ?_
  refine j_iload_n hC 1 dX1_told_110 rfl ?_
  refine j_icmp_ge (tgt := 176) hC dX1_told_111 (by decide) (fun h111 => ?_) (fun h111 => ?_)
  · exact j_sub [0, 1, 2, 3] rfl (wX1_told_176 hC hT hG hnl fu kn83 hk83 M x1 x3 x4)
  · refine j_aload_n hC 0 dX1_told_114 rfl ?_
    refine j_getR (fk := 11) hC (dmY hG rfl) rfl rfl in_X1 rfl rfl q507 rfl dX1_told_115 ?_
    refine j_iload hC 3 dX1_told_118 rfl ?_
    refine j_zald hC (dmY hG rfl) rfl dX1_told_120 (fun h120 => ?_)
    refine j_if_eq (tgt := 176) hC dX1_told_121 (by decide) (fun h121 => ?_) (fun h121 => ?_)
    · exact j_sub [0, 1, 2, 3] rfl (wX1_told_176 hC hT hG hnl fu kn83 hk83 M x1 x3 x4)
    · refine j_aload_n hC 0 dX1_told_124 rfl ?_
      refine j_getR (fk := 11) hC (dmY hG rfl) rfl rfl in_X1 rfl rfl q507 rfl dX1_told_125 ?_
      refine j_iload hC 3 dX1_told_128 rfl ?_
      refine j_aload_n hC 0 dX1_told_130 rfl ?_
      refine j_iload hC 3 dX1_told_131 rfl ?_
      refine j_callV (nA := 1) (rest := [.int x4, .ref (gadr (XG X) (4, 0, 7))]) hC [.int x4] rfl (fun r hr => mX1_sung (XL X) (XG X) hG fu (XD X) M x4 r hr) q1373 q1375 qs43 q126 q1376 (dmY hG rfl) rfl rfl (by decide +kernel) rfl rfl rfl rfl rfl rfl dX1_told_133 (fun v133 => [.int v133, .int x4, .ref (gadr (XG X) (4, 0, 7))]) (fun _ => rfl) (fun v133 M133 => ?_)
      refine j_aload_n hC 0 dX1_told_136 rfl ?_
      refine j_getR (fk := 0) hC (dmY hG rfl) rfl rfl in_X1 rfl rfl q495 rfl dX1_told_137 ?_
      refine j_getNR (fk := 0) hC (dmY hG rfl) rfl rfl in_X2 rfl rfl q424 rfl dX1_told_140 ?_
      refine j_iload hC 4 dX1_told_143 rfl ?_
      refine j_bald hC (dmY hG rfl) rfl dX1_told_145 (fun h145 => ?_)
      refine j_ishr hC dX1_told_146 ?_
      refine j_iconst (v := 1) hC dX1_told_147 (by decide) ?_
      refine j_iand hC dX1_told_148 ?_
      refine j_aload_n hC 0 dX1_told_149 rfl ?_
      refine j_getR (fk := 0) hC (dmY hG rfl) rfl rfl in_X1 rfl rfl q495 rfl dX1_told_150 ?_
      refine j_getNR (fk := 0) hC (dmY hG rfl) rfl rfl in_X2 rfl rfl q424 rfl dX1_told_153 ?_
      refine j_iload hC 4 dX1_told_156 rfl ?_
      refine j_iconst (v := 1) hC dX1_told_158 (by decide) ?_
      refine j_iadd hC dX1_told_159 ?_
      refine j_bald hC (dmY hG rfl) rfl dX1_told_160 (fun h160 => ?_)
      refine j_icmp_ne (tgt := 168) hC dX1_told_161 (by decide) (fun h161 => ?_) (fun h161 => ?_)
      · refine j_iconst (v := 1) hC dX1_told_164 (by decide) ?_
        refine j_goto (tgt := 169) hC dX1_told_165 (by decide) ?_
        exact j_sub [0, 1, 2, 3, 4] rfl (wX1_told_169 hC hT hG hnl fu kn108 hk108 M133 x1 x3 x4 x5 1 x4)
      · refine j_iconst (v := 0) hC dX1_told_168 (by decide) ?_
        exact j_sub [0, 1, 2, 3, 4] rfl (wX1_told_169 hC hT hG hnl fu kn108 hk108 M133 x1 x3 x4 x5 0 x4)
set_option linter.unusedVariables false in
set_option maxRecDepth 100000 in
theorem wX1_told_108 {X : JX} (hC : JC X cX1_told RX1 (some .int) 7 113 1 6) (hT : JT X) (hG : dmI dmX (XG X)) (hnl : nLof X = 6) (fu : Nat) (kn83 : Mem × Int32 × Int32 × Int32 → Option TR) (hk83 : ∀ (M : Mem) (x1 x3 x4 : Int32), J X (ZT X foI 1 6) (kn83 (M, x1, x3, x4)) 83 [(0, .ref (gadr (XG X) (4, 0, 0))), (1, .int x1), (3, .int x3), (4, .int x4)] [] M 1 6) (M : Mem) (x1 x3 x4 x5 : Int32) : J X (ZT X foI 1 6) (FX1_told_108 fu (XD X) kn83 M x1 x3 x4 x5) 108 [(0, .ref (gadr (XG X) (4, 0, 0))), (1, .int x1), (3, .int x3), (4, .int x4), (5, .int x5)] [] M 1 6 := by
  exact j_lp (lvf := fun z => [(0, .ref (gadr (XG X) (4, 0, 0))), (1, .int (z.2.1)), (3, .int (z.2.2.1)), (4, .int (z.2.2.2.1)), (5, .int (z.2.2.2.2))]) (Mf := fun z => z.1) (fun kn hk z => wgX1_told_108 hC hT hG hnl fu kn (fun M x1 x3 x4 x5 => hk (M, x1, x3, x4, x5)) kn83 hk83 z.1 z.2.1 z.2.2.1 z.2.2.2.1 z.2.2.2.2) fu (M, x1, x3, x4, x5)
set_option linter.unusedVariables false in
set_option maxRecDepth 100000 in
theorem wgX1_told_83 {X : JX} (hC : JC X cX1_told RX1 (some .int) 7 113 1 6) (hT : JT X) (hG : dmI dmX (XG X)) (hnl : nLof X = 6) (fu : Nat) (kn83 : Mem × Int32 × Int32 × Int32 → Option TR) (hk83 : ∀ (M : Mem) (x1 x3 x4 : Int32), J X (ZT X foI 1 6) (kn83 (M, x1, x3, x4)) 83 [(0, .ref (gadr (XG X) (4, 0, 0))), (1, .int x1), (3, .int x3), (4, .int x4)] [] M 1 6) (M : Mem) (x1 x3 x4 : Int32) : J X (ZT X foI 1 6) (GX1_told_83 fu (XD X) kn83 M x1 x3 x4) 83 [(0, .ref (gadr (XG X) (4, 0, 0))), (1, .int x1), (3, .int x3), (4, .int x4)] [] M 1 6 := by
  unfold GX1_told_83
  refine j_iload hC 3 dX1_told_83 rfl ?_
  refine j_iconst (v := 1) hC dX1_told_85 (by decide) ?_
  refine j_aload_n hC 0 dX1_told_86 rfl ?_
  refine j_getR (fk := 1) hC (dmY hG rfl) rfl rfl in_X1 rfl rfl q496 rfl dX1_told_87 ?_
  refine j_getNI (fk := 7) hC (dmS hG (by decide) rfl) rfl rfl in_X3 rfl rfl q273 rfl dX1_told_90 ?_
  refine j_ishl hC dX1_told_93 ?_
  refine j_icmp_ge (tgt := 200) hC dX1_told_94 (by decide) (fun h94 => ?_) (fun h94 => ?_)
  · refine j_iload_n hC 2 dX1_told_200 rfl ?_
    exact j_iretT hC rfl rfl dX1_told_201
  · refine j_aload_n hC 0 dX1_told_97 rfl ?_
    refine j_getR (fk := 11) hC (dmY hG rfl) rfl rfl in_X1 rfl rfl q507 rfl dX1_told_98 ?_
    refine j_iload hC 3 dX1_told_101 rfl ?_
    refine j_iconst (v := 1) hC dX1_told_103 (by decide) ?_
    refine j_zast hC (dmY hG rfl) rfl dX1_told_104 (fun h104 => ?_)
    refine j_lt (fun M104 => ?_)
    refine j_iconst (v := 0) hC dX1_told_105 (by decide) ?_
    refine j_istore hC [(5, .int 0), (0, .ref (gadr (XG X) (4, 0, 0))), (1, .int x1), (3, .int x3), (4, .int x4)] hnl dX1_told_106 rfl rfl ?_
    exact j_sub [1, 2, 3, 4, 0] rfl (wX1_told_108 hC hT hG hnl fu kn83 hk83 M104 x1 x3 x4 0)
set_option linter.unusedVariables false in
set_option maxRecDepth 100000 in
theorem wX1_told_83 {X : JX} (hC : JC X cX1_told RX1 (some .int) 7 113 1 6) (hT : JT X) (hG : dmI dmX (XG X)) (hnl : nLof X = 6) (fu : Nat) (M : Mem) (x1 x3 x4 : Int32) : J X (ZT X foI 1 6) (FX1_told_83 fu (XD X) M x1 x3 x4) 83 [(0, .ref (gadr (XG X) (4, 0, 0))), (1, .int x1), (3, .int x3), (4, .int x4)] [] M 1 6 := by
  exact j_lp (lvf := fun z => [(0, .ref (gadr (XG X) (4, 0, 0))), (1, .int (z.2.1)), (3, .int (z.2.2.1)), (4, .int (z.2.2.2))]) (Mf := fun z => z.1) (fun kn hk z => wgX1_told_83 hC hT hG hnl fu kn (fun M x1 x3 x4 => hk (M, x1, x3, x4)) z.1 z.2.1 z.2.2.1 z.2.2.2) fu (M, x1, x3, x4)
set_option linter.unusedVariables false in
set_option maxRecDepth 100000 in
theorem wX1_told_74 {X : JX} (hC : JC X cX1_told RX1 (some .int) 7 113 1 6) (hT : JT X) (hG : dmI dmX (XG X)) (hnl : nLof X = 6) (fu : Nat) (M : Mem) (x1 x2 : Int32) : J X (ZT X foI 1 6) (FX1_told_74 fu (XD X) M x1 x2) 74 [(0, .ref (gadr (XG X) (4, 0, 0))), (1, .int x1), (2, .int x2)] [] M 0 0 := by
  unfold FX1_told_74
  refine j_iload_n hC 2 dX1_told_74 rfl ?_
  refine j_callST (nA := 1) (rest := []) hC hT [.int x2] rfl (fun r hr => mX1_must (XL X) (JT.st hT) (XG X) hG fu (XD X) M x2 r hr) q1167 q1168 q126 q1169 (by decide +kernel) rfl rfl rfl rfl rfl rfl dX1_told_75 (fun _ => []) (fun _ => rfl) (fun v75 M75 => ?_)
  refine j_iconst (v := 0) hC dX1_told_78 (by decide) ?_
  refine j_istore_n hC [(3, .int 0), (0, .ref (gadr (XG X) (4, 0, 0))), (1, .int x1), (2, .int x2)] hnl dX1_told_79 rfl rfl ?_
  refine j_iconst (v := 0) hC dX1_told_80 (by decide) ?_
  refine j_istore hC [(4, .int 0), (3, .int 0), (0, .ref (gadr (XG X) (4, 0, 0))), (1, .int x1), (2, .int x2)] hnl dX1_told_81 rfl rfl ?_
  exact j_sub [2, 3, 1, 0] rfl (wX1_told_83 hC hT hG hnl fu M75 x1 0 0)
set_option linter.unusedVariables false in
set_option maxRecDepth 100000 in
theorem wX1_told_67 {X : JX} (hC : JC X cX1_told RX1 (some .int) 7 113 1 6) (hT : JT X) (hG : dmI dmX (XG X)) (hnl : nLof X = 6) (fu : Nat) (kn25 : Mem × Int32 × Int32 × Int32 → Option TR) (hk25 : ∀ (M : Mem) (x1 x2 x3 : Int32), J X (ZT X foI 1 6) (kn25 (M, x1, x2, x3)) 25 [(0, .ref (gadr (XG X) (4, 0, 0))), (1, .int x1), (2, .int x2), (3, .int x3)] [] M 0 0) (M : Mem) (x1 x3 t0 : Int32) : J X (ZT X foI 1 6) (FX1_told_67 fu (XD X) kn25 M x1 x3 t0) 67 [(0, .ref (gadr (XG X) (4, 0, 0))), (1, .int x1), (3, .int x3)] [.int t0] M 0 0 := by
  unfold FX1_told_67
  refine j_istore_n hC [(2, .int t0), (0, .ref (gadr (XG X) (4, 0, 0))), (1, .int x1), (3, .int x3)] hnl dX1_told_67 rfl rfl ?_
  refine j_iincL hC 3 (fun y68 => [(3, .int y68), (2, .int t0), (0, .ref (gadr (XG X) (4, 0, 0))), (1, .int x1)]) hnl dX1_told_68 rfl (by decide) rfl (fun _ => rfl) (fun y68 => ?_)
  refine j_goto (tgt := 25) hC dX1_told_71 (by decide) ?_
  exact j_sub [2, 3, 1, 0] rfl (hk25 M x1 t0 y68)
set_option linter.unusedVariables false in
set_option maxRecDepth 100000 in
theorem wX1_told_59 {X : JX} (hC : JC X cX1_told RX1 (some .int) 7 113 1 6) (hT : JT X) (hG : dmI dmX (XG X)) (hnl : nLof X = 6) (fu : Nat) (kn25 : Mem × Int32 × Int32 × Int32 → Option TR) (hk25 : ∀ (M : Mem) (x1 x2 x3 : Int32), J X (ZT X foI 1 6) (kn25 (M, x1, x2, x3)) 25 [(0, .ref (gadr (XG X) (4, 0, 0))), (1, .int x1), (2, .int x2), (3, .int x3)] [] M 0 0) (M : Mem) (x1 x3 t0 t1 : Int32) : J X (ZT X foI 1 6) (FX1_told_59 fu (XD X) kn25 M x1 x3 t0 t1) 59 [(0, .ref (gadr (XG X) (4, 0, 0))), (1, .int x1), (3, .int x3)] [.int t0, .int t1] M 0 0 := by
  unfold FX1_told_59
  refine j_icmp_ge (tgt := 66) hC dX1_told_59 (by decide) (fun h59 => ?_) (fun h59 => ?_)
  · refine j_iconst (v := 0) hC dX1_told_66 (by decide) ?_
    exact j_sub [0, 1, 2] rfl (wX1_told_67 hC hT hG hnl fu kn25 hk25 M x1 x3 0)
  · refine j_iconst (v := 1) hC dX1_told_62 (by decide) ?_
    refine j_goto (tgt := 67) hC dX1_told_63 (by decide) ?_
    exact j_sub [0, 1, 2] rfl (wX1_told_67 hC hT hG hnl fu kn25 hk25 M x1 x3 1)
set_option linter.unusedVariables false in
set_option maxRecDepth 100000 in
theorem wgX1_told_25 {X : JX} (hC : JC X cX1_told RX1 (some .int) 7 113 1 6) (hT : JT X) (hG : dmI dmX (XG X)) (hnl : nLof X = 6) (fu : Nat) (kn25 : Mem × Int32 × Int32 × Int32 → Option TR) (hk25 : ∀ (M : Mem) (x1 x2 x3 : Int32), J X (ZT X foI 1 6) (kn25 (M, x1, x2, x3)) 25 [(0, .ref (gadr (XG X) (4, 0, 0))), (1, .int x1), (2, .int x2), (3, .int x3)] [] M 0 0) (M : Mem) (x1 x2 x3 : Int32) : J X (ZT X foI 1 6) (GX1_told_25 fu (XD X) kn25 M x1 x2 x3) 25 [(0, .ref (gadr (XG X) (4, 0, 0))), (1, .int x1), (2, .int x2), (3, .int x3)] [] M 0 0 := by
  unfold GX1_told_25
  refine j_iload_n hC 3 dX1_told_25 rfl ?_
  refine j_iload_n hC 1 dX1_told_26 rfl ?_
  refine j_icmp_ge (tgt := 74) hC dX1_told_27 (by decide) (fun h27 => ?_) (fun h27 => ?_)
  · exact j_sub [0, 1, 2] rfl (wX1_told_74 hC hT hG hnl fu M x1 x2)
  · refine j_iload_n hC 2 dX1_told_30 rfl ?_
    refine j_if_eq (tgt := 74) hC dX1_told_31 (by decide) (fun h31 => ?_) (fun h31 => ?_)
    · exact j_sub [0, 1, 2] rfl (wX1_told_74 hC hT hG hnl fu M x1 x2)
    · refine j_aload_n hC 0 dX1_told_34 rfl ?_
      refine j_getR (fk := 0) hC (dmY hG rfl) rfl rfl in_X1 rfl rfl q495 rfl dX1_told_35 ?_
      refine j_getNR (fk := 0) hC (dmY hG rfl) rfl rfl in_X2 rfl rfl q424 rfl dX1_told_38 ?_
      refine j_iload_n hC 3 dX1_told_41 rfl ?_
      refine j_bald hC (dmY hG rfl) rfl dX1_told_42 (fun h42 => ?_)
      refine j_sipush (v := 255) hC dX1_told_43 (by decide) ?_
      refine j_iand hC dX1_told_46 ?_
      refine j_iload_n hC 3 dX1_told_47 rfl ?_
      refine j_iconst (v := 2) hC dX1_told_48 (by decide) ?_
      refine j_iremL hC dX1_told_49 (by decide) ?_
      refine j_if_ne (tgt := 58) hC dX1_told_50 (by decide) (fun h50 => ?_) (fun h50 => ?_)
      · refine j_bipush (v := 6) hC dX1_told_53 (by decide) ?_
        refine j_goto (tgt := 59) hC dX1_told_55 (by decide) ?_
        exact j_sub [0, 1, 3] rfl (wX1_told_59 hC hT hG hnl fu kn25 hk25 M x1 x3 6 ((M (4, 0, 9) x3.toNatClampNeg) &&& 255))
      · refine j_iconst (v := 2) hC dX1_told_58 (by decide) ?_
        exact j_sub [0, 1, 3] rfl (wX1_told_59 hC hT hG hnl fu kn25 hk25 M x1 x3 2 ((M (4, 0, 9) x3.toNatClampNeg) &&& 255))
set_option linter.unusedVariables false in
set_option maxRecDepth 100000 in
theorem wX1_told_25 {X : JX} (hC : JC X cX1_told RX1 (some .int) 7 113 1 6) (hT : JT X) (hG : dmI dmX (XG X)) (hnl : nLof X = 6) (fu : Nat) (M : Mem) (x1 x2 x3 : Int32) : J X (ZT X foI 1 6) (FX1_told_25 fu (XD X) M x1 x2 x3) 25 [(0, .ref (gadr (XG X) (4, 0, 0))), (1, .int x1), (2, .int x2), (3, .int x3)] [] M 0 0 := by
  exact j_lp (lvf := fun z => [(0, .ref (gadr (XG X) (4, 0, 0))), (1, .int (z.2.1)), (2, .int (z.2.2.1)), (3, .int (z.2.2.2))]) (Mf := fun z => z.1) (fun kn hk z => wgX1_told_25 hC hT hG hnl fu kn (fun M x1 x2 x3 => hk (M, x1, x2, x3)) z.1 z.2.1 z.2.2.1 z.2.2.2) fu (M, x1, x2, x3)
set_option linter.unusedVariables false in
set_option maxRecDepth 100000 in
theorem wX1_told_22 {X : JX} (hC : JC X cX1_told RX1 (some .int) 7 113 1 6) (hT : JT X) (hG : dmI dmX (XG X)) (hnl : nLof X = 6) (fu : Nat) (M : Mem) (x1 t0 : Int32) : J X (ZT X foI 1 6) (FX1_told_22 fu (XD X) M x1 t0) 22 [(0, .ref (gadr (XG X) (4, 0, 0))), (1, .int x1)] [.int t0] M 0 0 := by
  unfold FX1_told_22
  refine j_istore_n hC [(2, .int t0), (0, .ref (gadr (XG X) (4, 0, 0))), (1, .int x1)] hnl dX1_told_22 rfl rfl ?_
  refine j_iconst (v := 0) hC dX1_told_23 (by decide) ?_
  refine j_istore_n hC [(3, .int 0), (2, .int t0), (0, .ref (gadr (XG X) (4, 0, 0))), (1, .int x1)] hnl dX1_told_24 rfl rfl ?_
  exact j_sub [2, 3, 1, 0] rfl (wX1_told_25 hC hT hG hnl fu M x1 t0 0)
set_option linter.unusedVariables false in
set_option maxRecDepth 100000 in
theorem wX1_told_21 {X : JX} (hC : JC X cX1_told RX1 (some .int) 7 113 1 6) (hT : JT X) (hG : dmI dmX (XG X)) (hnl : nLof X = 6) (fu : Nat) (M : Mem) (x1 : Int32) : J X (ZT X foI 1 6) (FX1_told_21 fu (XD X) M x1) 21 [(0, .ref (gadr (XG X) (4, 0, 0))), (1, .int x1)] [] M 0 0 := by
  unfold FX1_told_21
  refine j_iconst (v := 0) hC dX1_told_21 (by decide) ?_
  exact j_sub [0, 1] rfl (wX1_told_22 hC hT hG hnl fu M x1 0)
set_option linter.unusedVariables false in
set_option maxRecDepth 100000 in
theorem wX1_told {X : JX} (hC : JC X cX1_told RX1 (some .int) 7 113 1 6) (hT : JT X) (hG : dmI dmX (XG X)) (hnl : nLof X = 6) (fu : Nat) (M : Mem) : J X (ZT X foI 1 6) (FX1_told fu (XD X) M) 0 [(0, .ref (gadr (XG X) (4, 0, 0)))] [] M 0 0 := by
  unfold FX1_told
  refine j_aload_n hC 0 dX1_told_0 rfl ?_
  refine j_callV (nA := 0) (rest := []) hC [] rfl (fun r hr => mX1_took (XL X) (XG X) hG fu (XD X) M r hr) q742 q744 qs8 q126 q745 (dmY hG rfl) rfl rfl (by decide +kernel) rfl rfl rfl rfl rfl rfl dX1_told_1 (fun v1 => [.int v1]) (fun _ => rfl) (fun v1 M1 => ?_)
  refine j_istore_n hC [(1, .int v1), (0, .ref (gadr (XG X) (4, 0, 0)))] hnl dX1_told_4 rfl rfl ?_
  refine j_iload_n hC 0 dX1_told_5 rfl ?_
  refine j_iconst (v := 2) hC dX1_told_6 (by decide) ?_
  refine j_iremL hC dX1_told_7 (by decide) ?_
  refine j_if_ne (tgt := 21) hC dX1_told_8 (by decide) (fun h8 => ?_) (fun h8 => ?_)
  · refine j_iload_n hC 0 dX1_told_11 rfl ?_
    refine j_bipush (v := 40) hC dX1_told_12 (by decide) ?_
    refine j_icmp_gt (tgt := 21) hC dX1_told_14 (by decide) (fun h14 => ?_) (fun h14 => ?_)
    · exact j_sub [1, 0] rfl (wX1_told_21 hC hT hG hnl fu M1 v1)
    · refine j_iconst (v := 1) hC dX1_told_17 (by decide) ?_
      refine j_goto (tgt := 22) hC dX1_told_18 (by decide) ?_
      exact j_sub [1, 0] rfl (wX1_told_22 hC hT hG hnl fu M1 v1 1)
  · exact j_sub [1, 0] rfl (wX1_told_21 hC hT hG hnl fu M1 v1)
set_option linter.unusedVariables false in
set_option maxRecDepth 100000 in
theorem mX1_told (l : Launch) (hst : l.stackTraces = false) (Γ : xG) (hG : dmI dmX Γ) (fu : Nat) (D : List LDen) (M : Mem) (r : TR) (hr : FX1_told fu D M = some r) : CT l yX1_told (ws_ yX1_told cX1_told 6 (some .int)) 7 113 1 6 Γ D [.ref (gadr Γ (4, 0, 0))] M foI r := by
  refine CT.of hst (own := RX1) (lv0 := lv_args 0 [.ref (gadr Γ (4, 0, 0))]) (by decide +kernel) rfl (Nat.le_of_ble_eq_true rfl) rfl (fun X e1 e2 e3 e4 hC hT => ?_) r hr
  subst e1
  subst e2
  exact wX1_told hC hT hG e4 fu M
set_option linter.unusedVariables false in
set_option maxRecDepth 100000 in
theorem wX1_songs_63 {X : JX} (hC : JC X cX1_songs RX1 (some .int) 8 138 1 6) (hT : JT X) (hG : dmI dmX (XG X)) (hnl : nLof X = 5) (fu : Nat) (kn34 : Mem × Int32 × Int32 → Option TR) (hk34 : ∀ (M : Mem) (x3 x4 : Int32), J X (ZT X foI 1 6) (kn34 (M, x3, x4)) 34 [(0, .ref (gadr (XG X) (4, 0, 0))), (3, .int x3), (4, .int x4)] [] M 1 6) (M : Mem) (x3 x4 : Int32) : J X (ZT X foI 1 6) (FX1_songs_63 fu (XD X) kn34 M x3 x4) 63 [(0, .ref (gadr (XG X) (4, 0, 0))), (3, .int x3), (4, .int x4)] [] M 1 6 := by
  unfold FX1_songs_63
  refine j_iincL hC 2 (fun y63 => [(4, .int y63), (0, .ref (gadr (XG X) (4, 0, 0))), (3, .int x3)]) hnl dX1_songs_63 rfl (by decide) rfl (fun _ => rfl) (fun y63 => ?_)
  refine j_goto (tgt := 34) hC dX1_songs_66 (by decide) ?_
  exact j_sub [1, 2, 0] rfl (hk34 M x3 y63)
set_option linter.unusedVariables false in
set_option maxRecDepth 100000 in
theorem wgX1_songs_34 {X : JX} (hC : JC X cX1_songs RX1 (some .int) 8 138 1 6) (hT : JT X) (hG : dmI dmX (XG X)) (hnl : nLof X = 5) (fu : Nat) (kn34 : Mem × Int32 × Int32 → Option TR) (hk34 : ∀ (M : Mem) (x3 x4 : Int32), J X (ZT X foI 1 6) (kn34 (M, x3, x4)) 34 [(0, .ref (gadr (XG X) (4, 0, 0))), (3, .int x3), (4, .int x4)] [] M 1 6) (M : Mem) (x3 x4 : Int32) : J X (ZT X foI 1 6) (GX1_songs_34 fu (XD X) kn34 M x3 x4) 34 [(0, .ref (gadr (XG X) (4, 0, 0))), (3, .int x3), (4, .int x4)] [] M 1 6 := by
  unfold GX1_songs_34
  refine j_iload hC 2 dX1_songs_34 rfl ?_
  refine j_iconst (v := 1) hC dX1_songs_36 (by decide) ?_
  refine j_aload_n hC 0 dX1_songs_37 rfl ?_
  refine j_getR (fk := 1) hC (dmY hG rfl) rfl rfl in_X1 rfl rfl q496 rfl dX1_songs_38 ?_
  refine j_getNI (fk := 7) hC (dmS hG (by decide) rfl) rfl rfl in_X3 rfl rfl q273 rfl dX1_songs_41 ?_
  refine j_ishl hC dX1_songs_44 ?_
  refine j_icmp_ge (tgt := 69) hC dX1_songs_45 (by decide) (fun h45 => ?_) (fun h45 => ?_)
  · refine j_iload_n hC 1 dX1_songs_69 rfl ?_
    exact j_iretT hC rfl rfl dX1_songs_70
  · refine j_aload_n hC 0 dX1_songs_48 rfl ?_
    refine j_getR (fk := 11) hC (dmY hG rfl) rfl rfl in_X1 rfl rfl q507 rfl dX1_songs_49 ?_
    refine j_iload hC 2 dX1_songs_52 rfl ?_
    refine j_zald hC (dmY hG rfl) rfl dX1_songs_54 (fun h54 => ?_)
    refine j_if_eq (tgt := 63) hC dX1_songs_55 (by decide) (fun h55 => ?_) (fun h55 => ?_)
    · exact j_sub [0, 1, 2] rfl (wX1_songs_63 hC hT hG hnl fu kn34 hk34 M x3 x4)
    · refine j_iload_n hC 1 dX1_songs_58 rfl ?_
      refine j_iload hC 2 dX1_songs_59 rfl ?_
      refine j_iand hC dX1_songs_61 ?_
      refine j_ltT (fun y62 => ?_)
      refine j_istore_n hC [(3, .int y62), (0, .ref (gadr (XG X) (4, 0, 0))), (4, .int x4)] hnl dX1_songs_62 rfl rfl ?_
      exact j_sub [1, 0, 2] rfl (wX1_songs_63 hC hT hG hnl fu kn34 hk34 M y62 x4)
set_option linter.unusedVariables false in
set_option maxRecDepth 100000 in
theorem wX1_songs_34 {X : JX} (hC : JC X cX1_songs RX1 (some .int) 8 138 1 6) (hT : JT X) (hG : dmI dmX (XG X)) (hnl : nLof X = 5) (fu : Nat) (M : Mem) (x3 x4 : Int32) : J X (ZT X foI 1 6) (FX1_songs_34 fu (XD X) M x3 x4) 34 [(0, .ref (gadr (XG X) (4, 0, 0))), (3, .int x3), (4, .int x4)] [] M 1 6 := by
  exact j_lp (lvf := fun z => [(0, .ref (gadr (XG X) (4, 0, 0))), (3, .int (z.2.1)), (4, .int (z.2.2))]) (Mf := fun z => z.1) (fun kn hk z => wgX1_songs_34 hC hT hG hnl fu kn (fun M x3 x4 => hk (M, x3, x4)) z.1 z.2.1 z.2.2) fu (M, x3, x4)
set_option linter.unusedVariables false in
set_option maxRecDepth 100000 in
theorem wX1_songs_30 {X : JX} (hC : JC X cX1_songs RX1 (some .int) 8 138 1 6) (hT : JT X) (hG : dmI dmX (XG X)) (hnl : nLof X = 5) (fu : Nat) (M : Mem) (t0 : Int32) : J X (ZT X foI 1 6) (FX1_songs_30 fu (XD X) M t0) 30 [(0, .ref (gadr (XG X) (4, 0, 0)))] [.int t0] M 1 6 := by
  unfold FX1_songs_30
  refine j_istore_n hC [(3, .int t0), (0, .ref (gadr (XG X) (4, 0, 0)))] hnl dX1_songs_30 rfl rfl ?_
  refine j_iconst (v := 0) hC dX1_songs_31 (by decide) ?_
  refine j_istore hC [(4, .int 0), (3, .int t0), (0, .ref (gadr (XG X) (4, 0, 0)))] hnl dX1_songs_32 rfl rfl ?_
  exact j_sub [2, 1, 0] rfl (wX1_songs_34 hC hT hG hnl fu M t0 0)
set_option linter.unusedVariables false in
set_option maxRecDepth 100000 in
theorem wX1_songs {X : JX} (hC : JC X cX1_songs RX1 (some .int) 8 138 1 6) (hT : JT X) (hG : dmI dmX (XG X)) (hnl : nLof X = 5) (fu : Nat) (M : Mem) (x1 : Int32) : J X (ZT X foI 1 6) (FX1_songs fu (XD X) M x1) 0 [(0, .ref (gadr (XG X) (4, 0, 0))), (1, .int x1)] [] M 0 0 := by
  unfold FX1_songs
  refine j_aload_n hC 0 dX1_songs_0 rfl ?_
  refine j_callVT (nA := 0) (rest := []) hC hT [] rfl (fun r hr => mX1_told (XL X) (JT.st hT) (XG X) hG fu (XD X) M r hr) q1369 q1371 qs42 q126 q1372 (dmY hG rfl) rfl rfl (by decide +kernel) rfl rfl rfl rfl rfl rfl dX1_songs_1 (fun v1 => [.int v1]) (fun _ => rfl) (fun v1 M1 => ?_)
  refine j_istore_n hC [(2, .int v1), (0, .ref (gadr (XG X) (4, 0, 0))), (1, .int x1)] hnl dX1_songs_4 rfl rfl ?_
  refine j_iload_n hC 2 dX1_songs_5 rfl ?_
  refine j_if_ne (tgt := 11) hC dX1_songs_6 (by decide) (fun h6 => ?_) (fun h6 => ?_)
  · refine j_iload_n hC 0 dX1_songs_9 rfl ?_
    exact j_iretT hC rfl rfl dX1_songs_10
  · refine j_iload_n hC 0 dX1_songs_11 rfl ?_
    refine j_if_ne (tgt := 19) hC dX1_songs_12 (by decide) (fun h12 => ?_) (fun h12 => ?_)
    · refine j_iconst (v := 0) hC dX1_songs_15 (by decide) ?_
      refine j_goto (tgt := 30) hC dX1_songs_16 (by decide) ?_
      exact j_sub [1] rfl (wX1_songs_30 hC hT hG hnl fu M1 0)
    · refine j_iconst (v := 1) hC dX1_songs_19 (by decide) ?_
      refine j_aload_n hC 1 dX1_songs_20 rfl ?_
      refine j_getR (fk := 1) hC (dmY hG rfl) rfl rfl in_X1 rfl rfl q496 rfl dX1_songs_21 ?_
      refine j_getNI (fk := 7) hC (dmS hG (by decide) rfl) rfl rfl in_X3 rfl rfl q273 rfl dX1_songs_24 ?_
      refine j_ishl hC dX1_songs_27 ?_
      refine j_iconst (v := 1) hC dX1_songs_28 (by decide) ?_
      refine j_isub hC dX1_songs_29 ?_
      exact j_sub [1] rfl (wX1_songs_30 hC hT hG hnl fu M1 ((1 <<< ((M1 (0, 0, 0) 7) &&& 31)) - 1))
set_option linter.unusedVariables false in
set_option maxRecDepth 100000 in
theorem mX1_songs (l : Launch) (hst : l.stackTraces = false) (Γ : xG) (hG : dmI dmX Γ) (fu : Nat) (D : List LDen) (M : Mem) (x1 : Int32) (r : TR) (hr : FX1_songs fu D M x1 = some r) : CT l yX1_songs (ws_ yX1_songs cX1_songs 5 (some .int)) 8 138 1 6 Γ D [.ref (gadr Γ (4, 0, 0)), .int x1] M foI r := by
  refine CT.of hst (own := RX1) (lv0 := lv_args 0 [.ref (gadr Γ (4, 0, 0)), .int x1]) (by decide +kernel) rfl (Nat.le_of_ble_eq_true rfl) rfl (fun X e1 e2 e3 e4 hC hT => ?_) r hr
  subst e1
  subst e2
  exact wX1_songs hC hT hG e4 fu M x1
set_option linter.unusedVariables false in
set_option maxRecDepth 100000 in
theorem wX1_ask_117 {X : JX} (hC : JC X cX1_ask RX1 (some .int) 8 138 1 6) (hT : JT X) (hG : dmI dmX (XG X)) (hnl : nLof X = 7) (fu : Nat) (M : Mem) (x2 : Int32) : J X (ZT X foI 1 6) (FX1_ask_117 fu (XD X) M x2) 117 [(2, .int x2)] [] M 1 6 := by
  unfold FX1_ask_117
  refine j_iload_n hC 0 dX1_ask_117 rfl ?_
  exact j_iretT hC rfl rfl dX1_ask_118
set_option linter.unusedVariables false in
set_option maxRecDepth 100000 in
theorem wX1_ask_111 {X : JX} (hC : JC X cX1_ask RX1 (some .int) 8 138 1 6) (hT : JT X) (hG : dmI dmX (XG X)) (hnl : nLof X = 7) (fu : Nat) (kn14 : Mem × Int32 × Int32 × Int32 × Int32 → Option TR) (hk14 : ∀ (M : Mem) (x1 x2 x3 x4 : Int32), J X (ZT X foI 1 6) (kn14 (M, x1, x2, x3, x4)) 14 [(0, .ref (gadr (XG X) (4, 0, 0))), (1, .int x1), (2, .int x2), (3, .int x3), (4, .int x4)] [] M 1 6) (M : Mem) (x1 x2 x3 x4 : Int32) : J X (ZT X foI 1 6) (FX1_ask_111 fu (XD X) kn14 M x1 x2 x3 x4) 111 [(0, .ref (gadr (XG X) (4, 0, 0))), (1, .int x1), (2, .int x2), (3, .int x3), (4, .int x4)] [] M 1 6 := by
  unfold FX1_ask_111
  refine j_iincL hC 4 (fun y111 => [(4, .int y111), (0, .ref (gadr (XG X) (4, 0, 0))), (1, .int x1), (2, .int x2), (3, .int x3)]) hnl dX1_ask_111 rfl (by decide) rfl (fun _ => rfl) (fun y111 => ?_)
  refine j_goto (tgt := 14) hC dX1_ask_114 (by decide) ?_
  exact j_sub [1, 2, 3, 4, 0] rfl (hk14 M x1 x2 x3 y111)
set_option linter.unusedVariables false in
set_option maxRecDepth 100000 in
theorem wX1_ask_73 {X : JX} (hC : JC X cX1_ask RX1 (some .int) 8 138 1 6) (hT : JT X) (hG : dmI dmX (XG X)) (hnl : nLof X = 7) (fu : Nat) (kn32 : Mem × Int32 × Int32 × Int32 × Int32 × Int32 × Int32 → Option TR) (hk32 : ∀ (M : Mem) (x1 x2 x3 x4 x5 x6 : Int32), J X (ZT X foI 1 6) (kn32 (M, x1, x2, x3, x4, x5, x6)) 32 [(0, .ref (gadr (XG X) (4, 0, 0))), (1, .int x1), (2, .int x2), (3, .int x3), (4, .int x4), (5, .int x5), (6, .int x6)] [] M 1 6) (M : Mem) (x1 x2 x3 x4 x6 t0 t1 : Int32) : J X (ZT X foI 1 6) (FX1_ask_73 fu (XD X) kn32 M x1 x2 x3 x4 x6 t0 t1) 73 [(0, .ref (gadr (XG X) (4, 0, 0))), (1, .int x1), (2, .int x2), (3, .int x3), (4, .int x4), (6, .int x6)] [.int t0, .int t1] M 1 6 := by
  unfold FX1_ask_73
  refine j_iadd hC dX1_ask_73 ?_
  refine j_ltT (fun y74 => ?_)
  refine j_istore hC [(5, .int y74), (0, .ref (gadr (XG X) (4, 0, 0))), (1, .int x1), (2, .int x2), (3, .int x3), (4, .int x4), (6, .int x6)] hnl dX1_ask_74 rfl rfl ?_
  refine j_iincL hC 6 (fun y76 => [(6, .int y76), (5, .int y74), (0, .ref (gadr (XG X) (4, 0, 0))), (1, .int x1), (2, .int x2), (3, .int x3), (4, .int x4)]) hnl dX1_ask_76 rfl (by decide) rfl (fun _ => rfl) (fun y76 => ?_)
  refine j_goto (tgt := 32) hC dX1_ask_79 (by decide) ?_
  exact j_sub [2, 3, 4, 5, 6, 1, 0] rfl (hk32 M x1 x2 x3 x4 y74 y76)
set_option linter.unusedVariables false in
set_option maxRecDepth 100000 in
theorem wgX1_ask_32 {X : JX} (hC : JC X cX1_ask RX1 (some .int) 8 138 1 6) (hT : JT X) (hG : dmI dmX (XG X)) (hnl : nLof X = 7) (fu : Nat) (kn32 : Mem × Int32 × Int32 × Int32 × Int32 × Int32 × Int32 → Option TR) (hk32 : ∀ (M : Mem) (x1 x2 x3 x4 x5 x6 : Int32), J X (ZT X foI 1 6) (kn32 (M, x1, x2, x3, x4, x5, x6)) 32 [(0, .ref (gadr (XG X) (4, 0, 0))), (1, .int x1), (2, .int x2), (3, .int x3), (4, .int x4), (5, .int x5), (6, .int x6)] [] M 1 6) (kn14 : Mem × Int32 × Int32 × Int32 × Int32 → Option TR) (hk14 : ∀ (M : Mem) (x1 x2 x3 x4 : Int32), J X (ZT X foI 1 6) (kn14 (M, x1, x2, x3, x4)) 14 [(0, .ref (gadr (XG X) (4, 0, 0))), (1, .int x1), (2, .int x2), (3, .int x3), (4, .int x4)] [] M 1 6) (M : Mem) (x1 x2 x3 x4 x5 x6 : Int32) : J X (ZT X foI 1 6) (GX1_ask_32 fu (XD X) kn32 kn14 M x1 x2 x3 x4 x5 x6) 32 [(0, .ref (gadr (XG X) (4, 0, 0))), (1, .int x1), (2, .int x2), (3, .int x3), (4, .int x4), (5, .int x5), (6, .int x6)] [] M 1 6 := by
  unfold GX1_ask_32
  refine j_iload hC 6 dX1_ask_32 rfl ?_
  refine j_iconst (v := 1) hC dX1_ask_34 (by decide) ?_
  refine j_aload_n hC 0 dX1_ask_35 rfl ?_
  refine j_getR (fk := 1) hC (dmY hG rfl) rfl rfl in_X1 rfl rfl q496 rfl dX1_ask_36 ?_
  refine j_getNI (fk := 7) hC (dmS hG (by decide) rfl) rfl rfl in_X3 rfl rfl q273 rfl dX1_ask_39 ?_
  refine j_ishl hC dX1_ask_42 ?_
  refine j_icmp_ge (tgt := 82) hC dX1_ask_43 (by decide) (fun h43 => ?_) (fun h43 => ?_)
  · refine j_iload hC 5 dX1_ask_82 rfl ?_
    refine j_iload_n hC 1 dX1_ask_84 rfl ?_
    refine j_iload hC 5 dX1_ask_85 rfl ?_
    refine j_isub hC dX1_ask_87 ?_
    refine j_max hC q1384 q643 q155 q644 dX1_ask_88 rfl (Nat.le_of_ble_eq_true rfl) (Nat.le_of_ble_eq_true rfl) (Nat.le_of_ble_eq_true rfl) ?_
    refine j_iload_n hC 3 dX1_ask_91 rfl ?_
    refine j_icmp_lt (tgt := 98) hC dX1_ask_92 (by decide) (fun h92 => ?_) (fun h92 => ?_)
    · refine j_iload hC 5 dX1_ask_98 rfl ?_
      refine j_iload_n hC 1 dX1_ask_100 rfl ?_
      refine j_iload hC 5 dX1_ask_101 rfl ?_
      refine j_isub hC dX1_ask_103 ?_
      refine j_max hC q1384 q643 q155 q644 dX1_ask_104 rfl (Nat.le_of_ble_eq_true rfl) (Nat.le_of_ble_eq_true rfl) (Nat.le_of_ble_eq_true rfl) ?_
      refine j_ltT (fun y107 => ?_)
      refine j_istore_n hC [(3, .int y107), (0, .ref (gadr (XG X) (4, 0, 0))), (1, .int x1), (2, .int x2), (4, .int x4), (5, .int x5), (6, .int x6)] hnl dX1_ask_107 rfl rfl ?_
      refine j_iload hC 4 dX1_ask_108 rfl ?_
      refine j_istore_n hC [(2, .int x4), (3, .int y107), (0, .ref (gadr (XG X) (4, 0, 0))), (1, .int x1), (4, .int x4), (5, .int x5), (6, .int x6)] hnl dX1_ask_110 rfl rfl ?_
      exact j_sub [2, 3, 0, 1, 4] rfl (wX1_ask_111 hC hT hG hnl fu kn14 hk14 M x1 x4 y107 x4)
    · refine j_goto (tgt := 111) hC dX1_ask_95 (by decide) ?_
      exact j_sub [0, 1, 2, 3, 4] rfl (wX1_ask_111 hC hT hG hnl fu kn14 hk14 M x1 x2 x3 x4)
  · refine j_iload hC 5 dX1_ask_46 rfl ?_
    refine j_aload_n hC 0 dX1_ask_48 rfl ?_
    refine j_getR (fk := 11) hC (dmY hG rfl) rfl rfl in_X1 rfl rfl q507 rfl dX1_ask_49 ?_
    refine j_iload hC 6 dX1_ask_52 rfl ?_
    refine j_zald hC (dmY hG rfl) rfl dX1_ask_54 (fun h54 => ?_)
    refine j_if_eq (tgt := 72) hC dX1_ask_55 (by decide) (fun h55 => ?_) (fun h55 => ?_)
    · refine j_iconst (v := 0) hC dX1_ask_72 (by decide) ?_
      exact j_sub [0, 1, 2, 3, 4, 6] rfl (wX1_ask_73 hC hT hG hnl fu kn32 hk32 M x1 x2 x3 x4 x6 0 x5)
    · refine j_aload_n hC 0 dX1_ask_58 rfl ?_
      refine j_iload hC 6 dX1_ask_59 rfl ?_
      refine j_callV (nA := 1) (rest := [.int x5]) hC [.int x6] rfl (fun r hr => mX1_sung (XL X) (XG X) hG fu (XD X) M x6 r hr) q1373 q1375 qs43 q126 q1376 (dmY hG rfl) rfl rfl (by decide +kernel) rfl rfl rfl rfl rfl rfl dX1_ask_61 (fun v61 => [.int v61, .int x5]) (fun _ => rfl) (fun v61 M61 => ?_)
      refine j_iload hC 4 dX1_ask_64 rfl ?_
      refine j_ishr hC dX1_ask_66 ?_
      refine j_iconst (v := 1) hC dX1_ask_67 (by decide) ?_
      refine j_iand hC dX1_ask_68 ?_
      refine j_goto (tgt := 73) hC dX1_ask_69 (by decide) ?_
      exact j_sub [0, 1, 2, 3, 4, 6] rfl (wX1_ask_73 hC hT hG hnl fu kn32 hk32 M61 x1 x2 x3 x4 x6 ((v61 >>> (x4 &&& 31)) &&& 1) x5)
set_option linter.unusedVariables false in
set_option maxRecDepth 100000 in
theorem wX1_ask_32 {X : JX} (hC : JC X cX1_ask RX1 (some .int) 8 138 1 6) (hT : JT X) (hG : dmI dmX (XG X)) (hnl : nLof X = 7) (fu : Nat) (kn14 : Mem × Int32 × Int32 × Int32 × Int32 → Option TR) (hk14 : ∀ (M : Mem) (x1 x2 x3 x4 : Int32), J X (ZT X foI 1 6) (kn14 (M, x1, x2, x3, x4)) 14 [(0, .ref (gadr (XG X) (4, 0, 0))), (1, .int x1), (2, .int x2), (3, .int x3), (4, .int x4)] [] M 1 6) (M : Mem) (x1 x2 x3 x4 x5 x6 : Int32) : J X (ZT X foI 1 6) (FX1_ask_32 fu (XD X) kn14 M x1 x2 x3 x4 x5 x6) 32 [(0, .ref (gadr (XG X) (4, 0, 0))), (1, .int x1), (2, .int x2), (3, .int x3), (4, .int x4), (5, .int x5), (6, .int x6)] [] M 1 6 := by
  exact j_lp (lvf := fun z => [(0, .ref (gadr (XG X) (4, 0, 0))), (1, .int (z.2.1)), (2, .int (z.2.2.1)), (3, .int (z.2.2.2.1)), (4, .int (z.2.2.2.2.1)), (5, .int (z.2.2.2.2.2.1)), (6, .int (z.2.2.2.2.2.2))]) (Mf := fun z => z.1) (fun kn hk z => wgX1_ask_32 hC hT hG hnl fu kn (fun M x1 x2 x3 x4 x5 x6 => hk (M, x1, x2, x3, x4, x5, x6)) kn14 hk14 z.1 z.2.1 z.2.2.1 z.2.2.2.1 z.2.2.2.2.1 z.2.2.2.2.2.1 z.2.2.2.2.2.2) fu (M, x1, x2, x3, x4, x5, x6)
set_option linter.unusedVariables false in
set_option maxRecDepth 100000 in
theorem wgX1_ask_14 {X : JX} (hC : JC X cX1_ask RX1 (some .int) 8 138 1 6) (hT : JT X) (hG : dmI dmX (XG X)) (hnl : nLof X = 7) (fu : Nat) (kn14 : Mem × Int32 × Int32 × Int32 × Int32 → Option TR) (hk14 : ∀ (M : Mem) (x1 x2 x3 x4 : Int32), J X (ZT X foI 1 6) (kn14 (M, x1, x2, x3, x4)) 14 [(0, .ref (gadr (XG X) (4, 0, 0))), (1, .int x1), (2, .int x2), (3, .int x3), (4, .int x4)] [] M 1 6) (M : Mem) (x1 x2 x3 x4 : Int32) : J X (ZT X foI 1 6) (GX1_ask_14 fu (XD X) kn14 M x1 x2 x3 x4) 14 [(0, .ref (gadr (XG X) (4, 0, 0))), (1, .int x1), (2, .int x2), (3, .int x3), (4, .int x4)] [] M 1 6 := by
  unfold GX1_ask_14
  refine j_iload hC 4 dX1_ask_14 rfl ?_
  refine j_bipush (v := 6) hC dX1_ask_16 (by decide) ?_
  refine j_icmp_ge (tgt := 117) hC dX1_ask_18 (by decide) (fun h18 => ?_) (fun h18 => ?_)
  · exact j_sub [2] rfl (wX1_ask_117 hC hT hG hnl fu M x2)
  · refine j_iload_n hC 1 dX1_ask_21 rfl ?_
    refine j_iconst (v := 1) hC dX1_ask_22 (by decide) ?_
    refine j_icmp_le (tgt := 117) hC dX1_ask_23 (by decide) (fun h23 => ?_) (fun h23 => ?_)
    · exact j_sub [2] rfl (wX1_ask_117 hC hT hG hnl fu M x2)
    · refine j_iconst (v := 0) hC dX1_ask_26 (by decide) ?_
      refine j_istore hC [(5, .int 0), (0, .ref (gadr (XG X) (4, 0, 0))), (1, .int x1), (2, .int x2), (3, .int x3), (4, .int x4)] hnl dX1_ask_27 rfl rfl ?_
      refine j_iconst (v := 0) hC dX1_ask_29 (by decide) ?_
      refine j_istore hC [(6, .int 0), (5, .int 0), (0, .ref (gadr (XG X) (4, 0, 0))), (1, .int x1), (2, .int x2), (3, .int x3), (4, .int x4)] hnl dX1_ask_30 rfl rfl ?_
      exact j_sub [2, 3, 4, 5, 6, 1, 0] rfl (wX1_ask_32 hC hT hG hnl fu kn14 hk14 M x1 x2 x3 x4 0 0)
set_option linter.unusedVariables false in
set_option maxRecDepth 100000 in
theorem wX1_ask_14 {X : JX} (hC : JC X cX1_ask RX1 (some .int) 8 138 1 6) (hT : JT X) (hG : dmI dmX (XG X)) (hnl : nLof X = 7) (fu : Nat) (M : Mem) (x1 x2 x3 x4 : Int32) : J X (ZT X foI 1 6) (FX1_ask_14 fu (XD X) M x1 x2 x3 x4) 14 [(0, .ref (gadr (XG X) (4, 0, 0))), (1, .int x1), (2, .int x2), (3, .int x3), (4, .int x4)] [] M 1 6 := by
  exact j_lp (lvf := fun z => [(0, .ref (gadr (XG X) (4, 0, 0))), (1, .int (z.2.1)), (2, .int (z.2.2.1)), (3, .int (z.2.2.2.1)), (4, .int (z.2.2.2.2))]) (Mf := fun z => z.1) (fun kn hk z => wgX1_ask_14 hC hT hG hnl fu kn (fun M x1 x2 x3 x4 => hk (M, x1, x2, x3, x4)) z.1 z.2.1 z.2.2.1 z.2.2.2.1 z.2.2.2.2) fu (M, x1, x2, x3, x4)
set_option linter.unusedVariables false in
set_option maxRecDepth 100000 in
theorem wX1_ask {X : JX} (hC : JC X cX1_ask RX1 (some .int) 8 138 1 6) (hT : JT X) (hG : dmI dmX (XG X)) (hnl : nLof X = 7) (fu : Nat) (M : Mem) : J X (ZT X foI 1 6) (FX1_ask fu (XD X) M) 0 [(0, .ref (gadr (XG X) (4, 0, 0)))] [] M 0 0 := by
  unfold FX1_ask
  refine j_aload_n hC 0 dX1_ask_0 rfl ?_
  refine j_callVT (nA := 0) (rest := []) hC hT [] rfl (fun r hr => mX1_told (XL X) (JT.st hT) (XG X) hG fu (XD X) M r hr) q1369 q1371 qs42 q126 q1372 (dmY hG rfl) rfl rfl (by decide +kernel) rfl rfl rfl rfl rfl rfl dX1_ask_1 (fun v1 => [.int v1]) (fun _ => rfl) (fun v1 M1 => ?_)
  refine j_istore_n hC [(1, .int v1), (0, .ref (gadr (XG X) (4, 0, 0)))] hnl dX1_ask_4 rfl rfl ?_
  refine j_iconst (v := (-1)) hC dX1_ask_5 (by decide) ?_
  refine j_istore_n hC [(2, .int ((-1))), (1, .int v1), (0, .ref (gadr (XG X) (4, 0, 0)))] hnl dX1_ask_6 rfl rfl ?_
  refine j_ldcw (v := 1000000000) hC dX1_ask_7 q1338 ?_
  refine j_istore_n hC [(3, .int 1000000000), (2, .int ((-1))), (1, .int v1), (0, .ref (gadr (XG X) (4, 0, 0)))] hnl dX1_ask_10 rfl rfl ?_
  refine j_iconst (v := 0) hC dX1_ask_11 (by decide) ?_
  refine j_istore hC [(4, .int 0), (3, .int 1000000000), (2, .int ((-1))), (1, .int v1), (0, .ref (gadr (XG X) (4, 0, 0)))] hnl dX1_ask_12 rfl rfl ?_
  exact j_sub [4, 3, 2, 1, 0] rfl (wX1_ask_14 hC hT hG hnl fu M1 v1 (-1) 1000000000 0)
set_option linter.unusedVariables false in
set_option maxRecDepth 100000 in
theorem mX1_ask (l : Launch) (hst : l.stackTraces = false) (Γ : xG) (hG : dmI dmX Γ) (fu : Nat) (D : List LDen) (M : Mem) (r : TR) (hr : FX1_ask fu D M = some r) : CT l yX1_ask (ws_ yX1_ask cX1_ask 7 (some .int)) 8 138 1 6 Γ D [.ref (gadr Γ (4, 0, 0))] M foI r := by
  refine CT.of hst (own := RX1) (lv0 := lv_args 0 [.ref (gadr Γ (4, 0, 0))]) (by decide +kernel) rfl (Nat.le_of_ble_eq_true rfl) rfl (fun X e1 e2 e3 e4 hC hT => ?_) r hr
  subst e1
  subst e2
  exact wX1_ask hC hT hG e4 fu M
set_option linter.unusedVariables false in
set_option maxRecDepth 100000 in
theorem wX1_tell_74 {X : JX} (hC : JC X cX1_tell RX1 (some .int) 39 1440 2 12) (hT : JT X) (hG : dmI dmX (XG X)) (hnl : nLof X = 5) (fu : Nat) (kn25 : Mem × Int32 × Int32 × Int32 × Int32 → Option TR) (hk25 : ∀ (M : Mem) (x1 x2 x3 x4 : Int32), J X (ZT X foI 2 12) (kn25 (M, x1, x2, x3, x4)) 25 [(0, .ref (gadr (XG X) (4, 0, 0))), (1, .int x1), (2, .int x2), (3, .int x3), (4, .int x4)] [] M 2 12) (M : Mem) (x1 x2 x4 t0 t1 : Int32) : J X (ZT X foI 2 12) (FX1_tell_74 fu (XD X) kn25 M x1 x2 x4 t0 t1) 74 [(0, .ref (gadr (XG X) (4, 0, 0))), (1, .int x1), (2, .int x2), (4, .int x4)] [.int t0, .int t1] M 2 12 := by
  unfold FX1_tell_74
  refine j_ior hC dX1_tell_74 ?_
  refine j_ltT (fun y75 => ?_)
  refine j_istore_n hC [(3, .int y75), (0, .ref (gadr (XG X) (4, 0, 0))), (1, .int x1), (2, .int x2), (4, .int x4)] hnl dX1_tell_75 rfl rfl ?_
  refine j_iincL hC 4 (fun y76 => [(4, .int y76), (3, .int y75), (0, .ref (gadr (XG X) (4, 0, 0))), (1, .int x1), (2, .int x2)]) hnl dX1_tell_76 rfl (by decide) rfl (fun _ => rfl) (fun y76 => ?_)
  refine j_goto (tgt := 25) hC dX1_tell_79 (by decide) ?_
  exact j_sub [2, 3, 4, 1, 0] rfl (hk25 M x1 x2 y75 y76)
set_option linter.unusedVariables false in
set_option maxRecDepth 100000 in
theorem wgX1_tell_25 {X : JX} (hC : JC X cX1_tell RX1 (some .int) 39 1440 2 12) (hT : JT X) (hG : dmI dmX (XG X)) (hnl : nLof X = 5) (fu : Nat) (kn25 : Mem × Int32 × Int32 × Int32 × Int32 → Option TR) (hk25 : ∀ (M : Mem) (x1 x2 x3 x4 : Int32), J X (ZT X foI 2 12) (kn25 (M, x1, x2, x3, x4)) 25 [(0, .ref (gadr (XG X) (4, 0, 0))), (1, .int x1), (2, .int x2), (3, .int x3), (4, .int x4)] [] M 2 12) (M : Mem) (x1 x2 x3 x4 : Int32) : J X (ZT X foI 2 12) (GX1_tell_25 fu (XD X) kn25 M x1 x2 x3 x4) 25 [(0, .ref (gadr (XG X) (4, 0, 0))), (1, .int x1), (2, .int x2), (3, .int x3), (4, .int x4)] [] M 2 12 := by
  unfold GX1_tell_25
  refine j_iload hC 4 dX1_tell_25 rfl ?_
  refine j_aload_n hC 0 dX1_tell_27 rfl ?_
  refine j_getR (fk := 1) hC (dmY hG rfl) rfl rfl in_X1 rfl rfl q496 rfl dX1_tell_28 ?_
  refine j_getNI (fk := 7) hC (dmS hG (by decide) rfl) rfl rfl in_X3 rfl rfl q273 rfl dX1_tell_31 ?_
  refine j_icmp_ge (tgt := 82) hC dX1_tell_34 (by decide) (fun h34 => ?_) (fun h34 => ?_)
  · refine j_iload_n hC 3 dX1_tell_82 rfl ?_
    exact j_iretT hC rfl rfl dX1_tell_83
  · refine j_aload_n hC 0 dX1_tell_37 rfl ?_
    refine j_getR (fk := 4) hC (dmY hG rfl) rfl rfl in_X1 rfl rfl q500 rfl dX1_tell_38 ?_
    refine j_iload hC 4 dX1_tell_41 rfl ?_
    refine j_callV (nA := 1) (rest := []) hC [.int x4] rfl (fun r hr => mX7_counts (XL X) (XG X) hG fu (XD X) 0 (by decide) M x4 r hr) q569 q570 q571 q135 q572 (dmW hG (by decide) rfl) rfl rfl (by decide +kernel) rfl rfl rfl rfl rfl rfl dX1_tell_43 (fun _ => []) (fun _ => rfl) (fun v43 M43 => ?_)
    refine j_iload_n hC 3 dX1_tell_46 rfl ?_
    refine j_aload_n hC 0 dX1_tell_47 rfl ?_
    refine j_getR (fk := 4) hC (dmY hG rfl) rfl rfl in_X1 rfl rfl q500 rfl dX1_tell_48 ?_
    refine j_getNR (fk := 2) hC (dmW hG (by decide) rfl) rfl rfl in_X7 rfl rfl q470 rfl dX1_tell_51 ?_
    refine j_bipush (v := 16) hC dX1_tell_54 (by decide) ?_
    refine j_iload_n hC 2 dX1_tell_56 rfl ?_
    refine j_iconst (v := 1) hC dX1_tell_57 (by decide) ?_
    refine j_isub hC dX1_tell_58 ?_
    refine j_imul hC dX1_tell_59 ?_
    refine j_iload_n hC 1 dX1_tell_60 rfl ?_
    refine j_iadd hC dX1_tell_61 ?_
    refine j_iald hC (dmW hG (by decide) rfl) rfl dX1_tell_62 (fun h62 => ?_)
    refine j_if_le (tgt := 73) hC dX1_tell_63 (by decide) (fun h63 => ?_) (fun h63 => ?_)
    · refine j_iconst (v := 0) hC dX1_tell_73 (by decide) ?_
      exact j_sub [0, 1, 2, 4] rfl (wX1_tell_74 hC hT hG hnl fu kn25 hk25 M43 x1 x2 x4 0 x3)
    · refine j_iconst (v := 1) hC dX1_tell_66 (by decide) ?_
      refine j_iload hC 4 dX1_tell_67 rfl ?_
      refine j_ishl hC dX1_tell_69 ?_
      refine j_goto (tgt := 74) hC dX1_tell_70 (by decide) ?_
      exact j_sub [0, 1, 2, 4] rfl (wX1_tell_74 hC hT hG hnl fu kn25 hk25 M43 x1 x2 x4 (1 <<< (x4 &&& 31)) x3)
set_option linter.unusedVariables false in
set_option maxRecDepth 100000 in
theorem wX1_tell_25 {X : JX} (hC : JC X cX1_tell RX1 (some .int) 39 1440 2 12) (hT : JT X) (hG : dmI dmX (XG X)) (hnl : nLof X = 5) (fu : Nat) (M : Mem) (x1 x2 x3 x4 : Int32) : J X (ZT X foI 2 12) (FX1_tell_25 fu (XD X) M x1 x2 x3 x4) 25 [(0, .ref (gadr (XG X) (4, 0, 0))), (1, .int x1), (2, .int x2), (3, .int x3), (4, .int x4)] [] M 2 12 := by
  exact j_lp (lvf := fun z => [(0, .ref (gadr (XG X) (4, 0, 0))), (1, .int (z.2.1)), (2, .int (z.2.2.1)), (3, .int (z.2.2.2.1)), (4, .int (z.2.2.2.2))]) (Mf := fun z => z.1) (fun kn hk z => wgX1_tell_25 hC hT hG hnl fu kn (fun M x1 x2 x3 x4 => hk (M, x1, x2, x3, x4)) z.1 z.2.1 z.2.2.1 z.2.2.2.1 z.2.2.2.2) fu (M, x1, x2, x3, x4)
set_option linter.unusedVariables false in
set_option maxRecDepth 100000 in
theorem wX1_tell {X : JX} (hC : JC X cX1_tell RX1 (some .int) 39 1440 2 12) (hT : JT X) (hG : dmI dmX (XG X)) (hnl : nLof X = 5) (fu : Nat) (M : Mem) (x1 x2 : Int32) : J X (ZT X foI 2 12) (FX1_tell fu (XD X) M x1 x2) 0 [(0, .ref (gadr (XG X) (4, 0, 0))), (1, .int x1), (2, .int x2)] [] M 0 0 := by
  unfold FX1_tell
  refine j_iload_n hC 1 dX1_tell_0 rfl ?_
  refine j_iconst (v := 0) hC dX1_tell_1 (by decide) ?_
  refine j_bipush (v := 15) hC dX1_tell_2 (by decide) ?_
  refine j_callS (nA := 3) (rest := []) hC [.int x1, .int 0, .int 15] rfl (fun r hr => mX1_isIn (XL X) (XG X) hG fu (XD X) M x1 0 15 r hr) q558 q559 q126 q560 (by decide +kernel) rfl rfl rfl rfl rfl rfl dX1_tell_4 (fun v4 => [.int v4]) (fun _ => rfl) (fun v4 M4 => ?_)
  refine j_callST (nA := 1) (rest := []) hC hT [.int v4] rfl (fun r hr => mX1_mustBe (XL X) (JT.st hT) (XG X) hG fu (XD X) M4 v4 r hr) q1093 q1094 q126 q1095 (by decide +kernel) rfl rfl rfl rfl rfl rfl dX1_tell_7 (fun _ => []) (fun _ => rfl) (fun v7 M7 => ?_)
  refine j_iload_n hC 2 dX1_tell_10 rfl ?_
  refine j_iconst (v := 1) hC dX1_tell_11 (by decide) ?_
  refine j_bipush (v := 8) hC dX1_tell_12 (by decide) ?_
  refine j_callS (nA := 3) (rest := []) hC [.int x2, .int 1, .int 8] rfl (fun r hr => mX1_isIn (XL X) (XG X) hG fu (XD X) M7 x2 1 8 r hr) q558 q559 q126 q560 (by decide +kernel) rfl rfl rfl rfl rfl rfl dX1_tell_14 (fun v14 => [.int v14]) (fun _ => rfl) (fun v14 M14 => ?_)
  refine j_callST (nA := 1) (rest := []) hC hT [.int v14] rfl (fun r hr => mX1_must (XL X) (JT.st hT) (XG X) hG fu (XD X) M14 v14 r hr) q1167 q1168 q126 q1169 (by decide +kernel) rfl rfl rfl rfl rfl rfl dX1_tell_17 (fun _ => []) (fun _ => rfl) (fun v17 M17 => ?_)
  refine j_iconst (v := 0) hC dX1_tell_20 (by decide) ?_
  refine j_istore_n hC [(3, .int 0), (0, .ref (gadr (XG X) (4, 0, 0))), (1, .int x1), (2, .int x2)] hnl dX1_tell_21 rfl rfl ?_
  refine j_iconst (v := 0) hC dX1_tell_22 (by decide) ?_
  refine j_istore hC [(4, .int 0), (3, .int 0), (0, .ref (gadr (XG X) (4, 0, 0))), (1, .int x1), (2, .int x2)] hnl dX1_tell_23 rfl rfl ?_
  exact j_sub [2, 3, 4, 1, 0] rfl (wX1_tell_25 hC hT hG hnl fu M17 x1 x2 0 0)
set_option linter.unusedVariables false in
set_option maxRecDepth 100000 in
theorem mX1_tell (l : Launch) (hst : l.stackTraces = false) (Γ : xG) (hG : dmI dmX Γ) (fu : Nat) (D : List LDen) (M : Mem) (x1 x2 : Int32) (r : TR) (hr : FX1_tell fu D M x1 x2 = some r) : CT l yX1_tell (ws_ yX1_tell cX1_tell 5 (some .int)) 39 1440 2 12 Γ D [.ref (gadr Γ (4, 0, 0)), .int x1, .int x2] M foI r := by
  refine CT.of hst (own := RX1) (lv0 := lv_args 0 [.ref (gadr Γ (4, 0, 0)), .int x1, .int x2]) (by decide +kernel) rfl (Nat.le_of_ble_eq_true rfl) rfl (fun X e1 e2 e3 e4 hC hT => ?_) r hr
  subst e1
  subst e2
  exact wX1_tell hC hT hG e4 fu M x1 x2
set_option linter.unusedVariables false in
set_option maxRecDepth 100000 in
theorem wgX1_lasts_24 {X : JX} (hC : JC X cX1_lasts RX1 (some .int) 8 134 3 18) (hT : JT X) (hG : dmI dmX (XG X)) (hnl : nLof X = 5) (fu : Nat) (kn24 : Mem × Int32 × Int32 × Int32 × Int32 → Option TR) (hk24 : ∀ (M : Mem) (x1 x2 x3 x4 : Int32), J X (ZT X foI 3 18) (kn24 (M, x1, x2, x3, x4)) 24 [(0, .ref (gadr (XG X) (4, 0, 0))), (1, .int x1), (2, .int x2), (3, .int x3), (4, .int x4)] [] M 3 18) (M : Mem) (x1 x2 x3 x4 : Int32) : J X (ZT X foI 3 18) (GX1_lasts_24 fu (XD X) kn24 M x1 x2 x3 x4) 24 [(0, .ref (gadr (XG X) (4, 0, 0))), (1, .int x1), (2, .int x2), (3, .int x3), (4, .int x4)] [] M 3 18 := by
  unfold GX1_lasts_24
  refine j_iload hC 4 dX1_lasts_24 rfl ?_
  refine j_bipush (v := 99) hC dX1_lasts_26 (by decide) ?_
  refine j_icmp_gt (tgt := 69) hC dX1_lasts_28 (by decide) (fun h28 => ?_) (fun h28 => ?_)
  · refine j_iconst (v := (-1)) hC dX1_lasts_69 (by decide) ?_
    exact j_iretT hC rfl rfl dX1_lasts_70
  · refine j_aload_n hC 0 dX1_lasts_31 rfl ?_
    refine j_getR (fk := 1) hC (dmY hG rfl) rfl rfl in_X1 rfl rfl q496 rfl dX1_lasts_32 ?_
    refine j_iload_n hC 1 dX1_lasts_35 rfl ?_
    refine j_iload_n hC 2 dX1_lasts_36 rfl ?_
    refine j_callV (nA := 2) (rest := []) hC [.int x1, .int x2] rfl (fun r hr => mX3_stock (XL X) (XG X) hG fu (XD X) 0 (by decide) M x1 x2 r hr) q676 q677 q678 q128 q679 (dmS hG (by decide) rfl) rfl rfl (by decide +kernel) rfl rfl rfl rfl rfl rfl dX1_lasts_37 (fun v37 => [.int v37]) (fun _ => rfl) (fun v37 M37 => ?_)
    refine j_iload hC 4 dX1_lasts_40 rfl ?_
    refine j_aload_n hC 0 dX1_lasts_42 rfl ?_
    refine j_getR (fk := 1) hC (dmY hG rfl) rfl rfl in_X1 rfl rfl q496 rfl dX1_lasts_43 ?_
    refine j_getNR (fk := 0) hC (dmS hG (by decide) rfl) rfl rfl in_X3 rfl rfl q257 rfl dX1_lasts_46 ?_
    refine j_iload_n hC 2 dX1_lasts_49 rfl ?_
    refine j_aald3 (d := (1, 0, x2.toNatClampNeg)) hC (dmS hG (by decide) rfl) rfl rfl dX1_lasts_50 (fun h50 => ?_)
    refine j_getNI (fk := 3) hC (dmB hG (by decide) (vin_lt h50)) rfl rfl in_X4 rfl rfl q214 rfl dX1_lasts_51 ?_
    refine j_imul hC dX1_lasts_54 ?_
    refine j_iadd hC dX1_lasts_55 ?_
    refine j_iload_n hC 3 dX1_lasts_56 rfl ?_
    refine j_icmp_lt (tgt := 63) hC dX1_lasts_57 (by decide) (fun h57 => ?_) (fun h57 => ?_)
    · refine j_iincL hC 4 (fun y63 => [(4, .int y63), (0, .ref (gadr (XG X) (4, 0, 0))), (1, .int x1), (2, .int x2), (3, .int x3)]) hnl dX1_lasts_63 rfl (by decide) rfl (fun _ => rfl) (fun y63 => ?_)
      refine j_goto (tgt := 24) hC dX1_lasts_66 (by decide) ?_
      exact j_sub [1, 2, 3, 4, 0] rfl (hk24 M37 x1 x2 x3 y63)
    · refine j_iload hC 4 dX1_lasts_60 rfl ?_
      exact j_iretT hC rfl rfl dX1_lasts_62
set_option linter.unusedVariables false in
set_option maxRecDepth 100000 in
theorem wX1_lasts_24 {X : JX} (hC : JC X cX1_lasts RX1 (some .int) 8 134 3 18) (hT : JT X) (hG : dmI dmX (XG X)) (hnl : nLof X = 5) (fu : Nat) (M : Mem) (x1 x2 x3 x4 : Int32) : J X (ZT X foI 3 18) (FX1_lasts_24 fu (XD X) M x1 x2 x3 x4) 24 [(0, .ref (gadr (XG X) (4, 0, 0))), (1, .int x1), (2, .int x2), (3, .int x3), (4, .int x4)] [] M 3 18 := by
  exact j_lp (lvf := fun z => [(0, .ref (gadr (XG X) (4, 0, 0))), (1, .int (z.2.1)), (2, .int (z.2.2.1)), (3, .int (z.2.2.2.1)), (4, .int (z.2.2.2.2))]) (Mf := fun z => z.1) (fun kn hk z => wgX1_lasts_24 hC hT hG hnl fu kn (fun M x1 x2 x3 x4 => hk (M, x1, x2, x3, x4)) z.1 z.2.1 z.2.2.1 z.2.2.2.1 z.2.2.2.2) fu (M, x1, x2, x3, x4)
set_option linter.unusedVariables false in
set_option maxRecDepth 100000 in
theorem wX1_lasts {X : JX} (hC : JC X cX1_lasts RX1 (some .int) 8 134 3 18) (hT : JT X) (hG : dmI dmX (XG X)) (hnl : nLof X = 5) (fu : Nat) (M : Mem) (x1 x2 x3 : Int32) : J X (ZT X foI 3 18) (FX1_lasts fu (XD X) M x1 x2 x3) 0 [(0, .ref (gadr (XG X) (4, 0, 0))), (1, .int x1), (2, .int x2), (3, .int x3)] [] M 0 0 := by
  unfold FX1_lasts
  refine j_aload_n hC 0 dX1_lasts_0 rfl ?_
  refine j_iload_n hC 1 dX1_lasts_1 rfl ?_
  refine j_callVT (nA := 1) (rest := []) hC hT [.int x1] rfl (fun r hr => mX1_isCounsel (XL X) (JT.st hT) (XG X) hG fu (XD X) M x1 r hr) q1133 q1135 qs31 q126 q1136 (dmY hG rfl) rfl rfl (by decide +kernel) rfl rfl rfl rfl rfl rfl dX1_lasts_2 (fun _ => []) (fun _ => rfl) (fun v2 M2 => ?_)
  refine j_aload_n hC 0 dX1_lasts_5 rfl ?_
  refine j_iload_n hC 2 dX1_lasts_6 rfl ?_
  refine j_callVT (nA := 1) (rest := []) hC hT [.int x2] rfl (fun r hr => mX1_birdAt (XL X) (JT.st hT) (XG X) hG fu (XD X) M2 x2 r hr) q1089 q1091 qs30 q126 q1092 (dmY hG rfl) rfl rfl (by decide +kernel) rfl rfl rfl rfl rfl rfl dX1_lasts_7 (fun v7 => [.ref (gadr (XG X) (1, 0, v7.toNatClampNeg))]) (fun _ => rfl) (fun v7 M7 => ?_)
  refine j_gd (fun h7 => ?_)
  refine j_pop hC dX1_lasts_10 rfl ?_
  refine j_iload_n hC 3 dX1_lasts_11 rfl ?_
  refine j_iconst (v := 1) hC dX1_lasts_12 (by decide) ?_
  refine j_bipush (v := 99) hC dX1_lasts_13 (by decide) ?_
  refine j_callS (nA := 3) (rest := []) hC [.int x3, .int 1, .int 99] rfl (fun r hr => mX1_isIn (XL X) (XG X) hG fu (XD X) M7 x3 1 99 r hr) q558 q559 q126 q560 (by decide +kernel) rfl rfl rfl rfl rfl rfl dX1_lasts_15 (fun v15 => [.int v15]) (fun _ => rfl) (fun v15 M15 => ?_)
  refine j_callST (nA := 1) (rest := []) hC hT [.int v15] rfl (fun r hr => mX1_must (XL X) (JT.st hT) (XG X) hG fu (XD X) M15 v15 r hr) q1167 q1168 q126 q1169 (by decide +kernel) rfl rfl rfl rfl rfl rfl dX1_lasts_18 (fun _ => []) (fun _ => rfl) (fun v18 M18 => ?_)
  refine j_iconst (v := 0) hC dX1_lasts_21 (by decide) ?_
  refine j_istore hC [(4, .int 0), (0, .ref (gadr (XG X) (4, 0, 0))), (1, .int x1), (2, .int x2), (3, .int x3)] hnl dX1_lasts_22 rfl rfl ?_
  exact j_sub [1, 2, 3, 4, 0] rfl (wX1_lasts_24 hC hT hG hnl fu M18 x1 x2 x3 0)
set_option linter.unusedVariables false in
set_option maxRecDepth 100000 in
theorem mX1_lasts (l : Launch) (hst : l.stackTraces = false) (Γ : xG) (hG : dmI dmX Γ) (fu : Nat) (D : List LDen) (M : Mem) (x1 x2 x3 : Int32) (r : TR) (hr : FX1_lasts fu D M x1 x2 x3 = some r) : CT l yX1_lasts (ws_ yX1_lasts cX1_lasts 5 (some .int)) 8 134 3 18 Γ D [.ref (gadr Γ (4, 0, 0)), .int x1, .int x2, .int x3] M foI r := by
  refine CT.of hst (own := RX1) (lv0 := lv_args 0 [.ref (gadr Γ (4, 0, 0)), .int x1, .int x2, .int x3]) (by decide +kernel) rfl (Nat.le_of_ble_eq_true rfl) rfl (fun X e1 e2 e3 e4 hC hT => ?_) r hr
  subst e1
  subst e2
  exact wX1_lasts hC hT hG e4 fu M x1 x2 x3
set_option linter.unusedVariables false in
set_option maxRecDepth 100000 in
theorem wX1_won_97 {X : JX} (hC : JC X cX1_won RX1 (some .int) 8 134 1 6) (hT : JT X) (hG : dmI dmX (XG X)) (hnl : nLof X = 7) (fu : Nat) (kn10 : Mem × Int32 × Int32 × Int32 × Int32 → Option TR) (hk10 : ∀ (M : Mem) (x1 x2 x3 x4 : Int32), J X (ZT X foI 1 6) (kn10 (M, x1, x2, x3, x4)) 10 [(0, .ref (gadr (XG X) (4, 0, 0))), (1, .int x1), (2, .int x2), (3, .int x3), (4, .int x4)] [] M 1 6) (M : Mem) (x1 x2 x3 x4 : Int32) : J X (ZT X foI 1 6) (FX1_won_97 fu (XD X) kn10 M x1 x2 x3 x4) 97 [(0, .ref (gadr (XG X) (4, 0, 0))), (1, .int x1), (2, .int x2), (3, .int x3), (4, .int x4)] [] M 1 6 := by
  unfold FX1_won_97
  refine j_iincL hC 4 (fun y97 => [(4, .int y97), (0, .ref (gadr (XG X) (4, 0, 0))), (1, .int x1), (2, .int x2), (3, .int x3)]) hnl dX1_won_97 rfl (by decide) rfl (fun _ => rfl) (fun y97 => ?_)
  refine j_goto (tgt := 10) hC dX1_won_100 (by decide) ?_
  exact j_sub [1, 2, 3, 4, 0] rfl (hk10 M x1 x2 x3 y97)
set_option linter.unusedVariables false in
set_option maxRecDepth 100000 in
theorem wX1_won_95 {X : JX} (hC : JC X cX1_won RX1 (some .int) 8 134 1 6) (hT : JT X) (hG : dmI dmX (XG X)) (hnl : nLof X = 7) (fu : Nat) (kn10 : Mem × Int32 × Int32 × Int32 × Int32 → Option TR) (hk10 : ∀ (M : Mem) (x1 x2 x3 x4 : Int32), J X (ZT X foI 1 6) (kn10 (M, x1, x2, x3, x4)) 10 [(0, .ref (gadr (XG X) (4, 0, 0))), (1, .int x1), (2, .int x2), (3, .int x3), (4, .int x4)] [] M 1 6) (M : Mem) (x1 x2 x4 t0 t1 : Int32) : J X (ZT X foI 1 6) (FX1_won_95 fu (XD X) kn10 M x1 x2 x4 t0 t1) 95 [(0, .ref (gadr (XG X) (4, 0, 0))), (1, .int x1), (2, .int x2), (4, .int x4)] [.int t0, .int t1] M 1 6 := by
  unfold FX1_won_95
  refine j_iadd hC dX1_won_95 ?_
  refine j_ltT (fun y96 => ?_)
  refine j_istore_n hC [(3, .int y96), (0, .ref (gadr (XG X) (4, 0, 0))), (1, .int x1), (2, .int x2), (4, .int x4)] hnl dX1_won_96 rfl rfl ?_
  exact j_sub [1, 2, 3, 0, 4] rfl (wX1_won_97 hC hT hG hnl fu kn10 hk10 M x1 x2 y96 x4)
set_option linter.unusedVariables false in
set_option maxRecDepth 100000 in
theorem wX1_won_87 {X : JX} (hC : JC X cX1_won RX1 (some .int) 8 134 1 6) (hT : JT X) (hG : dmI dmX (XG X)) (hnl : nLof X = 7) (fu : Nat) (kn10 : Mem × Int32 × Int32 × Int32 × Int32 → Option TR) (hk10 : ∀ (M : Mem) (x1 x2 x3 x4 : Int32), J X (ZT X foI 1 6) (kn10 (M, x1, x2, x3, x4)) 10 [(0, .ref (gadr (XG X) (4, 0, 0))), (1, .int x1), (2, .int x2), (3, .int x3), (4, .int x4)] [] M 1 6) (M : Mem) (x1 x2 x4 t0 t1 t2 : Int32) : J X (ZT X foI 1 6) (FX1_won_87 fu (XD X) kn10 M x1 x2 x4 t0 t1 t2) 87 [(0, .ref (gadr (XG X) (4, 0, 0))), (1, .int x1), (2, .int x2), (4, .int x4)] [.int t0, .int t1, .int t2] M 1 6 := by
  unfold FX1_won_87
  refine j_icmp_ne (tgt := 94) hC dX1_won_87 (by decide) (fun h87 => ?_) (fun h87 => ?_)
  · refine j_iconst (v := 1) hC dX1_won_90 (by decide) ?_
    refine j_goto (tgt := 95) hC dX1_won_91 (by decide) ?_
    exact j_sub [0, 1, 2, 3] rfl (wX1_won_95 hC hT hG hnl fu kn10 hk10 M x1 x2 x4 1 t2)
  · refine j_iconst (v := 0) hC dX1_won_94 (by decide) ?_
    exact j_sub [0, 1, 2, 3] rfl (wX1_won_95 hC hT hG hnl fu kn10 hk10 M x1 x2 x4 0 t2)
set_option linter.unusedVariables false in
set_option maxRecDepth 100000 in
theorem wX1_won_61 {X : JX} (hC : JC X cX1_won RX1 (some .int) 8 134 1 6) (hT : JT X) (hG : dmI dmX (XG X)) (hnl : nLof X = 7) (fu : Nat) (n5 : Nat) (hn5 : n5 < 12) (kn10 : Mem × Int32 × Int32 × Int32 × Int32 → Option TR) (hk10 : ∀ (M : Mem) (x1 x2 x3 x4 : Int32), J X (ZT X foI 1 6) (kn10 (M, x1, x2, x3, x4)) 10 [(0, .ref (gadr (XG X) (4, 0, 0))), (1, .int x1), (2, .int x2), (3, .int x3), (4, .int x4)] [] M 1 6) (M : Mem) (x1 x2 x3 x4 t0 : Int32) : J X (ZT X foI 1 6) (FX1_won_61 fu (XD X) kn10 n5 M x1 x2 x3 x4 t0) 61 [(0, .ref (gadr (XG X) (4, 0, 0))), (1, .int x1), (2, .int x2), (3, .int x3), (4, .int x4), (5, .ref (gadr (XG X) (2, 0, n5)))] [.int t0] M 1 6 := by
  unfold FX1_won_61
  refine j_istore hC [(6, .int t0), (0, .ref (gadr (XG X) (4, 0, 0))), (1, .int x1), (2, .int x2), (3, .int x3), (4, .int x4), (5, .ref (gadr (XG X) (2, 0, n5)))] hnl dX1_won_61 rfl rfl ?_
  refine j_iload hC 0 dX1_won_63 rfl ?_
  refine j_if_le (tgt := 97) hC dX1_won_65 (by decide) (fun h65 => ?_) (fun h65 => ?_)
  · exact j_sub [1, 2, 3, 4, 5] rfl (wX1_won_97 hC hT hG hnl fu kn10 hk10 M x1 x2 x3 x4)
  · refine j_iload_n hC 4 dX1_won_68 rfl ?_
    refine j_aload hC 6 dX1_won_69 rfl ?_
    refine j_getNI (fk := 3) hC (dmC hG (by decide) hn5) rfl rfl in_X5 rfl rfl q245 rfl dX1_won_71 ?_
    refine j_iload_n hC 3 dX1_won_74 rfl ?_
    refine j_if_eq (tgt := 85) hC dX1_won_75 (by decide) (fun h75 => ?_) (fun h75 => ?_)
    · refine j_iload hC 0 dX1_won_85 rfl ?_
      exact j_sub [1, 2, 3, 5] rfl (wX1_won_87 hC hT hG hnl fu kn10 hk10 M x1 x2 x4 t0 (M (2, 0, n5) 3) x3)
    · refine j_iconst (v := 3) hC dX1_won_78 (by decide) ?_
      refine j_iload hC 0 dX1_won_79 rfl ?_
      refine j_isub hC dX1_won_81 ?_
      refine j_goto (tgt := 87) hC dX1_won_82 (by decide) ?_
      exact j_sub [1, 2, 3, 5] rfl (wX1_won_87 hC hT hG hnl fu kn10 hk10 M x1 x2 x4 (3 - t0) (M (2, 0, n5) 3) x3)
set_option linter.unusedVariables false in
set_option maxRecDepth 100000 in
theorem wgX1_won_10 {X : JX} (hC : JC X cX1_won RX1 (some .int) 8 134 1 6) (hT : JT X) (hG : dmI dmX (XG X)) (hnl : nLof X = 7) (fu : Nat) (kn10 : Mem × Int32 × Int32 × Int32 × Int32 → Option TR) (hk10 : ∀ (M : Mem) (x1 x2 x3 x4 : Int32), J X (ZT X foI 1 6) (kn10 (M, x1, x2, x3, x4)) 10 [(0, .ref (gadr (XG X) (4, 0, 0))), (1, .int x1), (2, .int x2), (3, .int x3), (4, .int x4)] [] M 1 6) (M : Mem) (x1 x2 x3 x4 : Int32) : J X (ZT X foI 1 6) (GX1_won_10 fu (XD X) kn10 M x1 x2 x3 x4) 10 [(0, .ref (gadr (XG X) (4, 0, 0))), (1, .int x1), (2, .int x2), (3, .int x3), (4, .int x4)] [] M 1 6 := by
  unfold GX1_won_10
  refine j_iload hC 4 dX1_won_10 rfl ?_
  refine j_aload_n hC 0 dX1_won_12 rfl ?_
  refine j_getR (fk := 1) hC (dmY hG rfl) rfl rfl in_X1 rfl rfl q496 rfl dX1_won_13 ?_
  refine j_getNI (fk := 9) hC (dmS hG (by decide) rfl) rfl rfl in_X3 rfl rfl q279 rfl dX1_won_16 ?_
  refine j_icmp_ge (tgt := 103) hC dX1_won_19 (by decide) (fun h19 => ?_) (fun h19 => ?_)
  · refine j_iload_n hC 3 dX1_won_103 rfl ?_
    exact j_iretT hC rfl rfl dX1_won_104
  · refine j_aload_n hC 0 dX1_won_22 rfl ?_
    refine j_getR (fk := 1) hC (dmY hG rfl) rfl rfl in_X1 rfl rfl q496 rfl dX1_won_23 ?_
    refine j_getNR (fk := 1) hC (dmS hG (by decide) rfl) rfl rfl in_X3 rfl rfl q260 rfl dX1_won_26 ?_
    refine j_iload hC 4 dX1_won_29 rfl ?_
    refine j_aald4 (d := (2, 0, x4.toNatClampNeg)) hC (dmS hG (by decide) rfl) rfl rfl dX1_won_31 (fun h31 => ?_)
    refine j_astore hC [(5, .ref (gadr (XG X) (2, 0, x4.toNatClampNeg))), (0, .ref (gadr (XG X) (4, 0, 0))), (1, .int x1), (2, .int x2), (3, .int x3), (4, .int x4)] hnl dX1_won_32 rfl rfl ?_
    refine j_aload hC 0 dX1_won_34 rfl ?_
    refine j_getNI (fk := 0) hC (dmC hG (by decide) (vin_lt h31)) rfl rfl in_X5 rfl rfl q234 rfl dX1_won_36 ?_
    refine j_iload_n hC 2 dX1_won_39 rfl ?_
    refine j_icmp_ne (tgt := 47) hC dX1_won_40 (by decide) (fun h40 => ?_) (fun h40 => ?_)
    · refine j_iconst (v := 1) hC dX1_won_43 (by decide) ?_
      refine j_goto (tgt := 61) hC dX1_won_44 (by decide) ?_
      exact j_sub [1, 2, 3, 4, 5, 0] rfl (wX1_won_61 hC hT hG hnl fu (x4.toNatClampNeg) (vin_lt h31) kn10 hk10 M x1 x2 x3 x4 1)
    · refine j_aload hC 0 dX1_won_47 rfl ?_
      refine j_getNI (fk := 1) hC (dmC hG (by decide) (vin_lt h31)) rfl rfl in_X5 rfl rfl q238 rfl dX1_won_49 ?_
      refine j_iload_n hC 2 dX1_won_52 rfl ?_
      refine j_icmp_ne (tgt := 60) hC dX1_won_53 (by decide) (fun h53 => ?_) (fun h53 => ?_)
      · refine j_iconst (v := 2) hC dX1_won_56 (by decide) ?_
        refine j_goto (tgt := 61) hC dX1_won_57 (by decide) ?_
        exact j_sub [1, 2, 3, 4, 5, 0] rfl (wX1_won_61 hC hT hG hnl fu (x4.toNatClampNeg) (vin_lt h31) kn10 hk10 M x1 x2 x3 x4 2)
      · refine j_iconst (v := 0) hC dX1_won_60 (by decide) ?_
        exact j_sub [1, 2, 3, 4, 5, 0] rfl (wX1_won_61 hC hT hG hnl fu (x4.toNatClampNeg) (vin_lt h31) kn10 hk10 M x1 x2 x3 x4 0)
set_option linter.unusedVariables false in
set_option maxRecDepth 100000 in
theorem wX1_won_10 {X : JX} (hC : JC X cX1_won RX1 (some .int) 8 134 1 6) (hT : JT X) (hG : dmI dmX (XG X)) (hnl : nLof X = 7) (fu : Nat) (M : Mem) (x1 x2 x3 x4 : Int32) : J X (ZT X foI 1 6) (FX1_won_10 fu (XD X) M x1 x2 x3 x4) 10 [(0, .ref (gadr (XG X) (4, 0, 0))), (1, .int x1), (2, .int x2), (3, .int x3), (4, .int x4)] [] M 1 6 := by
  exact j_lp (lvf := fun z => [(0, .ref (gadr (XG X) (4, 0, 0))), (1, .int (z.2.1)), (2, .int (z.2.2.1)), (3, .int (z.2.2.2.1)), (4, .int (z.2.2.2.2))]) (Mf := fun z => z.1) (fun kn hk z => wgX1_won_10 hC hT hG hnl fu kn (fun M x1 x2 x3 x4 => hk (M, x1, x2, x3, x4)) z.1 z.2.1 z.2.2.1 z.2.2.2.1 z.2.2.2.2) fu (M, x1, x2, x3, x4)
set_option linter.unusedVariables false in
set_option maxRecDepth 100000 in
theorem wX1_won {X : JX} (hC : JC X cX1_won RX1 (some .int) 8 134 1 6) (hT : JT X) (hG : dmI dmX (XG X)) (hnl : nLof X = 7) (fu : Nat) (M : Mem) (x1 x2 : Int32) : J X (ZT X foI 1 6) (FX1_won fu (XD X) M x1 x2) 0 [(0, .ref (gadr (XG X) (4, 0, 0))), (1, .int x1), (2, .int x2)] [] M 0 0 := by
  unfold FX1_won
  refine j_aload_n hC 0 dX1_won_0 rfl ?_
  refine j_iload_n hC 1 dX1_won_1 rfl ?_
  refine j_callVT (nA := 1) (rest := []) hC hT [.int x1] rfl (fun r hr => mX1_isCounsel (XL X) (JT.st hT) (XG X) hG fu (XD X) M x1 r hr) q1133 q1135 qs31 q126 q1136 (dmY hG rfl) rfl rfl (by decide +kernel) rfl rfl rfl rfl rfl rfl dX1_won_2 (fun _ => []) (fun _ => rfl) (fun v2 M2 => ?_)
  refine j_iconst (v := 0) hC dX1_won_5 (by decide) ?_
  refine j_istore_n hC [(3, .int 0), (0, .ref (gadr (XG X) (4, 0, 0))), (1, .int x1), (2, .int x2)] hnl dX1_won_6 rfl rfl ?_
  refine j_iconst (v := 0) hC dX1_won_7 (by decide) ?_
  refine j_istore hC [(4, .int 0), (3, .int 0), (0, .ref (gadr (XG X) (4, 0, 0))), (1, .int x1), (2, .int x2)] hnl dX1_won_8 rfl rfl ?_
  exact j_sub [2, 3, 4, 1, 0] rfl (wX1_won_10 hC hT hG hnl fu M2 x1 x2 0 0)
set_option linter.unusedVariables false in
set_option maxRecDepth 100000 in
theorem mX1_won (l : Launch) (hst : l.stackTraces = false) (Γ : xG) (hG : dmI dmX Γ) (fu : Nat) (D : List LDen) (M : Mem) (x1 x2 : Int32) (r : TR) (hr : FX1_won fu D M x1 x2 = some r) : CT l yX1_won (ws_ yX1_won cX1_won 7 (some .int)) 8 134 1 6 Γ D [.ref (gadr Γ (4, 0, 0)), .int x1, .int x2] M foI r := by
  refine CT.of hst (own := RX1) (lv0 := lv_args 0 [.ref (gadr Γ (4, 0, 0)), .int x1, .int x2]) (by decide +kernel) rfl (Nat.le_of_ble_eq_true rfl) rfl (fun X e1 e2 e3 e4 hC hT => ?_) r hr
  subst e1
  subst e2
  exact wX1_won hC hT hG e4 fu M x1 x2
set_option linter.unusedVariables false in
set_option maxRecDepth 100000 in
theorem wX1_widest_104 {X : JX} (hC : JC X cX1_widest RX1 (some .int) 39 1440 1 6) (hT : JT X) (hG : dmI dmX (XG X)) (hnl : nLof X = 7) (fu : Nat) (kn39 : Mem × Int32 × Int32 × Int32 × Int32 × Int32 × Int32 → Option TR) (hk39 : ∀ (M : Mem) (x1 x2 x3 x4 x5 x6 : Int32), J X (ZT X foI 1 6) (kn39 (M, x1, x2, x3, x4, x5, x6)) 39 [(0, .ref (gadr (XG X) (4, 0, 0))), (1, .int x1), (2, .int x2), (3, .int x3), (4, .int x4), (5, .int x5), (6, .int x6)] [] M 1 6) (M : Mem) (x1 x2 x3 x4 x5 x6 : Int32) : J X (ZT X foI 1 6) (FX1_widest_104 fu (XD X) kn39 M x1 x2 x3 x4 x5 x6) 104 [(0, .ref (gadr (XG X) (4, 0, 0))), (1, .int x1), (2, .int x2), (3, .int x3), (4, .int x4), (5, .int x5), (6, .int x6)] [] M 1 6 := by
  unfold FX1_widest_104
  refine j_iincL hC 6 (fun y104 => [(6, .int y104), (0, .ref (gadr (XG X) (4, 0, 0))), (1, .int x1), (2, .int x2), (3, .int x3), (4, .int x4), (5, .int x5)]) hnl dX1_widest_104 rfl (by decide) rfl (fun _ => rfl) (fun y104 => ?_)
  refine j_goto (tgt := 39) hC dX1_widest_107 (by decide) ?_
  exact j_sub [1, 2, 3, 4, 5, 6, 0] rfl (hk39 M x1 x2 x3 x4 x5 y104)
set_option linter.unusedVariables false in
set_option maxRecDepth 100000 in
theorem wgX1_widest_39 {X : JX} (hC : JC X cX1_widest RX1 (some .int) 39 1440 1 6) (hT : JT X) (hG : dmI dmX (XG X)) (hnl : nLof X = 7) (fu : Nat) (kn39 : Mem × Int32 × Int32 × Int32 × Int32 × Int32 × Int32 → Option TR) (hk39 : ∀ (M : Mem) (x1 x2 x3 x4 x5 x6 : Int32), J X (ZT X foI 1 6) (kn39 (M, x1, x2, x3, x4, x5, x6)) 39 [(0, .ref (gadr (XG X) (4, 0, 0))), (1, .int x1), (2, .int x2), (3, .int x3), (4, .int x4), (5, .int x5), (6, .int x6)] [] M 1 6) (M : Mem) (x1 x2 x3 x4 x5 x6 : Int32) : J X (ZT X foI 1 6) (GX1_widest_39 fu (XD X) kn39 M x1 x2 x3 x4 x5 x6) 39 [(0, .ref (gadr (XG X) (4, 0, 0))), (1, .int x1), (2, .int x2), (3, .int x3), (4, .int x4), (5, .int x5), (6, .int x6)] [] M 1 6 := by
  unfold GX1_widest_39
  refine j_iload hC 6 dX1_widest_39 rfl ?_
  refine j_iload_n hC 3 dX1_widest_41 rfl ?_
  refine j_iadd hC dX1_widest_42 ?_
  refine j_bipush (v := 16) hC dX1_widest_43 (by decide) ?_
  refine j_icmp_ge (tgt := 110) hC dX1_widest_45 (by decide) (fun h45 => ?_) (fun h45 => ?_)
  · refine j_aload_n hC 0 dX1_widest_110 rfl ?_
    refine j_getR (fk := 1) hC (dmY hG rfl) rfl rfl in_X1 rfl rfl q496 rfl dX1_widest_111 ?_
    refine j_iload_n hC 2 dX1_widest_114 rfl ?_
    refine j_putN (fk := 14) (ty := .int) hC (dmS hG (by decide) rfl) rfl rfl in_X3 rfl rfl q295 tyX3 tyX3_ok nmX3 rfl rfl (by decide +kernel) rfl rfl dX1_widest_115 ?_
    refine j_lt (fun M115 => ?_)
    refine j_aload_n hC 0 dX1_widest_118 rfl ?_
    refine j_getR (fk := 1) hC (dmY hG rfl) rfl rfl in_X1 rfl rfl q496 rfl dX1_widest_119 ?_
    refine j_iload_n hC 2 dX1_widest_122 rfl ?_
    refine j_iload_n hC 3 dX1_widest_123 rfl ?_
    refine j_iadd hC dX1_widest_124 ?_
    refine j_putN (fk := 15) (ty := .int) hC (dmS hG (by decide) rfl) rfl rfl in_X3 rfl rfl q298 tyX3 tyX3_ok nmX3 rfl rfl (by decide +kernel) rfl rfl dX1_widest_125 ?_
    refine j_lt (fun M125 => ?_)
    refine j_iload hC 4 dX1_widest_128 rfl ?_
    exact j_iretT hC rfl rfl dX1_widest_130
  · refine j_aload_n hC 0 dX1_widest_48 rfl ?_
    refine j_getR (fk := 1) hC (dmY hG rfl) rfl rfl in_X1 rfl rfl q496 rfl dX1_widest_49 ?_
    refine j_iload hC 6 dX1_widest_52 rfl ?_
    refine j_putN (fk := 14) (ty := .int) hC (dmS hG (by decide) rfl) rfl rfl in_X3 rfl rfl q295 tyX3 tyX3_ok nmX3 rfl rfl (by decide +kernel) rfl rfl dX1_widest_54 ?_
    refine j_lt (fun M54 => ?_)
    refine j_aload_n hC 0 dX1_widest_57 rfl ?_
    refine j_getR (fk := 1) hC (dmY hG rfl) rfl rfl in_X1 rfl rfl q496 rfl dX1_widest_58 ?_
    refine j_iload hC 6 dX1_widest_61 rfl ?_
    refine j_iload_n hC 3 dX1_widest_63 rfl ?_
    refine j_iadd hC dX1_widest_64 ?_
    refine j_putN (fk := 15) (ty := .int) hC (dmS hG (by decide) rfl) rfl rfl in_X3 rfl rfl q298 tyX3 tyX3_ok nmX3 rfl rfl (by decide +kernel) rfl rfl dX1_widest_65 ?_
    refine j_lt (fun M65 => ?_)
    refine j_aload_n hC 0 dX1_widest_68 rfl ?_
    refine j_getR (fk := 4) hC (dmY hG rfl) rfl rfl in_X1 rfl rfl q500 rfl dX1_widest_69 ?_
    refine j_iload_n hC 1 dX1_widest_72 rfl ?_
    refine j_callV (nA := 1) (rest := []) hC [.int x1] rfl (fun r hr => mX7_counts (XL X) (XG X) hG fu (XD X) 0 (by decide) M65 x1 r hr) q569 q570 q571 q135 q572 (dmW hG (by decide) rfl) rfl rfl (by decide +kernel) rfl rfl rfl rfl rfl rfl dX1_widest_73 (fun _ => []) (fun _ => rfl) (fun v73 M73 => ?_)
    refine j_aload_n hC 0 dX1_widest_76 rfl ?_
    refine j_getR (fk := 4) hC (dmY hG rfl) rfl rfl in_X1 rfl rfl q500 rfl dX1_widest_77 ?_
    refine j_callV (nA := 0) (rest := []) hC [] rfl (fun r hr => mX7_good (XL X) (XG X) hG fu (XD X) 0 (by decide) M73 r hr) q1265 q1266 q1267 q135 q1268 (dmW hG (by decide) rfl) rfl rfl (by decide +kernel) rfl rfl rfl rfl rfl rfl dX1_widest_80 (fun v80 => [.int v80]) (fun _ => rfl) (fun v80 M80 => ?_)
    refine j_iload hC 5 dX1_widest_83 rfl ?_
    refine j_icmp_gt (tgt := 91) hC dX1_widest_85 (by decide) (fun h85 => ?_) (fun h85 => ?_)
    · refine j_aload_n hC 0 dX1_widest_91 rfl ?_
      refine j_getR (fk := 4) hC (dmY hG rfl) rfl rfl in_X1 rfl rfl q500 rfl dX1_widest_92 ?_
      refine j_callV (nA := 0) (rest := []) hC [] rfl (fun r hr => mX7_good (XL X) (XG X) hG fu (XD X) 0 (by decide) M80 r hr) q1265 q1266 q1267 q135 q1268 (dmW hG (by decide) rfl) rfl rfl (by decide +kernel) rfl rfl rfl rfl rfl rfl dX1_widest_95 (fun v95 => [.int v95]) (fun _ => rfl) (fun v95 M95 => ?_)
      refine j_istore hC [(5, .int v95), (0, .ref (gadr (XG X) (4, 0, 0))), (1, .int x1), (2, .int x2), (3, .int x3), (4, .int x4), (6, .int x6)] hnl dX1_widest_98 rfl rfl ?_
      refine j_iload hC 6 dX1_widest_100 rfl ?_
      refine j_istore hC [(4, .int x6), (5, .int v95), (0, .ref (gadr (XG X) (4, 0, 0))), (1, .int x1), (2, .int x2), (3, .int x3), (6, .int x6)] hnl dX1_widest_102 rfl rfl ?_
      exact j_sub [2, 3, 4, 5, 0, 1, 6] rfl (wX1_widest_104 hC hT hG hnl fu kn39 hk39 M95 x1 x2 x3 x6 v95 x6)
    · refine j_goto (tgt := 104) hC dX1_widest_88 (by decide) ?_
      exact j_sub [0, 1, 2, 3, 4, 5, 6] rfl (wX1_widest_104 hC hT hG hnl fu kn39 hk39 M80 x1 x2 x3 x4 x5 x6)
set_option linter.unusedVariables false in
set_option maxRecDepth 100000 in
theorem wX1_widest_39 {X : JX} (hC : JC X cX1_widest RX1 (some .int) 39 1440 1 6) (hT : JT X) (hG : dmI dmX (XG X)) (hnl : nLof X = 7) (fu : Nat) (M : Mem) (x1 x2 x3 x4 x5 x6 : Int32) : J X (ZT X foI 1 6) (FX1_widest_39 fu (XD X) M x1 x2 x3 x4 x5 x6) 39 [(0, .ref (gadr (XG X) (4, 0, 0))), (1, .int x1), (2, .int x2), (3, .int x3), (4, .int x4), (5, .int x5), (6, .int x6)] [] M 1 6 := by
  exact j_lp (lvf := fun z => [(0, .ref (gadr (XG X) (4, 0, 0))), (1, .int (z.2.1)), (2, .int (z.2.2.1)), (3, .int (z.2.2.2.1)), (4, .int (z.2.2.2.2.1)), (5, .int (z.2.2.2.2.2.1)), (6, .int (z.2.2.2.2.2.2))]) (Mf := fun z => z.1) (fun kn hk z => wgX1_widest_39 hC hT hG hnl fu kn (fun M x1 x2 x3 x4 x5 x6 => hk (M, x1, x2, x3, x4, x5, x6)) z.1 z.2.1 z.2.2.1 z.2.2.2.1 z.2.2.2.2.1 z.2.2.2.2.2.1 z.2.2.2.2.2.2) fu (M, x1, x2, x3, x4, x5, x6)
set_option linter.unusedVariables false in
set_option maxRecDepth 100000 in
theorem wX1_widest {X : JX} (hC : JC X cX1_widest RX1 (some .int) 39 1440 1 6) (hT : JT X) (hG : dmI dmX (XG X)) (hnl : nLof X = 7) (fu : Nat) (M : Mem) (x1 : Int32) : J X (ZT X foI 1 6) (FX1_widest fu (XD X) M x1) 0 [(0, .ref (gadr (XG X) (4, 0, 0))), (1, .int x1)] [] M 0 0 := by
  unfold FX1_widest
  refine j_aload_n hC 0 dX1_widest_0 rfl ?_
  refine j_iload_n hC 1 dX1_widest_1 rfl ?_
  refine j_callVT (nA := 1) (rest := []) hC hT [.int x1] rfl (fun r hr => mX1_birdAt (XL X) (JT.st hT) (XG X) hG fu (XD X) M x1 r hr) q1089 q1091 qs30 q126 q1092 (dmY hG rfl) rfl rfl (by decide +kernel) rfl rfl rfl rfl rfl rfl dX1_widest_2 (fun v2 => [.ref (gadr (XG X) (1, 0, v2.toNatClampNeg))]) (fun _ => rfl) (fun v2 M2 => ?_)
  refine j_gd (fun h2 => ?_)
  refine j_pop hC dX1_widest_5 rfl ?_
  refine j_aload_n hC 0 dX1_widest_6 rfl ?_
  refine j_getR (fk := 1) hC (dmY hG rfl) rfl rfl in_X1 rfl rfl q496 rfl dX1_widest_7 ?_
  refine j_getNI (fk := 14) hC (dmS hG (by decide) rfl) rfl rfl in_X3 rfl rfl q295 rfl dX1_widest_10 ?_
  refine j_ltT (fun y13 => ?_)
  refine j_istore_n hC [(2, .int y13), (0, .ref (gadr (XG X) (4, 0, 0))), (1, .int x1)] hnl dX1_widest_13 rfl rfl ?_
  refine j_aload_n hC 1 dX1_widest_14 rfl ?_
  refine j_getR (fk := 1) hC (dmY hG rfl) rfl rfl in_X1 rfl rfl q496 rfl dX1_widest_15 ?_
  refine j_getNI (fk := 15) hC (dmS hG (by decide) rfl) rfl rfl in_X3 rfl rfl q298 rfl dX1_widest_18 ?_
  refine j_aload_n hC 1 dX1_widest_21 rfl ?_
  refine j_getR (fk := 1) hC (dmY hG rfl) rfl rfl in_X1 rfl rfl q496 rfl dX1_widest_22 ?_
  refine j_getNI (fk := 14) hC (dmS hG (by decide) rfl) rfl rfl in_X3 rfl rfl q295 rfl dX1_widest_25 ?_
  refine j_isub hC dX1_widest_28 ?_
  refine j_ltT (fun y29 => ?_)
  refine j_istore_n hC [(3, .int y29), (2, .int y13), (0, .ref (gadr (XG X) (4, 0, 0))), (1, .int x1)] hnl dX1_widest_29 rfl rfl ?_
  refine j_iconst (v := 0) hC dX1_widest_30 (by decide) ?_
  refine j_istore hC [(4, .int 0), (3, .int y29), (2, .int y13), (0, .ref (gadr (XG X) (4, 0, 0))), (1, .int x1)] hnl dX1_widest_31 rfl rfl ?_
  refine j_iconst (v := (-1)) hC dX1_widest_33 (by decide) ?_
  refine j_istore hC [(5, .int ((-1))), (4, .int 0), (3, .int y29), (2, .int y13), (0, .ref (gadr (XG X) (4, 0, 0))), (1, .int x1)] hnl dX1_widest_34 rfl rfl ?_
  refine j_iconst (v := 0) hC dX1_widest_36 (by decide) ?_
  refine j_istore hC [(6, .int 0), (5, .int ((-1))), (4, .int 0), (3, .int y29), (2, .int y13), (0, .ref (gadr (XG X) (4, 0, 0))), (1, .int x1)] hnl dX1_widest_37 rfl rfl ?_
  exact j_sub [5, 6, 4, 3, 2, 1, 0] rfl (wX1_widest_39 hC hT hG hnl fu M2 x1 y13 y29 0 (-1) 0)
set_option linter.unusedVariables false in
set_option maxRecDepth 100000 in
theorem mX1_widest (l : Launch) (hst : l.stackTraces = false) (Γ : xG) (hG : dmI dmX Γ) (fu : Nat) (D : List LDen) (M : Mem) (x1 : Int32) (r : TR) (hr : FX1_widest fu D M x1 = some r) : CT l yX1_widest (ws_ yX1_widest cX1_widest 7 (some .int)) 39 1440 1 6 Γ D [.ref (gadr Γ (4, 0, 0)), .int x1] M foI r := by
  refine CT.of hst (own := RX1) (lv0 := lv_args 0 [.ref (gadr Γ (4, 0, 0)), .int x1]) (by decide +kernel) rfl (Nat.le_of_ble_eq_true rfl) rfl (fun X e1 e2 e3 e4 hC hT => ?_) r hr
  subst e1
  subst e2
  exact wX1_widest hC hT hG e4 fu M x1
set_option linter.unusedVariables false in
set_option maxRecDepth 100000 in
theorem wX1_calls_29 {X : JX} (hC : JC X cX1_calls RX1 (some .int) 39 1435 0 0) (hG : dmI dmX (XG X)) (hnl : nLof X = 6) (fu : Nat) (kn6 : Mem × Int32 × Int32 × Int32 × Int32 × Int32 → Option (Int32 × Mem)) (hk6 : ∀ (M : Mem) (x1 x2 x3 x4 x5 : Int32), J X (ZN X foI) (kn6 (M, x1, x2, x3, x4, x5)) 6 [(0, .ref (gadr (XG X) (4, 0, 0))), (1, .int x1), (2, .int x2), (3, .int x3), (4, .int x4), (5, .int x5)] [] M 0 0) (M : Mem) (x1 x2 x3 x5 t0 t1 : Int32) : J X (ZN X foI) (FX1_calls_29 fu (XD X) kn6 M x1 x2 x3 x5 t0 t1) 29 [(0, .ref (gadr (XG X) (4, 0, 0))), (1, .int x1), (2, .int x2), (3, .int x3), (5, .int x5)] [.int t0, .int t1] M 0 0 := by
  unfold FX1_calls_29
  refine j_iadd hC dX1_calls_29 ?_
  refine j_ltT (fun y30 => ?_)
  refine j_istore hC [(4, .int y30), (0, .ref (gadr (XG X) (4, 0, 0))), (1, .int x1), (2, .int x2), (3, .int x3), (5, .int x5)] hnl dX1_calls_30 rfl rfl ?_
  refine j_iincL hC 5 (fun y32 => [(5, .int y32), (4, .int y30), (0, .ref (gadr (XG X) (4, 0, 0))), (1, .int x1), (2, .int x2), (3, .int x3)]) hnl dX1_calls_32 rfl (by decide) rfl (fun _ => rfl) (fun y32 => ?_)
  refine j_goto (tgt := 6) hC dX1_calls_35 (by decide) ?_
  exact j_sub [2, 3, 4, 5, 1, 0] rfl (hk6 M x1 x2 x3 y30 y32)
set_option linter.unusedVariables false in
set_option maxRecDepth 100000 in
theorem wgX1_calls_6 {X : JX} (hC : JC X cX1_calls RX1 (some .int) 39 1435 0 0) (hG : dmI dmX (XG X)) (hnl : nLof X = 6) (fu : Nat) (kn6 : Mem × Int32 × Int32 × Int32 × Int32 × Int32 → Option (Int32 × Mem)) (hk6 : ∀ (M : Mem) (x1 x2 x3 x4 x5 : Int32), J X (ZN X foI) (kn6 (M, x1, x2, x3, x4, x5)) 6 [(0, .ref (gadr (XG X) (4, 0, 0))), (1, .int x1), (2, .int x2), (3, .int x3), (4, .int x4), (5, .int x5)] [] M 0 0) (M : Mem) (x1 x2 x3 x4 x5 : Int32) : J X (ZN X foI) (GX1_calls_6 fu (XD X) kn6 M x1 x2 x3 x4 x5) 6 [(0, .ref (gadr (XG X) (4, 0, 0))), (1, .int x1), (2, .int x2), (3, .int x3), (4, .int x4), (5, .int x5)] [] M 0 0 := by
  unfold GX1_calls_6
  refine j_iload hC 5 dX1_calls_6 rfl ?_
  refine j_iload_n hC 3 dX1_calls_8 rfl ?_
  refine j_icmp_ge (tgt := 38) hC dX1_calls_9 (by decide) (fun h9 => ?_) (fun h9 => ?_)
  · refine j_iload hC 4 dX1_calls_38 rfl ?_
    exact j_iret hC dX1_calls_40
  · refine j_iload hC 4 dX1_calls_12 rfl ?_
    refine j_aload_n hC 0 dX1_calls_14 rfl ?_
    refine j_iload_n hC 1 dX1_calls_15 rfl ?_
    refine j_iload_n hC 2 dX1_calls_16 rfl ?_
    refine j_callV (nA := 2) (rest := [.int x4]) hC [.int x1, .int x2] rfl (fun r hr => mX1_flies (XL X) (XG X) hG fu (XD X) M x1 x2 r hr) q1202 q1204 qs34 q126 q1205 (dmY hG rfl) rfl rfl (by decide +kernel) rfl rfl rfl rfl rfl rfl dX1_calls_17 (fun v17 => [.int v17, .int x4]) (fun _ => rfl) (fun v17 M17 => ?_)
    refine j_iconst (v := 1) hC dX1_calls_20 (by decide) ?_
    refine j_icmp_ne (tgt := 28) hC dX1_calls_21 (by decide) (fun h21 => ?_) (fun h21 => ?_)
    · refine j_iconst (v := 1) hC dX1_calls_24 (by decide) ?_
      refine j_goto (tgt := 29) hC dX1_calls_25 (by decide) ?_
      exact j_sub [0, 1, 2, 3, 5] rfl (wX1_calls_29 hC hG hnl fu kn6 hk6 M17 x1 x2 x3 x5 1 x4)
    · refine j_iconst (v := 0) hC dX1_calls_28 (by decide) ?_
      exact j_sub [0, 1, 2, 3, 5] rfl (wX1_calls_29 hC hG hnl fu kn6 hk6 M17 x1 x2 x3 x5 0 x4)
set_option linter.unusedVariables false in
set_option maxRecDepth 100000 in
theorem wX1_calls_6 {X : JX} (hC : JC X cX1_calls RX1 (some .int) 39 1435 0 0) (hG : dmI dmX (XG X)) (hnl : nLof X = 6) (fu : Nat) (M : Mem) (x1 x2 x3 x4 x5 : Int32) : J X (ZN X foI) (FX1_calls_6 fu (XD X) M x1 x2 x3 x4 x5) 6 [(0, .ref (gadr (XG X) (4, 0, 0))), (1, .int x1), (2, .int x2), (3, .int x3), (4, .int x4), (5, .int x5)] [] M 0 0 := by
  exact j_lp (lvf := fun z => [(0, .ref (gadr (XG X) (4, 0, 0))), (1, .int (z.2.1)), (2, .int (z.2.2.1)), (3, .int (z.2.2.2.1)), (4, .int (z.2.2.2.2.1)), (5, .int (z.2.2.2.2.2))]) (Mf := fun z => z.1) (fun kn hk z => wgX1_calls_6 hC hG hnl fu kn (fun M x1 x2 x3 x4 x5 => hk (M, x1, x2, x3, x4, x5)) z.1 z.2.1 z.2.2.1 z.2.2.2.1 z.2.2.2.2.1 z.2.2.2.2.2) fu (M, x1, x2, x3, x4, x5)
set_option linter.unusedVariables false in
set_option maxRecDepth 100000 in
theorem wX1_calls {X : JX} (hC : JC X cX1_calls RX1 (some .int) 39 1435 0 0) (hG : dmI dmX (XG X)) (hnl : nLof X = 6) (fu : Nat) (M : Mem) (x1 x2 x3 : Int32) : J X (ZN X foI) (FX1_calls fu (XD X) M x1 x2 x3) 0 [(0, .ref (gadr (XG X) (4, 0, 0))), (1, .int x1), (2, .int x2), (3, .int x3)] [] M 0 0 := by
  unfold FX1_calls
  refine j_iconst (v := 0) hC dX1_calls_0 (by decide) ?_
  refine j_istore hC [(4, .int 0), (0, .ref (gadr (XG X) (4, 0, 0))), (1, .int x1), (2, .int x2), (3, .int x3)] hnl dX1_calls_1 rfl rfl ?_
  refine j_iconst (v := 0) hC dX1_calls_3 (by decide) ?_
  refine j_istore hC [(5, .int 0), (4, .int 0), (0, .ref (gadr (XG X) (4, 0, 0))), (1, .int x1), (2, .int x2), (3, .int x3)] hnl dX1_calls_4 rfl rfl ?_
  exact j_sub [2, 3, 4, 5, 1, 0] rfl (wX1_calls_6 hC hG hnl fu M x1 x2 x3 0 0)
set_option linter.unusedVariables false in
set_option maxRecDepth 100000 in
theorem mX1_calls (l : Launch) (Γ : xG) (hG : dmI dmX Γ) (fu : Nat) (D : List LDen) (M : Mem) (x1 x2 x3 : Int32) (r : Int32 × Mem) (hr : FX1_calls fu D M x1 x2 x3 = some r) : CN l yX1_calls (ws_ yX1_calls cX1_calls 6 (some .int)) 39 1435 Γ D [.ref (gadr Γ (4, 0, 0)), .int x1, .int x2, .int x3] M (foI r.1) r.2 := by
  refine CN.of (own := RX1) (lv0 := lv_args 0 [.ref (gadr Γ (4, 0, 0)), .int x1, .int x2, .int x3]) (by decide +kernel) rfl (Nat.le_of_ble_eq_true rfl) rfl (fun X e1 e2 e3 e4 hC => ?_) r hr
  subst e1
  subst e2
  exact wX1_calls hC hG e4 fu M x1 x2 x3
set_option linter.unusedVariables false in
set_option maxRecDepth 100000 in
theorem wX1_trial {X : JX} (hC : JC X cX1_trial RX1 (some .int) 40 1460 3 18) (hT : JT X) (hG : dmI dmX (XG X)) (hnl : nLof X = 6) (fu : Nat) (M : Mem) (x1 x2 x3 : Int32) : J X (ZT X foI 3 18) (FX1_trial fu (XD X) M x1 x2 x3) 0 [(0, .ref (gadr (XG X) (4, 0, 0))), (1, .int x1), (2, .int x2), (3, .int x3)] [] M 0 0 := by
  unfold FX1_trial
  refine j_aload_n hC 0 dX1_trial_0 rfl ?_
  refine j_iload_n hC 1 dX1_trial_1 rfl ?_
  refine j_callVT (nA := 1) (rest := []) hC hT [.int x1] rfl (fun r hr => mX1_birdAt (XL X) (JT.st hT) (XG X) hG fu (XD X) M x1 r hr) q1089 q1091 qs30 q126 q1092 (dmY hG rfl) rfl rfl (by decide +kernel) rfl rfl rfl rfl rfl rfl dX1_trial_2 (fun v2 => [.ref (gadr (XG X) (1, 0, v2.toNatClampNeg))]) (fun _ => rfl) (fun v2 M2 => ?_)
  refine j_gd (fun h2 => ?_)
  refine j_pop hC dX1_trial_5 rfl ?_
  refine j_aload_n hC 0 dX1_trial_6 rfl ?_
  refine j_iload_n hC 2 dX1_trial_7 rfl ?_
  refine j_callVT (nA := 1) (rest := []) hC hT [.int x2] rfl (fun r hr => mX1_birdAt (XL X) (JT.st hT) (XG X) hG fu (XD X) M2 x2 r hr) q1089 q1091 qs30 q126 q1092 (dmY hG rfl) rfl rfl (by decide +kernel) rfl rfl rfl rfl rfl rfl dX1_trial_8 (fun v8 => [.ref (gadr (XG X) (1, 0, v8.toNatClampNeg))]) (fun _ => rfl) (fun v8 M8 => ?_)
  refine j_gd (fun h8 => ?_)
  refine j_pop hC dX1_trial_11 rfl ?_
  refine j_iload_n hC 3 dX1_trial_12 rfl ?_
  refine j_iconst (v := 0) hC dX1_trial_13 (by decide) ?_
  refine j_bipush (v := 40) hC dX1_trial_14 (by decide) ?_
  refine j_callS (nA := 3) (rest := []) hC [.int x3, .int 0, .int 40] rfl (fun r hr => mX1_isIn (XL X) (XG X) hG fu (XD X) M8 x3 0 40 r hr) q558 q559 q126 q560 (by decide +kernel) rfl rfl rfl rfl rfl rfl dX1_trial_16 (fun v16 => [.int v16]) (fun _ => rfl) (fun v16 M16 => ?_)
  refine j_callST (nA := 1) (rest := []) hC hT [.int v16] rfl (fun r hr => mX1_must (XL X) (JT.st hT) (XG X) hG fu (XD X) M16 v16 r hr) q1167 q1168 q126 q1169 (by decide +kernel) rfl rfl rfl rfl rfl rfl dX1_trial_19 (fun _ => []) (fun _ => rfl) (fun v19 M19 => ?_)
  refine j_aload_n hC 0 dX1_trial_22 rfl ?_
  refine j_getR (fk := 1) hC (dmY hG rfl) rfl rfl in_X1 rfl rfl q496 rfl dX1_trial_23 ?_
  refine j_getNI (fk := 18) hC (dmS hG (by decide) rfl) rfl rfl in_X3 rfl rfl q305 rfl dX1_trial_26 ?_
  refine j_ltT (fun y29 => ?_)
  refine j_istore hC [(4, .int y29), (0, .ref (gadr (XG X) (4, 0, 0))), (1, .int x1), (2, .int x2), (3, .int x3)] hnl dX1_trial_29 rfl rfl ?_
  refine j_aload_n hC 1 dX1_trial_31 rfl ?_
  refine j_iload_n hC 2 dX1_trial_32 rfl ?_
  refine j_iload_n hC 3 dX1_trial_33 rfl ?_
  refine j_iload_n hC 4 dX1_trial_34 rfl ?_
  refine j_callV (nA := 3) (rest := []) hC [.int x1, .int x2, .int x3] rfl (fun r hr => mX1_calls (XL X) (XG X) hG fu (XD X) M19 x1 x2 x3 r hr) q1420 q1422 qs44 q126 q1423 (dmY hG rfl) rfl rfl (by decide +kernel) rfl rfl rfl rfl rfl rfl dX1_trial_35 (fun v35 => [.int v35]) (fun _ => rfl) (fun v35 M35 => ?_)
  refine j_istore hC [(5, .int v35), (4, .int y29), (0, .ref (gadr (XG X) (4, 0, 0))), (1, .int x1), (2, .int x2), (3, .int x3)] hnl dX1_trial_38 rfl rfl ?_
  refine j_aload_n hC 2 dX1_trial_40 rfl ?_
  refine j_getR (fk := 1) hC (dmY hG rfl) rfl rfl in_X1 rfl rfl q496 rfl dX1_trial_41 ?_
  refine j_iload hC 1 dX1_trial_44 rfl ?_
  refine j_putN (fk := 18) (ty := .int) hC (dmS hG (by decide) rfl) rfl rfl in_X3 rfl rfl q305 tyX3 tyX3_ok nmX3 rfl rfl (by decide +kernel) rfl rfl dX1_trial_46 ?_
  refine j_lt (fun M46 => ?_)
  refine j_iload hC 0 dX1_trial_49 rfl ?_
  exact j_iretT hC rfl rfl dX1_trial_51
set_option linter.unusedVariables false in
set_option maxRecDepth 100000 in
theorem mX1_trial (l : Launch) (hst : l.stackTraces = false) (Γ : xG) (hG : dmI dmX Γ) (fu : Nat) (D : List LDen) (M : Mem) (x1 x2 x3 : Int32) (r : TR) (hr : FX1_trial fu D M x1 x2 x3 = some r) : CT l yX1_trial (ws_ yX1_trial cX1_trial 6 (some .int)) 40 1460 3 18 Γ D [.ref (gadr Γ (4, 0, 0)), .int x1, .int x2, .int x3] M foI r := by
  refine CT.of hst (own := RX1) (lv0 := lv_args 0 [.ref (gadr Γ (4, 0, 0)), .int x1, .int x2, .int x3]) (by decide +kernel) rfl (Nat.le_of_ble_eq_true rfl) rfl (fun X e1 e2 e3 e4 hC hT => ?_) r hr
  subst e1
  subst e2
  exact wX1_trial hC hT hG e4 fu M x1 x2 x3
set_option linter.unusedVariables false in
set_option maxRecDepth 100000 in
theorem wX1_span_95 {X : JX} (hC : JC X cX1_span RX1 (some .int) 40 1460 3 18) (hT : JT X) (hG : dmI dmX (XG X)) (hnl : nLof X = 9) (fu : Nat) (kn48 : Mem × Int32 × Int32 × Int32 × Int32 × Int32 × Int32 × Int32 → Option TR) (hk48 : ∀ (M : Mem) (x1 x2 x3 x4 x5 x6 x7 : Int32), J X (ZT X foI 3 18) (kn48 (M, x1, x2, x3, x4, x5, x6, x7)) 48 [(0, .ref (gadr (XG X) (4, 0, 0))), (1, .int x1), (2, .int x2), (3, .int x3), (4, .int x4), (5, .int x5), (6, .int x6), (7, .int x7)] [] M 3 18) (M : Mem) (x1 x2 x3 x4 x5 x7 t0 : Int32) : J X (ZT X foI 3 18) (FX1_span_95 fu (XD X) kn48 M x1 x2 x3 x4 x5 x7 t0) 95 [(0, .ref (gadr (XG X) (4, 0, 0))), (1, .int x1), (2, .int x2), (3, .int x3), (4, .int x4), (5, .int x5), (7, .int x7)] [.int t0] M 3 18 := by
  unfold FX1_span_95
  refine j_istore hC [(6, .int t0), (0, .ref (gadr (XG X) (4, 0, 0))), (1, .int x1), (2, .int x2), (3, .int x3), (4, .int x4), (5, .int x5), (7, .int x7)] hnl dX1_span_95 rfl rfl ?_
  refine j_iincL hC 7 (fun y97 => [(7, .int y97), (6, .int t0), (0, .ref (gadr (XG X) (4, 0, 0))), (1, .int x1), (2, .int x2), (3, .int x3), (4, .int x4), (5, .int x5)]) hnl dX1_span_97 rfl (by decide) rfl (fun _ => rfl) (fun y97 => ?_)
  refine j_goto (tgt := 48) hC dX1_span_100 (by decide) ?_
  exact j_sub [2, 3, 4, 5, 6, 7, 1, 0] rfl (hk48 M x1 x2 x3 x4 x5 t0 y97)
set_option linter.unusedVariables false in
set_option maxRecDepth 100000 in
theorem wgX1_span_48 {X : JX} (hC : JC X cX1_span RX1 (some .int) 40 1460 3 18) (hT : JT X) (hG : dmI dmX (XG X)) (hnl : nLof X = 9) (fu : Nat) (kn48 : Mem × Int32 × Int32 × Int32 × Int32 × Int32 × Int32 × Int32 → Option TR) (hk48 : ∀ (M : Mem) (x1 x2 x3 x4 x5 x6 x7 : Int32), J X (ZT X foI 3 18) (kn48 (M, x1, x2, x3, x4, x5, x6, x7)) 48 [(0, .ref (gadr (XG X) (4, 0, 0))), (1, .int x1), (2, .int x2), (3, .int x3), (4, .int x4), (5, .int x5), (6, .int x6), (7, .int x7)] [] M 3 18) (M : Mem) (x1 x2 x3 x4 x5 x6 x7 : Int32) : J X (ZT X foI 3 18) (GX1_span_48 fu (XD X) kn48 M x1 x2 x3 x4 x5 x6 x7) 48 [(0, .ref (gadr (XG X) (4, 0, 0))), (1, .int x1), (2, .int x2), (3, .int x3), (4, .int x4), (5, .int x5), (6, .int x6), (7, .int x7)] [] M 3 18 := by
  unfold GX1_span_48
  refine j_iload hC 7 dX1_span_48 rfl ?_
  refine j_bipush (v := 6) hC dX1_span_50 (by decide) ?_
  refine j_icmp_gt (tgt := 103) hC dX1_span_52 (by decide) (fun h52 => ?_) (fun h52 => ?_)
  · refine j_aload_n hC 0 dX1_span_103 rfl ?_
    refine j_getR (fk := 1) hC (dmY hG rfl) rfl rfl in_X1 rfl rfl q496 rfl dX1_span_104 ?_
    refine j_iload hC 5 dX1_span_107 rfl ?_
    refine j_putN (fk := 18) (ty := .int) hC (dmS hG (by decide) rfl) rfl rfl in_X3 rfl rfl q305 tyX3 tyX3_ok nmX3 rfl rfl (by decide +kernel) rfl rfl dX1_span_109 ?_
    refine j_lt (fun M109 => ?_)
    refine j_iload hC 6 dX1_span_112 rfl ?_
    exact j_iretT hC rfl rfl dX1_span_114
  · refine j_aload_n hC 0 dX1_span_55 rfl ?_
    refine j_getR (fk := 1) hC (dmY hG rfl) rfl rfl in_X1 rfl rfl q496 rfl dX1_span_56 ?_
    refine j_iload hC 7 dX1_span_59 rfl ?_
    refine j_putN (fk := 18) (ty := .int) hC (dmS hG (by decide) rfl) rfl rfl in_X3 rfl rfl q305 tyX3 tyX3_ok nmX3 rfl rfl (by decide +kernel) rfl rfl dX1_span_61 ?_
    refine j_lt (fun M61 => ?_)
    refine j_aload_n hC 0 dX1_span_64 rfl ?_
    refine j_iload_n hC 1 dX1_span_65 rfl ?_
    refine j_iload_n hC 2 dX1_span_66 rfl ?_
    refine j_iload_n hC 3 dX1_span_67 rfl ?_
    refine j_callV (nA := 3) (rest := []) hC [.int x1, .int x2, .int x3] rfl (fun r hr => mX1_calls (XL X) (XG X) hG fu (XD X) M61 x1 x2 x3 r hr) q1420 q1422 qs44 q126 q1423 (dmY hG rfl) rfl rfl (by decide +kernel) rfl rfl rfl rfl rfl rfl dX1_span_68 (fun v68 => [.int v68]) (fun _ => rfl) (fun v68 M68 => ?_)
    refine j_istore hC [(8, .int v68), (0, .ref (gadr (XG X) (4, 0, 0))), (1, .int x1), (2, .int x2), (3, .int x3), (4, .int x4), (5, .int x5), (6, .int x6), (7, .int x7)] hnl dX1_span_71 rfl rfl ?_
    refine j_iload hC 5 dX1_span_73 rfl ?_
    refine j_if_eq (tgt := 88) hC dX1_span_75 (by decide) (fun h75 => ?_) (fun h75 => ?_)
    · refine j_iload hC 7 dX1_span_88 rfl ?_
      refine j_iload hC 0 dX1_span_90 rfl ?_
      refine j_min hC q731 q640 q155 q641 dX1_span_92 rfl (Nat.le_of_ble_eq_true rfl) (Nat.le_of_ble_eq_true rfl) (Nat.le_of_ble_eq_true rfl) ?_
      exact j_sub [1, 2, 3, 4, 5, 6, 8] rfl (wX1_span_95 hC hT hG hnl fu kn48 hk48 M68 x1 x2 x3 x4 x5 x7 (mn x6 v68))
    · refine j_iload hC 7 dX1_span_78 rfl ?_
      refine j_iload hC 0 dX1_span_80 rfl ?_
      refine j_max hC q1384 q643 q155 q644 dX1_span_82 rfl (Nat.le_of_ble_eq_true rfl) (Nat.le_of_ble_eq_true rfl) (Nat.le_of_ble_eq_true rfl) ?_
      refine j_goto (tgt := 95) hC dX1_span_85 (by decide) ?_
      exact j_sub [1, 2, 3, 4, 5, 6, 8] rfl (wX1_span_95 hC hT hG hnl fu kn48 hk48 M68 x1 x2 x3 x4 x5 x7 (mx x6 v68))
set_option linter.unusedVariables false in
set_option maxRecDepth 100000 in
theorem wX1_span_48 {X : JX} (hC : JC X cX1_span RX1 (some .int) 40 1460 3 18) (hT : JT X) (hG : dmI dmX (XG X)) (hnl : nLof X = 9) (fu : Nat) (M : Mem) (x1 x2 x3 x4 x5 x6 x7 : Int32) : J X (ZT X foI 3 18) (FX1_span_48 fu (XD X) M x1 x2 x3 x4 x5 x6 x7) 48 [(0, .ref (gadr (XG X) (4, 0, 0))), (1, .int x1), (2, .int x2), (3, .int x3), (4, .int x4), (5, .int x5), (6, .int x6), (7, .int x7)] [] M 3 18 := by
  exact j_lp (lvf := fun z => [(0, .ref (gadr (XG X) (4, 0, 0))), (1, .int (z.2.1)), (2, .int (z.2.2.1)), (3, .int (z.2.2.2.1)), (4, .int (z.2.2.2.2.1)), (5, .int (z.2.2.2.2.2.1)), (6, .int (z.2.2.2.2.2.2.1)), (7, .int (z.2.2.2.2.2.2.2))]) (Mf := fun z => z.1) (fun kn hk z => wgX1_span_48 hC hT hG hnl fu kn (fun M x1 x2 x3 x4 x5 x6 x7 => hk (M, x1, x2, x3, x4, x5, x6, x7)) z.1 z.2.1 z.2.2.1 z.2.2.2.1 z.2.2.2.2.1 z.2.2.2.2.2.1 z.2.2.2.2.2.2.1 z.2.2.2.2.2.2.2) fu (M, x1, x2, x3, x4, x5, x6, x7)
set_option linter.unusedVariables false in
set_option maxRecDepth 100000 in
theorem wX1_span_43 {X : JX} (hC : JC X cX1_span RX1 (some .int) 40 1460 3 18) (hT : JT X) (hG : dmI dmX (XG X)) (hnl : nLof X = 9) (fu : Nat) (M : Mem) (x1 x2 x3 x4 x5 t0 : Int32) : J X (ZT X foI 3 18) (FX1_span_43 fu (XD X) M x1 x2 x3 x4 x5 t0) 43 [(0, .ref (gadr (XG X) (4, 0, 0))), (1, .int x1), (2, .int x2), (3, .int x3), (4, .int x4), (5, .int x5)] [.int t0] M 3 18 := by
  unfold FX1_span_43
  refine j_istore hC [(6, .int t0), (0, .ref (gadr (XG X) (4, 0, 0))), (1, .int x1), (2, .int x2), (3, .int x3), (4, .int x4), (5, .int x5)] hnl dX1_span_43 rfl rfl ?_
  refine j_iconst (v := 1) hC dX1_span_45 (by decide) ?_
  refine j_istore hC [(7, .int 1), (6, .int t0), (0, .ref (gadr (XG X) (4, 0, 0))), (1, .int x1), (2, .int x2), (3, .int x3), (4, .int x4), (5, .int x5)] hnl dX1_span_46 rfl rfl ?_
  exact j_sub [2, 3, 4, 5, 6, 7, 1, 0] rfl (wX1_span_48 hC hT hG hnl fu M x1 x2 x3 x4 x5 t0 1)
set_option linter.unusedVariables false in
set_option maxRecDepth 100000 in
theorem wX1_span {X : JX} (hC : JC X cX1_span RX1 (some .int) 40 1460 3 18) (hT : JT X) (hG : dmI dmX (XG X)) (hnl : nLof X = 9) (fu : Nat) (M : Mem) (x1 x2 x3 x4 : Int32) : J X (ZT X foI 3 18) (FX1_span fu (XD X) M x1 x2 x3 x4) 0 [(0, .ref (gadr (XG X) (4, 0, 0))), (1, .int x1), (2, .int x2), (3, .int x3), (4, .int x4)] [] M 0 0 := by
  unfold FX1_span
  refine j_aload_n hC 0 dX1_span_0 rfl ?_
  refine j_iload_n hC 1 dX1_span_1 rfl ?_
  refine j_callVT (nA := 1) (rest := []) hC hT [.int x1] rfl (fun r hr => mX1_birdAt (XL X) (JT.st hT) (XG X) hG fu (XD X) M x1 r hr) q1089 q1091 qs30 q126 q1092 (dmY hG rfl) rfl rfl (by decide +kernel) rfl rfl rfl rfl rfl rfl dX1_span_2 (fun v2 => [.ref (gadr (XG X) (1, 0, v2.toNatClampNeg))]) (fun _ => rfl) (fun v2 M2 => ?_)
  refine j_gd (fun h2 => ?_)
  refine j_pop hC dX1_span_5 rfl ?_
  refine j_aload_n hC 0 dX1_span_6 rfl ?_
  refine j_iload_n hC 2 dX1_span_7 rfl ?_
  refine j_callVT (nA := 1) (rest := []) hC hT [.int x2] rfl (fun r hr => mX1_birdAt (XL X) (JT.st hT) (XG X) hG fu (XD X) M2 x2 r hr) q1089 q1091 qs30 q126 q1092 (dmY hG rfl) rfl rfl (by decide +kernel) rfl rfl rfl rfl rfl rfl dX1_span_8 (fun v8 => [.ref (gadr (XG X) (1, 0, v8.toNatClampNeg))]) (fun _ => rfl) (fun v8 M8 => ?_)
  refine j_gd (fun h8 => ?_)
  refine j_pop hC dX1_span_11 rfl ?_
  refine j_iload_n hC 3 dX1_span_12 rfl ?_
  refine j_iconst (v := 0) hC dX1_span_13 (by decide) ?_
  refine j_bipush (v := 40) hC dX1_span_14 (by decide) ?_
  refine j_callS (nA := 3) (rest := []) hC [.int x3, .int 0, .int 40] rfl (fun r hr => mX1_isIn (XL X) (XG X) hG fu (XD X) M8 x3 0 40 r hr) q558 q559 q126 q560 (by decide +kernel) rfl rfl rfl rfl rfl rfl dX1_span_16 (fun v16 => [.int v16]) (fun _ => rfl) (fun v16 M16 => ?_)
  refine j_callST (nA := 1) (rest := []) hC hT [.int v16] rfl (fun r hr => mX1_must (XL X) (JT.st hT) (XG X) hG fu (XD X) M16 v16 r hr) q1167 q1168 q126 q1169 (by decide +kernel) rfl rfl rfl rfl rfl rfl dX1_span_19 (fun _ => []) (fun _ => rfl) (fun v19 M19 => ?_)
  refine j_aload_n hC 0 dX1_span_22 rfl ?_
  refine j_getR (fk := 1) hC (dmY hG rfl) rfl rfl in_X1 rfl rfl q496 rfl dX1_span_23 ?_
  refine j_getNI (fk := 18) hC (dmS hG (by decide) rfl) rfl rfl in_X3 rfl rfl q305 rfl dX1_span_26 ?_
  refine j_ltT (fun y29 => ?_)
  refine j_istore hC [(5, .int y29), (0, .ref (gadr (XG X) (4, 0, 0))), (1, .int x1), (2, .int x2), (3, .int x3), (4, .int x4)] hnl dX1_span_29 rfl rfl ?_
  refine j_iload hC 5 dX1_span_31 rfl ?_
  refine j_if_eq (tgt := 40) hC dX1_span_33 (by decide) (fun h33 => ?_) (fun h33 => ?_)
  · refine j_ldcw (v := 1000000000) hC dX1_span_40 q1338 ?_
    exact j_sub [1, 2, 3, 4, 5, 0] rfl (wX1_span_43 hC hT hG hnl fu M19 x1 x2 x3 x4 y29 1000000000)
  · refine j_iconst (v := 0) hC dX1_span_36 (by decide) ?_
    refine j_goto (tgt := 43) hC dX1_span_37 (by decide) ?_
    exact j_sub [1, 2, 3, 4, 5, 0] rfl (wX1_span_43 hC hT hG hnl fu M19 x1 x2 x3 x4 y29 0)
set_option linter.unusedVariables false in
set_option maxRecDepth 100000 in
theorem mX1_span (l : Launch) (hst : l.stackTraces = false) (Γ : xG) (hG : dmI dmX Γ) (fu : Nat) (D : List LDen) (M : Mem) (x1 x2 x3 x4 : Int32) (r : TR) (hr : FX1_span fu D M x1 x2 x3 x4 = some r) : CT l yX1_span (ws_ yX1_span cX1_span 9 (some .int)) 40 1460 3 18 Γ D [.ref (gadr Γ (4, 0, 0)), .int x1, .int x2, .int x3, .int x4] M foI r := by
  refine CT.of hst (own := RX1) (lv0 := lv_args 0 [.ref (gadr Γ (4, 0, 0)), .int x1, .int x2, .int x3, .int x4]) (by decide +kernel) rfl (Nat.le_of_ble_eq_true rfl) rfl (fun X e1 e2 e3 e4 hC hT => ?_) r hr
  subst e1
  subst e2
  exact wX1_span hC hT hG e4 fu M x1 x2 x3 x4
set_option linter.unusedVariables false in
set_option maxRecDepth 100000 in
theorem wX1_led_143 {X : JX} (hC : JC X cX1_led RX1 (some .int) 8 134 1 6) (hT : JT X) (hG : dmI dmX (XG X)) (hnl : nLof X = 8) (fu : Nat) (kn11 : Mem × Int32 × Int32 × Int32 × Int32 → Option TR) (hk11 : ∀ (M : Mem) (x1 x2 x3 x4 : Int32), J X (ZT X foI 1 6) (kn11 (M, x1, x2, x3, x4)) 11 [(0, .ref (gadr (XG X) (4, 0, 0))), (1, .int x1), (2, .int x2), (3, .int x3), (4, .int x4)] [] M 1 6) (M : Mem) (x1 x2 x4 t0 t1 : Int32) : J X (ZT X foI 1 6) (FX1_led_143 fu (XD X) kn11 M x1 x2 x4 t0 t1) 143 [(0, .ref (gadr (XG X) (4, 0, 0))), (1, .int x1), (2, .int x2), (4, .int x4)] [.int t0, .int t1] M 1 6 := by
  unfold FX1_led_143
  refine j_iadd hC dX1_led_143 ?_
  refine j_ltT (fun y144 => ?_)
  refine j_istore_n hC [(3, .int y144), (0, .ref (gadr (XG X) (4, 0, 0))), (1, .int x1), (2, .int x2), (4, .int x4)] hnl dX1_led_144 rfl rfl ?_
  refine j_iincL hC 4 (fun y145 => [(4, .int y145), (3, .int y144), (0, .ref (gadr (XG X) (4, 0, 0))), (1, .int x1), (2, .int x2)]) hnl dX1_led_145 rfl (by decide) rfl (fun _ => rfl) (fun y145 => ?_)
  refine j_goto (tgt := 11) hC dX1_led_148 (by decide) ?_
  exact j_sub [2, 3, 4, 1, 0] rfl (hk11 M x1 x2 y144 y145)
set_option linter.unusedVariables false in
set_option maxRecDepth 100000 in
theorem wX1_led_138 {X : JX} (hC : JC X cX1_led RX1 (some .int) 8 134 1 6) (hT : JT X) (hG : dmI dmX (XG X)) (hnl : nLof X = 8) (fu : Nat) (kn11 : Mem × Int32 × Int32 × Int32 × Int32 → Option TR) (hk11 : ∀ (M : Mem) (x1 x2 x3 x4 : Int32), J X (ZT X foI 1 6) (kn11 (M, x1, x2, x3, x4)) 11 [(0, .ref (gadr (XG X) (4, 0, 0))), (1, .int x1), (2, .int x2), (3, .int x3), (4, .int x4)] [] M 1 6) (M : Mem) (x1 x2 x4 t0 : Int32) : J X (ZT X foI 1 6) (FX1_led_138 fu (XD X) kn11 M x1 x2 x4 t0) 138 [(0, .ref (gadr (XG X) (4, 0, 0))), (1, .int x1), (2, .int x2), (4, .int x4)] [.int t0] M 1 6 := by
  unfold FX1_led_138
  refine j_iconst (v := 1) hC dX1_led_138 (by decide) ?_
  refine j_goto (tgt := 143) hC dX1_led_139 (by decide) ?_
  exact j_sub [0, 1, 2, 3] rfl (wX1_led_143 hC hT hG hnl fu kn11 hk11 M x1 x2 x4 1 t0)
set_option linter.unusedVariables false in
set_option maxRecDepth 100000 in
theorem wX1_led_108 {X : JX} (hC : JC X cX1_led RX1 (some .int) 8 134 1 6) (hT : JT X) (hG : dmI dmX (XG X)) (hnl : nLof X = 8) (fu : Nat) (kn11 : Mem × Int32 × Int32 × Int32 × Int32 → Option TR) (hk11 : ∀ (M : Mem) (x1 x2 x3 x4 : Int32), J X (ZT X foI 1 6) (kn11 (M, x1, x2, x3, x4)) 11 [(0, .ref (gadr (XG X) (4, 0, 0))), (1, .int x1), (2, .int x2), (3, .int x3), (4, .int x4)] [] M 1 6) (M : Mem) (x1 x2 x3 x4 x5 x6 t0 : Int32) : J X (ZT X foI 1 6) (FX1_led_108 fu (XD X) kn11 M x1 x2 x3 x4 x5 x6 t0) 108 [(0, .ref (gadr (XG X) (4, 0, 0))), (1, .int x1), (2, .int x2), (3, .int x3), (4, .int x4), (5, .int x5), (6, .int x6)] [.int t0] M 1 6 := by
  unfold FX1_led_108
  refine j_istore hC [(7, .int t0), (0, .ref (gadr (XG X) (4, 0, 0))), (1, .int x1), (2, .int x2), (3, .int x3), (4, .int x4), (5, .int x5), (6, .int x6)] hnl dX1_led_108 rfl rfl ?_
  refine j_iload_n hC 4 dX1_led_110 rfl ?_
  refine j_iload_n hC 3 dX1_led_111 rfl ?_
  refine j_if_eq (tgt := 128) hC dX1_led_112 (by decide) (fun h112 => ?_) (fun h112 => ?_)
  · refine j_iload hC 6 dX1_led_128 rfl ?_
    refine j_if_ne (tgt := 138) hC dX1_led_130 (by decide) (fun h130 => ?_) (fun h130 => ?_)
    · refine j_iload hC 7 dX1_led_133 rfl ?_
      refine j_if_eq (tgt := 142) hC dX1_led_135 (by decide) (fun h135 => ?_) (fun h135 => ?_)
      · refine j_iconst (v := 0) hC dX1_led_142 (by decide) ?_
        exact j_sub [1, 2, 3, 5] rfl (wX1_led_143 hC hT hG hnl fu kn11 hk11 M x1 x2 x4 0 x3)
      · exact j_sub [1, 2, 3, 5] rfl (wX1_led_138 hC hT hG hnl fu kn11 hk11 M x1 x2 x4 x3)
    · exact j_sub [1, 2, 3, 5] rfl (wX1_led_138 hC hT hG hnl fu kn11 hk11 M x1 x2 x4 x3)
  · refine j_iload hC 0 dX1_led_115 rfl ?_
    refine j_if_eq (tgt := 124) hC dX1_led_117 (by decide) (fun h117 => ?_) (fun h117 => ?_)
    · refine j_iconst (v := 0) hC dX1_led_124 (by decide) ?_
      refine j_goto (tgt := 143) hC dX1_led_125 (by decide) ?_
      exact j_sub [1, 2, 3, 5] rfl (wX1_led_143 hC hT hG hnl fu kn11 hk11 M x1 x2 x4 0 x3)
    · refine j_iconst (v := 1) hC dX1_led_120 (by decide) ?_
      refine j_goto (tgt := 143) hC dX1_led_121 (by decide) ?_
      exact j_sub [1, 2, 3, 5] rfl (wX1_led_143 hC hT hG hnl fu kn11 hk11 M x1 x2 x4 1 x3)
set_option linter.unusedVariables false in
set_option maxRecDepth 100000 in
theorem wX1_led_107 {X : JX} (hC : JC X cX1_led RX1 (some .int) 8 134 1 6) (hT : JT X) (hG : dmI dmX (XG X)) (hnl : nLof X = 8) (fu : Nat) (kn11 : Mem × Int32 × Int32 × Int32 × Int32 → Option TR) (hk11 : ∀ (M : Mem) (x1 x2 x3 x4 : Int32), J X (ZT X foI 1 6) (kn11 (M, x1, x2, x3, x4)) 11 [(0, .ref (gadr (XG X) (4, 0, 0))), (1, .int x1), (2, .int x2), (3, .int x3), (4, .int x4)] [] M 1 6) (M : Mem) (x1 x2 x3 x4 x5 x6 : Int32) : J X (ZT X foI 1 6) (FX1_led_107 fu (XD X) kn11 M x1 x2 x3 x4 x5 x6) 107 [(0, .ref (gadr (XG X) (4, 0, 0))), (1, .int x1), (2, .int x2), (3, .int x3), (4, .int x4), (5, .int x5), (6, .int x6)] [] M 1 6 := by
  unfold FX1_led_107
  refine j_iconst (v := 0) hC dX1_led_107 (by decide) ?_
  exact j_sub [0, 1, 2, 3, 4, 5, 6] rfl (wX1_led_108 hC hT hG hnl fu kn11 hk11 M x1 x2 x3 x4 x5 x6 0)
set_option linter.unusedVariables false in
set_option maxRecDepth 100000 in
theorem wX1_led_103 {X : JX} (hC : JC X cX1_led RX1 (some .int) 8 134 1 6) (hT : JT X) (hG : dmI dmX (XG X)) (hnl : nLof X = 8) (fu : Nat) (kn11 : Mem × Int32 × Int32 × Int32 × Int32 → Option TR) (hk11 : ∀ (M : Mem) (x1 x2 x3 x4 : Int32), J X (ZT X foI 1 6) (kn11 (M, x1, x2, x3, x4)) 11 [(0, .ref (gadr (XG X) (4, 0, 0))), (1, .int x1), (2, .int x2), (3, .int x3), (4, .int x4)] [] M 1 6) (M : Mem) (x1 x2 x3 x4 x5 x6 : Int32) : J X (ZT X foI 1 6) (FX1_led_103 fu (XD X) kn11 M x1 x2 x3 x4 x5 x6) 103 [(0, .ref (gadr (XG X) (4, 0, 0))), (1, .int x1), (2, .int x2), (3, .int x3), (4, .int x4), (5, .int x5), (6, .int x6)] [] M 1 6 := by
  unfold FX1_led_103
  refine j_iconst (v := 1) hC dX1_led_103 (by decide) ?_
  refine j_goto (tgt := 108) hC dX1_led_104 (by decide) ?_
  exact j_sub [0, 1, 2, 3, 4, 5, 6] rfl (wX1_led_108 hC hT hG hnl fu kn11 hk11 M x1 x2 x3 x4 x5 x6 1)
set_option linter.unusedVariables false in
set_option maxRecDepth 100000 in
theorem wX1_led_84 {X : JX} (hC : JC X cX1_led RX1 (some .int) 8 134 1 6) (hT : JT X) (hG : dmI dmX (XG X)) (hnl : nLof X = 8) (fu : Nat) (kn11 : Mem × Int32 × Int32 × Int32 × Int32 → Option TR) (hk11 : ∀ (M : Mem) (x1 x2 x3 x4 : Int32), J X (ZT X foI 1 6) (kn11 (M, x1, x2, x3, x4)) 11 [(0, .ref (gadr (XG X) (4, 0, 0))), (1, .int x1), (2, .int x2), (3, .int x3), (4, .int x4)] [] M 1 6) (M : Mem) (x1 x2 x3 x4 x5 x6 : Int32) : J X (ZT X foI 1 6) (FX1_led_84 fu (XD X) kn11 M x1 x2 x3 x4 x5 x6) 84 [(0, .ref (gadr (XG X) (4, 0, 0))), (1, .int x1), (2, .int x2), (3, .int x3), (4, .int x4), (5, .int x5), (6, .int x6)] [] M 1 6 := by
  unfold FX1_led_84
  refine j_iload hC 6 dX1_led_84 rfl ?_
  refine j_if_eq (tgt := 107) hC dX1_led_86 (by decide) (fun h86 => ?_) (fun h86 => ?_)
  · exact j_sub [0, 1, 2, 3, 4, 5, 6] rfl (wX1_led_107 hC hT hG hnl fu kn11 hk11 M x1 x2 x3 x4 x5 x6)
  · refine j_aload_n hC 0 dX1_led_89 rfl ?_
    refine j_getR (fk := 1) hC (dmY hG rfl) rfl rfl in_X1 rfl rfl q496 rfl dX1_led_90 ?_
    refine j_iload hC 4 dX1_led_93 rfl ?_
    refine j_iconst (v := 4) hC dX1_led_95 (by decide) ?_
    refine j_callV (nA := 2) (rest := []) hC [.int x4, .int 4] rfl (fun r hr => mX3_row (XL X) (XG X) hG fu (XD X) 0 (by decide) M x4 4 r hr) q1442 q1443 q1444 q128 q1445 (dmS hG (by decide) rfl) rfl rfl (by decide +kernel) rfl rfl rfl rfl rfl rfl dX1_led_96 (fun v96 => [.int v96]) (fun _ => rfl) (fun v96 M96 => ?_)
    refine j_iconst (v := 2) hC dX1_led_99 (by decide) ?_
    refine j_icmp_ne (tgt := 107) hC dX1_led_100 (by decide) (fun h100 => ?_) (fun h100 => ?_)
    · exact j_sub [0, 1, 2, 3, 4, 5, 6] rfl (wX1_led_103 hC hT hG hnl fu kn11 hk11 M96 x1 x2 x3 x4 x5 x6)
    · exact j_sub [0, 1, 2, 3, 4, 5, 6] rfl (wX1_led_107 hC hT hG hnl fu kn11 hk11 M96 x1 x2 x3 x4 x5 x6)
set_option linter.unusedVariables false in
set_option maxRecDepth 100000 in
theorem wX1_led_63 {X : JX} (hC : JC X cX1_led RX1 (some .int) 8 134 1 6) (hT : JT X) (hG : dmI dmX (XG X)) (hnl : nLof X = 8) (fu : Nat) (kn11 : Mem × Int32 × Int32 × Int32 × Int32 → Option TR) (hk11 : ∀ (M : Mem) (x1 x2 x3 x4 : Int32), J X (ZT X foI 1 6) (kn11 (M, x1, x2, x3, x4)) 11 [(0, .ref (gadr (XG X) (4, 0, 0))), (1, .int x1), (2, .int x2), (3, .int x3), (4, .int x4)] [] M 1 6) (M : Mem) (x1 x2 x3 x4 x5 t0 : Int32) : J X (ZT X foI 1 6) (FX1_led_63 fu (XD X) kn11 M x1 x2 x3 x4 x5 t0) 63 [(0, .ref (gadr (XG X) (4, 0, 0))), (1, .int x1), (2, .int x2), (3, .int x3), (4, .int x4), (5, .int x5)] [.int t0] M 1 6 := by
  unfold FX1_led_63
  refine j_istore hC [(6, .int t0), (0, .ref (gadr (XG X) (4, 0, 0))), (1, .int x1), (2, .int x2), (3, .int x3), (4, .int x4), (5, .int x5)] hnl dX1_led_63 rfl rfl ?_
  refine j_iload hC 6 dX1_led_65 rfl ?_
  refine j_if_eq (tgt := 84) hC dX1_led_67 (by decide) (fun h67 => ?_) (fun h67 => ?_)
  · exact j_sub [1, 2, 3, 4, 5, 6, 0] rfl (wX1_led_84 hC hT hG hnl fu kn11 hk11 M x1 x2 x3 x4 x5 t0)
  · refine j_aload_n hC 1 dX1_led_70 rfl ?_
    refine j_getR (fk := 1) hC (dmY hG rfl) rfl rfl in_X1 rfl rfl q496 rfl dX1_led_71 ?_
    refine j_iload hC 5 dX1_led_74 rfl ?_
    refine j_iconst (v := 4) hC dX1_led_76 (by decide) ?_
    refine j_callV (nA := 2) (rest := []) hC [.int x4, .int 4] rfl (fun r hr => mX3_row (XL X) (XG X) hG fu (XD X) 0 (by decide) M x4 4 r hr) q1442 q1443 q1444 q128 q1445 (dmS hG (by decide) rfl) rfl rfl (by decide +kernel) rfl rfl rfl rfl rfl rfl dX1_led_77 (fun v77 => [.int v77]) (fun _ => rfl) (fun v77 M77 => ?_)
    refine j_iconst (v := 1) hC dX1_led_80 (by decide) ?_
    refine j_icmp_eq (tgt := 103) hC dX1_led_81 (by decide) (fun h81 => ?_) (fun h81 => ?_)
    · exact j_sub [1, 2, 3, 4, 5, 6, 0] rfl (wX1_led_103 hC hT hG hnl fu kn11 hk11 M77 x1 x2 x3 x4 x5 t0)
    · exact j_sub [1, 2, 3, 4, 5, 6, 0] rfl (wX1_led_84 hC hT hG hnl fu kn11 hk11 M77 x1 x2 x3 x4 x5 t0)
set_option linter.unusedVariables false in
set_option maxRecDepth 100000 in
theorem wX1_led_42 {X : JX} (hC : JC X cX1_led RX1 (some .int) 8 134 1 6) (hT : JT X) (hG : dmI dmX (XG X)) (hnl : nLof X = 8) (fu : Nat) (kn11 : Mem × Int32 × Int32 × Int32 × Int32 → Option TR) (hk11 : ∀ (M : Mem) (x1 x2 x3 x4 : Int32), J X (ZT X foI 1 6) (kn11 (M, x1, x2, x3, x4)) 11 [(0, .ref (gadr (XG X) (4, 0, 0))), (1, .int x1), (2, .int x2), (3, .int x3), (4, .int x4)] [] M 1 6) (M : Mem) (x1 x2 x3 x4 t0 : Int32) : J X (ZT X foI 1 6) (FX1_led_42 fu (XD X) kn11 M x1 x2 x3 x4 t0) 42 [(0, .ref (gadr (XG X) (4, 0, 0))), (1, .int x1), (2, .int x2), (3, .int x3), (4, .int x4)] [.int t0] M 1 6 := by
  unfold FX1_led_42
  refine j_istore hC [(5, .int t0), (0, .ref (gadr (XG X) (4, 0, 0))), (1, .int x1), (2, .int x2), (3, .int x3), (4, .int x4)] hnl dX1_led_42 rfl rfl ?_
  refine j_aload_n hC 1 dX1_led_44 rfl ?_
  refine j_getR (fk := 1) hC (dmY hG rfl) rfl rfl in_X1 rfl rfl q496 rfl dX1_led_45 ?_
  refine j_iload hC 5 dX1_led_48 rfl ?_
  refine j_iconst (v := 3) hC dX1_led_50 (by decide) ?_
  refine j_callV (nA := 2) (rest := []) hC [.int x4, .int 3] rfl (fun r hr => mX3_row (XL X) (XG X) hG fu (XD X) 0 (by decide) M x4 3 r hr) q1442 q1443 q1444 q128 q1445 (dmS hG (by decide) rfl) rfl rfl (by decide +kernel) rfl rfl rfl rfl rfl rfl dX1_led_51 (fun v51 => [.int v51]) (fun _ => rfl) (fun v51 M51 => ?_)
  refine j_iload_n hC 2 dX1_led_54 rfl ?_
  refine j_icmp_ne (tgt := 62) hC dX1_led_55 (by decide) (fun h55 => ?_) (fun h55 => ?_)
  · refine j_iconst (v := 1) hC dX1_led_58 (by decide) ?_
    refine j_goto (tgt := 63) hC dX1_led_59 (by decide) ?_
    exact j_sub [1, 2, 3, 4, 5, 0] rfl (wX1_led_63 hC hT hG hnl fu kn11 hk11 M51 x1 x2 x3 x4 t0 1)
  · refine j_iconst (v := 0) hC dX1_led_62 (by decide) ?_
    exact j_sub [1, 2, 3, 4, 5, 0] rfl (wX1_led_63 hC hT hG hnl fu kn11 hk11 M51 x1 x2 x3 x4 t0 0)
set_option linter.unusedVariables false in
set_option maxRecDepth 100000 in
theorem wgX1_led_11 {X : JX} (hC : JC X cX1_led RX1 (some .int) 8 134 1 6) (hT : JT X) (hG : dmI dmX (XG X)) (hnl : nLof X = 8) (fu : Nat) (kn11 : Mem × Int32 × Int32 × Int32 × Int32 → Option TR) (hk11 : ∀ (M : Mem) (x1 x2 x3 x4 : Int32), J X (ZT X foI 1 6) (kn11 (M, x1, x2, x3, x4)) 11 [(0, .ref (gadr (XG X) (4, 0, 0))), (1, .int x1), (2, .int x2), (3, .int x3), (4, .int x4)] [] M 1 6) (M : Mem) (x1 x2 x3 x4 : Int32) : J X (ZT X foI 1 6) (GX1_led_11 fu (XD X) kn11 M x1 x2 x3 x4) 11 [(0, .ref (gadr (XG X) (4, 0, 0))), (1, .int x1), (2, .int x2), (3, .int x3), (4, .int x4)] [] M 1 6 := by
  unfold GX1_led_11
  refine j_aload_n hC 0 dX1_led_11 rfl ?_
  refine j_getR (fk := 1) hC (dmY hG rfl) rfl rfl in_X1 rfl rfl q496 rfl dX1_led_12 ?_
  refine j_iload hC 4 dX1_led_15 rfl ?_
  refine j_callV (nA := 1) (rest := []) hC [.int x4] rfl (fun r hr => mX3_isKept (XL X) (XG X) hG fu (XD X) 0 (by decide) M x4 r hr) q1438 q1439 q1440 q128 q1441 (dmS hG (by decide) rfl) rfl rfl (by decide +kernel) rfl rfl rfl rfl rfl rfl dX1_led_17 (fun v17 => [.int v17]) (fun _ => rfl) (fun v17 M17 => ?_)
  refine j_if_eq (tgt := 151) hC dX1_led_20 (by decide) (fun h20 => ?_) (fun h20 => ?_)
  · refine j_iload_n hC 3 dX1_led_151 rfl ?_
    exact j_iretT hC rfl rfl dX1_led_152
  · refine j_aload_n hC 0 dX1_led_23 rfl ?_
    refine j_getR (fk := 1) hC (dmY hG rfl) rfl rfl in_X1 rfl rfl q496 rfl dX1_led_24 ?_
    refine j_iload hC 4 dX1_led_27 rfl ?_
    refine j_iconst (v := 2) hC dX1_led_29 (by decide) ?_
    refine j_callV (nA := 2) (rest := []) hC [.int x4, .int 2] rfl (fun r hr => mX3_row (XL X) (XG X) hG fu (XD X) 0 (by decide) M17 x4 2 r hr) q1442 q1443 q1444 q128 q1445 (dmS hG (by decide) rfl) rfl rfl (by decide +kernel) rfl rfl rfl rfl rfl rfl dX1_led_30 (fun v30 => [.int v30]) (fun _ => rfl) (fun v30 M30 => ?_)
    refine j_iload_n hC 1 dX1_led_33 rfl ?_
    refine j_icmp_ne (tgt := 41) hC dX1_led_34 (by decide) (fun h34 => ?_) (fun h34 => ?_)
    · refine j_iconst (v := 1) hC dX1_led_37 (by decide) ?_
      refine j_goto (tgt := 42) hC dX1_led_38 (by decide) ?_
      exact j_sub [0, 1, 2, 3, 4] rfl (wX1_led_42 hC hT hG hnl fu kn11 hk11 M30 x1 x2 x3 x4 1)
    · refine j_iconst (v := 0) hC dX1_led_41 (by decide) ?_
      exact j_sub [0, 1, 2, 3, 4] rfl (wX1_led_42 hC hT hG hnl fu kn11 hk11 M30 x1 x2 x3 x4 0)
set_option linter.unusedVariables false in
set_option maxRecDepth 100000 in
theorem wX1_led_11 {X : JX} (hC : JC X cX1_led RX1 (some .int) 8 134 1 6) (hT : JT X) (hG : dmI dmX (XG X)) (hnl : nLof X = 8) (fu : Nat) (M : Mem) (x1 x2 x3 x4 : Int32) : J X (ZT X foI 1 6) (FX1_led_11 fu (XD X) M x1 x2 x3 x4) 11 [(0, .ref (gadr (XG X) (4, 0, 0))), (1, .int x1), (2, .int x2), (3, .int x3), (4, .int x4)] [] M 1 6 := by
  exact j_lp (lvf := fun z => [(0, .ref (gadr (XG X) (4, 0, 0))), (1, .int (z.2.1)), (2, .int (z.2.2.1)), (3, .int (z.2.2.2.1)), (4, .int (z.2.2.2.2))]) (Mf := fun z => z.1) (fun kn hk z => wgX1_led_11 hC hT hG hnl fu kn (fun M x1 x2 x3 x4 => hk (M, x1, x2, x3, x4)) z.1 z.2.1 z.2.2.1 z.2.2.2.1 z.2.2.2.2) fu (M, x1, x2, x3, x4)
set_option linter.unusedVariables false in
set_option maxRecDepth 100000 in
theorem wX1_led {X : JX} (hC : JC X cX1_led RX1 (some .int) 8 134 1 6) (hT : JT X) (hG : dmI dmX (XG X)) (hnl : nLof X = 8) (fu : Nat) (M : Mem) (x1 x2 : Int32) : J X (ZT X foI 1 6) (FX1_led fu (XD X) M x1 x2) 0 [(0, .ref (gadr (XG X) (4, 0, 0))), (1, .int x1), (2, .int x2)] [] M 0 0 := by
  unfold FX1_led
  refine j_aload_n hC 0 dX1_led_0 rfl ?_
  refine j_iload_n hC 1 dX1_led_1 rfl ?_
  refine j_callVT (nA := 1) (rest := []) hC hT [.int x1] rfl (fun r hr => mX1_birdAt (XL X) (JT.st hT) (XG X) hG fu (XD X) M x1 r hr) q1089 q1091 qs30 q126 q1092 (dmY hG rfl) rfl rfl (by decide +kernel) rfl rfl rfl rfl rfl rfl dX1_led_2 (fun v2 => [.ref (gadr (XG X) (1, 0, v2.toNatClampNeg))]) (fun _ => rfl) (fun v2 M2 => ?_)
  refine j_gd (fun h2 => ?_)
  refine j_pop hC dX1_led_5 rfl ?_
  refine j_iconst (v := 0) hC dX1_led_6 (by decide) ?_
  refine j_istore_n hC [(3, .int 0), (0, .ref (gadr (XG X) (4, 0, 0))), (1, .int x1), (2, .int x2)] hnl dX1_led_7 rfl rfl ?_
  refine j_iconst (v := 0) hC dX1_led_8 (by decide) ?_
  refine j_istore hC [(4, .int 0), (3, .int 0), (0, .ref (gadr (XG X) (4, 0, 0))), (1, .int x1), (2, .int x2)] hnl dX1_led_9 rfl rfl ?_
  exact j_sub [2, 3, 4, 1, 0] rfl (wX1_led_11 hC hT hG hnl fu M2 x1 x2 0 0)
set_option linter.unusedVariables false in
set_option maxRecDepth 100000 in
theorem mX1_led (l : Launch) (hst : l.stackTraces = false) (Γ : xG) (hG : dmI dmX Γ) (fu : Nat) (D : List LDen) (M : Mem) (x1 x2 : Int32) (r : TR) (hr : FX1_led fu D M x1 x2 = some r) : CT l yX1_led (ws_ yX1_led cX1_led 8 (some .int)) 8 134 1 6 Γ D [.ref (gadr Γ (4, 0, 0)), .int x1, .int x2] M foI r := by
  refine CT.of hst (own := RX1) (lv0 := lv_args 0 [.ref (gadr Γ (4, 0, 0)), .int x1, .int x2]) (by decide +kernel) rfl (Nat.le_of_ble_eq_true rfl) rfl (fun X e1 e2 e3 e4 hC hT => ?_) r hr
  subst e1
  subst e2
  exact wX1_led hC hT hG e4 fu M x1 x2
set_option linter.unusedVariables false in
set_option maxRecDepth 100000 in
theorem wX1_log {X : JX} (hC : JC X cX1_log RX1 (some .int) 7 113 1 6) (hT : JT X) (hG : dmI dmX (XG X)) (hnl : nLof X = 3) (fu : Nat) (M : Mem) (x1 x2 : Int32) : J X (ZT X foI 1 6) (FX1_log fu (XD X) M x1 x2) 0 [(0, .ref (gadr (XG X) (4, 0, 0))), (1, .int x1), (2, .int x2)] [] M 0 0 := by
  unfold FX1_log
  refine j_iload_n hC 2 dX1_log_0 rfl ?_
  refine j_iconst (v := 0) hC dX1_log_1 (by decide) ?_
  refine j_iconst (v := 5) hC dX1_log_2 (by decide) ?_
  refine j_callS (nA := 3) (rest := []) hC [.int x2, .int 0, .int 5] rfl (fun r hr => mX1_isIn (XL X) (XG X) hG fu (XD X) M x2 0 5 r hr) q558 q559 q126 q560 (by decide +kernel) rfl rfl rfl rfl rfl rfl dX1_log_3 (fun v3 => [.int v3]) (fun _ => rfl) (fun v3 M3 => ?_)
  refine j_callST (nA := 1) (rest := []) hC hT [.int v3] rfl (fun r hr => mX1_thereIs (XL X) (JT.st hT) (XG X) hG fu (XD X) M3 v3 r hr) q1262 q1263 q126 q1264 (by decide +kernel) rfl rfl rfl rfl rfl rfl dX1_log_6 (fun _ => []) (fun _ => rfl) (fun v6 M6 => ?_)
  refine j_aload_n hC 0 dX1_log_9 rfl ?_
  refine j_getR (fk := 1) hC (dmY hG rfl) rfl rfl in_X1 rfl rfl q496 rfl dX1_log_10 ?_
  refine j_iload_n hC 1 dX1_log_13 rfl ?_
  refine j_iload_n hC 2 dX1_log_14 rfl ?_
  refine j_callV (nA := 2) (rest := []) hC [.int x1, .int x2] rfl (fun r hr => mX3_row (XL X) (XG X) hG fu (XD X) 0 (by decide) M6 x1 x2 r hr) q1442 q1443 q1444 q128 q1445 (dmS hG (by decide) rfl) rfl rfl (by decide +kernel) rfl rfl rfl rfl rfl rfl dX1_log_15 (fun v15 => [.int v15]) (fun _ => rfl) (fun v15 M15 => ?_)
  exact j_iretT hC rfl rfl dX1_log_18
set_option linter.unusedVariables false in
set_option maxRecDepth 100000 in
theorem mX1_log (l : Launch) (hst : l.stackTraces = false) (Γ : xG) (hG : dmI dmX Γ) (fu : Nat) (D : List LDen) (M : Mem) (x1 x2 : Int32) (r : TR) (hr : FX1_log fu D M x1 x2 = some r) : CT l yX1_log (ws_ yX1_log cX1_log 3 (some .int)) 7 113 1 6 Γ D [.ref (gadr Γ (4, 0, 0)), .int x1, .int x2] M foI r := by
  refine CT.of hst (own := RX1) (lv0 := lv_args 0 [.ref (gadr Γ (4, 0, 0)), .int x1, .int x2]) (by decide +kernel) rfl (Nat.le_of_ble_eq_true rfl) rfl (fun X e1 e2 e3 e4 hC hT => ?_) r hr
  subst e1
  subst e2
  exact wX1_log hC hT hG e4 fu M x1 x2
