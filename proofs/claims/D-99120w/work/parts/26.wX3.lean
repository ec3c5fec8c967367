/-! State: sinks, carried, be (printed by gen/gen.py) -/
set_option linter.unusedVariables false in
def GX3_sinks_23 (fu : Nat) (D : List LDen) (s : Nat) (kn23 : Mem × Int32 × Int32 → Option (Int32 × Mem)) (M : Mem) (x5 x6 : Int32) : Option (Int32 × Mem) :=
  if (M (0, s, 0) 10) ≤ x6 then some (mx 0 (mn 12 x5), M) else gd x6 12 (lnq D (M (0, s, 3) x6.toNatClampNeg) (fun d40 => lt (x5 + (sinksOf d40 (M (0, s, 6)))) (fun y49 => lt (x6 + 1) (fun y51 => kn23 (M, y49, y51)))))
set_option linter.unusedVariables false in
def FX3_sinks_23 (fu : Nat) (D : List LDen) (s : Nat) (M : Mem) (x5 x6 : Int32) : Option (Int32 × Mem) := lp (fun kn z => GX3_sinks_23 fu D s kn z.1 z.2.1 z.2.2) fu (M, x5, x6)
set_option linter.unusedVariables false in
def FX3_sinks (fu : Nat) (D : List LDen) (s : Nat) (M : Mem) (x1 x2 x3 x4 : Int32) : Option (Int32 × Mem) :=
  bd (FX3_tells fu D s M x1 x2 x3 x4) (fun _ M6 => gd x1 6 (lt (M6 (1, s, x1.toNatClampNeg) 0) (fun y18 => FX3_sinks_23 fu D s M6 y18 0)))
set_option linter.unusedVariables false in
def GX3_carried_30 (fu : Nat) (D : List LDen) (s : Nat) (kn30 : Mem × Int32 × Int32 → Option (Int32 × Mem)) (M : Mem) (x5 x6 : Int32) : Option (Int32 × Mem) :=
  if (M (0, s, 0) 10) ≤ x6 then some (x5, M) else gd x6 12 (lnq D (M (0, s, 3) x6.toNatClampNeg) (fun d47 => lt (x5 + (carriesOf d47 (M (0, s, 6)))) (fun y56 => lt (x6 + 1) (fun y58 => kn30 (M, y56, y58)))))
set_option linter.unusedVariables false in
def FX3_carried_30 (fu : Nat) (D : List LDen) (s : Nat) (M : Mem) (x5 x6 : Int32) : Option (Int32 × Mem) := lp (fun kn z => GX3_carried_30 fu D s kn z.1 z.2.1 z.2.2) fu (M, x5, x6)
set_option linter.unusedVariables false in
def FX3_carried (fu : Nat) (D : List LDen) (s : Nat) (M : Mem) (x1 x2 x3 x4 : Int32) : Option (Int32 × Mem) :=
  bd (FX3_tells fu D s M x1 x2 x3 x4) (fun _ M6 => gd x2 13 (gd x1 6 (lt ((M6 (0, s, 5) x2.toNatClampNeg) * (M6 (1, s, x1.toNatClampNeg) 1)) (fun y25 => FX3_carried_30 fu D s M6 y25 0))))
set_option linter.unusedVariables false in
def GX3_be_33 (fu : Nat) (D : List LDen) (s : Nat) (o : Nat) (kn33 : Mem × Int32 → Option (Int32 × Mem)) (M : Mem) (x2 : Int32) : Option (Int32 × Mem) :=
  if (M (0, o, 0) 9) ≤ x2 then lok D (M (0, o, 3)) 12 (lt (cp M (0, o, 3) (0, s, 3) 12) (fun M74 => lt (cp M74 (0, o, 4) (0, s, 4) 24) (fun M89 => lt (cp M89 (0, o, 5) (0, s, 5) 13) (fun M104 => lt (cp M104 (0, o, 7) (0, s, 7) 360) (fun M120 => lt (up M120 (0, s, 0) 7 (M120 (0, o, 0) 7)) (fun M128 => lt (up M128 (0, s, 0) 8 (M128 (0, o, 0) 8)) (fun M136 => lt (up M136 (0, s, 0) 9 (M136 (0, o, 0) 9)) (fun M144 => lt (up M144 (0, s, 0) 10 (M144 (0, o, 0) 10)) (fun M152 => lt (up M152 (0, s, 0) 11 (M152 (0, o, 0) 11)) (fun M160 => lt (up M160 (0, s, 0) 12 (M160 (0, o, 0) 12)) (fun M168 => lt (up M168 (0, s, 0) 13 (M168 (0, o, 0) 13)) (fun M176 => lt (up M176 (0, s, 0) 14 (M176 (0, o, 0) 14)) (fun M184 => lt (up M184 (0, s, 0) 15 (M184 (0, o, 0) 15)) (fun M192 => lt (up M192 (0, s, 0) 16 (M192 (0, o, 0) 16)) (fun M200 => lt (up M200 (0, s, 0) 17 (M200 (0, o, 0) 17)) (fun M208 => lt (up M208 (0, s, 0) 18 (M208 (0, o, 0) 18)) (fun M216 => lt (up M216 (0, s, 0) 19 (M216 (0, o, 0) 19)) (fun M224 => some (0, M224))))))))))))))))))) else gd x2 12 (gd x2 12 (bd (FX5_be fu D s (x2.toNatClampNeg) o (x2.toNatClampNeg) M) (fun _ M53 => lt (x2 + 1) (fun y56 => kn33 (M53, y56)))))
set_option linter.unusedVariables false in
def FX3_be_33 (fu : Nat) (D : List LDen) (s : Nat) (o : Nat) (M : Mem) (x2 : Int32) : Option (Int32 × Mem) := lp (fun kn z => GX3_be_33 fu D s o kn z.1 z.2) fu (M, x2)
set_option linter.unusedVariables false in
def GX3_be_2 (fu : Nat) (D : List LDen) (s : Nat) (o : Nat) (kn2 : Mem × Int32 → Option (Int32 × Mem)) (M : Mem) (x2 : Int32) : Option (Int32 × Mem) :=
  if (M (0, o, 0) 7) ≤ x2 then FX3_be_33 fu D s o M 0 else gd x2 6 (gd x2 6 (bd (FX4_be fu D s (x2.toNatClampNeg) o (x2.toNatClampNeg) M) (fun _ M22 => lt (x2 + 1) (fun y25 => kn2 (M22, y25)))))
set_option linter.unusedVariables false in
def FX3_be_2 (fu : Nat) (D : List LDen) (s : Nat) (o : Nat) (M : Mem) (x2 : Int32) : Option (Int32 × Mem) := lp (fun kn z => GX3_be_2 fu D s o kn z.1 z.2) fu (M, x2)
set_option linter.unusedVariables false in
def FX3_be (fu : Nat) (D : List LDen) (s : Nat) (o : Nat) (M : Mem) : Option (Int32 × Mem) :=
  FX3_be_2 fu D s o M 0
set_option linter.unusedVariables false in
set_option maxRecDepth 100000 in
theorem wgX3_sinks_23 {X : JX} (hC : JC X cX3_sinks RX3 (some .int) 36 1360 0 0) (hG : dmI dmX (XG X)) (hnl : nLof X = 7) (fu : Nat) (s : Nat) (hs : s < 15) (kn23 : Mem × Int32 × Int32 → Option (Int32 × Mem)) (hk23 : ∀ (M : Mem) (x5 x6 : Int32), J X (ZN X foI) (kn23 (M, x5, x6)) 23 [(0, .ref (gadr (XG X) (0, s, 0))), (5, .int x5), (6, .int x6)] [] M 0 0) (M : Mem) (x5 x6 : Int32) : J X (ZN X foI) (GX3_sinks_23 fu (XD X) s kn23 M x5 x6) 23 [(0, .ref (gadr (XG X) (0, s, 0))), (5, .int x5), (6, .int x6)] [] M 0 0 := by
  unfold GX3_sinks_23
  refine j_iload hC 2 dX3_sinks_23 rfl ?_
  refine j_aload_n hC 0 dX3_sinks_25 rfl ?_
  refine j_getI (fk := 10) hC (dmS hG hs rfl) rfl rfl in_X3 rfl rfl q281 rfl dX3_sinks_26 ?_
  refine j_icmp_ge (tgt := 57) hC dX3_sinks_29 (by decide) (fun h29 => ?_) (fun h29 => ?_)
  · refine j_iconst (v := 0) hC dX3_sinks_57 (by decide) ?_
    refine j_bipush (v := 12) hC dX3_sinks_58 (by decide) ?_
    refine j_iload hC 1 dX3_sinks_60 rfl ?_
    refine j_min hC q639 q640 q155 q641 dX3_sinks_62 rfl (Nat.le_of_ble_eq_true rfl) (Nat.le_of_ble_eq_true rfl) (Nat.le_of_ble_eq_true rfl) ?_
    refine j_max hC q642 q643 q155 q644 dX3_sinks_65 rfl (Nat.le_of_ble_eq_true rfl) (Nat.le_of_ble_eq_true rfl) (Nat.le_of_ble_eq_true rfl) ?_
    exact j_iret hC dX3_sinks_68
  · refine j_iload hC 1 dX3_sinks_32 rfl ?_
    refine j_aload_n hC 0 dX3_sinks_34 rfl ?_
    refine j_getR (fk := 2) hC (dmS hG hs rfl) rfl rfl in_X3 rfl rfl q262 rfl dX3_sinks_35 ?_
    refine j_iload hC 2 dX3_sinks_38 rfl ?_
    refine j_lineSinks hC hG hs 0 rfl dX3_sinks_40 dX3_sinks_41 dX3_sinks_42 dX3_sinks_45 q270 (by decide) (by decide) rfl rfl rfl (fun d40 => ?_)
    refine j_iadd hC dX3_sinks_48 ?_
    refine j_ltT (fun y49 => ?_)
    refine j_istore hC [(5, .int y49), (0, .ref (gadr (XG X) (0, s, 0))), (6, .int x6)] hnl dX3_sinks_49 rfl rfl ?_
    refine j_iincL hC 2 (fun y51 => [(6, .int y51), (5, .int y49), (0, .ref (gadr (XG X) (0, s, 0)))]) hnl dX3_sinks_51 rfl (by decide) rfl (fun _ => rfl) (fun y51 => ?_)
    refine j_goto (tgt := 23) hC dX3_sinks_54 (by decide) ?_
    exact j_sub [2, 1, 0] rfl (hk23 M y49 y51)
set_option linter.unusedVariables false in
set_option maxRecDepth 100000 in
theorem wX3_sinks_23 {X : JX} (hC : JC X cX3_sinks RX3 (some .int) 36 1360 0 0) (hG : dmI dmX (XG X)) (hnl : nLof X = 7) (fu : Nat) (s : Nat) (hs : s < 15) (M : Mem) (x5 x6 : Int32) : J X (ZN X foI) (FX3_sinks_23 fu (XD X) s M x5 x6) 23 [(0, .ref (gadr (XG X) (0, s, 0))), (5, .int x5), (6, .int x6)] [] M 0 0 := by
  exact j_lp (lvf := fun z => [(0, .ref (gadr (XG X) (0, s, 0))), (5, .int (z.2.1)), (6, .int (z.2.2))]) (Mf := fun z => z.1) (fun kn hk z => wgX3_sinks_23 hC hG hnl fu s hs kn (fun M x5 x6 => hk (M, x5, x6)) z.1 z.2.1 z.2.2) fu (M, x5, x6)
set_option linter.unusedVariables false in
set_option maxRecDepth 100000 in
theorem wX3_sinks {X : JX} (hC : JC X cX3_sinks RX3 (some .int) 36 1360 0 0) (hG : dmI dmX (XG X)) (hnl : nLof X = 7) (fu : Nat) (s : Nat) (hs : s < 15) (M : Mem) (x1 x2 x3 x4 : Int32) : J X (ZN X foI) (FX3_sinks fu (XD X) s M x1 x2 x3 x4) 0 [(0, .ref (gadr (XG X) (0, s, 0))), (1, .int x1), (2, .int x2), (3, .int x3), (4, .int x4)] [] M 0 0 := by
  unfold FX3_sinks
  refine j_aload_n hC 0 dX3_sinks_0 rfl ?_
  refine j_iload_n hC 1 dX3_sinks_1 rfl ?_
  refine j_iload_n hC 2 dX3_sinks_2 rfl ?_
  refine j_iload_n hC 3 dX3_sinks_3 rfl ?_
  refine j_iload hC 4 dX3_sinks_4 rfl ?_
  refine j_callV (nA := 4) (rest := []) hC [.int x1, .int x2, .int x3, .int x4] rfl (fun r hr => mX3_tells (XL X) (XG X) hG fu (XD X) s hs M x1 x2 x3 x4 r hr) q581 q583 qs3 q128 q584 (dmS hG hs rfl) rfl rfl (by decide +kernel) rfl rfl rfl rfl rfl rfl dX3_sinks_6 (fun _ => []) (fun _ => rfl) (fun v6 M6 => ?_)
  refine j_aload_n hC 0 dX3_sinks_9 rfl ?_
  refine j_getR (fk := 0) hC (dmS hG hs rfl) rfl rfl in_X3 rfl rfl q255 rfl dX3_sinks_10 ?_
  refine j_iload_n hC 1 dX3_sinks_13 rfl ?_
  refine j_aald3 (d := (1, s, x1.toNatClampNeg)) hC (dmS hG hs rfl) rfl rfl dX3_sinks_14 (fun h14 => ?_)
  refine j_getNI (fk := 0) hC (dmB hG hs (vin_lt h14)) rfl rfl in_X4 rfl rfl q201 rfl dX3_sinks_15 ?_
  refine j_ltT (fun y18 => ?_)
  refine j_istore hC [(5, .int y18), (0, .ref (gadr (XG X) (0, s, 0))), (1, .int x1), (2, .int x2), (3, .int x3), (4, .int x4)] hnl dX3_sinks_18 rfl rfl ?_
  refine j_iconst (v := 0) hC dX3_sinks_20 (by decide) ?_
  refine j_istore hC [(6, .int 0), (5, .int y18), (0, .ref (gadr (XG X) (0, s, 0))), (1, .int x1), (2, .int x2), (3, .int x3), (4, .int x4)] hnl dX3_sinks_21 rfl rfl ?_
  exact j_sub [2, 1, 0] rfl (wX3_sinks_23 hC hG hnl fu s hs M6 y18 0)
set_option linter.unusedVariables false in
set_option maxRecDepth 100000 in
theorem mX3_sinks (l : Launch) (Γ : xG) (hG : dmI dmX Γ) (fu : Nat) (D : List LDen) (s : Nat) (hs : s < 15) (M : Mem) (x1 x2 x3 x4 : Int32) (r : Int32 × Mem) (hr : FX3_sinks fu D s M x1 x2 x3 x4 = some r) : CN l yX3_sinks (ws_ yX3_sinks cX3_sinks 7 (some .int)) 36 1360 Γ D [.ref (gadr Γ (0, s, 0)), .int x1, .int x2, .int x3, .int x4] M (foI r.1) r.2 := by
  refine CN.of (own := RX3) (lv0 := lv_args 0 [.ref (gadr Γ (0, s, 0)), .int x1, .int x2, .int x3, .int x4]) (by decide +kernel) rfl (Nat.le_of_ble_eq_true rfl) rfl (fun X e1 e2 e3 e4 hC => ?_) r hr
  subst e1
  subst e2
  exact wX3_sinks hC hG e4 fu s hs M x1 x2 x3 x4
set_option linter.unusedVariables false in
set_option maxRecDepth 100000 in
theorem wgX3_carried_30 {X : JX} (hC : JC X cX3_carried RX3 (some .int) 36 1360 0 0) (hG : dmI dmX (XG X)) (hnl : nLof X = 7) (fu : Nat) (s : Nat) (hs : s < 15) (kn30 : Mem × Int32 × Int32 → Option (Int32 × Mem)) (hk30 : ∀ (M : Mem) (x5 x6 : Int32), J X (ZN X foI) (kn30 (M, x5, x6)) 30 [(0, .ref (gadr (XG X) (0, s, 0))), (5, .int x5), (6, .int x6)] [] M 0 0) (M : Mem) (x5 x6 : Int32) : J X (ZN X foI) (GX3_carried_30 fu (XD X) s kn30 M x5 x6) 30 [(0, .ref (gadr (XG X) (0, s, 0))), (5, .int x5), (6, .int x6)] [] M 0 0 := by
  unfold GX3_carried_30
  refine j_iload hC 2 dX3_carried_30 rfl ?_
  refine j_aload_n hC 0 dX3_carried_32 rfl ?_
  refine j_getI (fk := 10) hC (dmS hG hs rfl) rfl rfl in_X3 rfl rfl q281 rfl dX3_carried_33 ?_
  refine j_icmp_ge (tgt := 64) hC dX3_carried_36 (by decide) (fun h36 => ?_) (fun h36 => ?_)
  · refine j_iload hC 1 dX3_carried_64 rfl ?_
    exact j_iret hC dX3_carried_66
  · refine j_iload hC 1 dX3_carried_39 rfl ?_
    refine j_aload_n hC 0 dX3_carried_41 rfl ?_
    refine j_getR (fk := 2) hC (dmS hG hs rfl) rfl rfl in_X3 rfl rfl q262 rfl dX3_carried_42 ?_
    refine j_iload hC 2 dX3_carried_45 rfl ?_
    refine j_lineCarries hC hG hs 0 rfl dX3_carried_47 dX3_carried_48 dX3_carried_49 dX3_carried_52 q270 (by decide) (by decide) rfl rfl rfl (fun d47 => ?_)
    refine j_iadd hC dX3_carried_55 ?_
    refine j_ltT (fun y56 => ?_)
    refine j_istore hC [(5, .int y56), (0, .ref (gadr (XG X) (0, s, 0))), (6, .int x6)] hnl dX3_carried_56 rfl rfl ?_
    refine j_iincL hC 2 (fun y58 => [(6, .int y58), (5, .int y56), (0, .ref (gadr (XG X) (0, s, 0)))]) hnl dX3_carried_58 rfl (by decide) rfl (fun _ => rfl) (fun y58 => ?_)
    refine j_goto (tgt := 30) hC dX3_carried_61 (by decide) ?_
    exact j_sub [2, 1, 0] rfl (hk30 M y56 y58)
set_option linter.unusedVariables false in
set_option maxRecDepth 100000 in
theorem wX3_carried_30 {X : JX} (hC : JC X cX3_carried RX3 (some .int) 36 1360 0 0) (hG : dmI dmX (XG X)) (hnl : nLof X = 7) (fu : Nat) (s : Nat) (hs : s < 15) (M : Mem) (x5 x6 : Int32) : J X (ZN X foI) (FX3_carried_30 fu (XD X) s M x5 x6) 30 [(0, .ref (gadr (XG X) (0, s, 0))), (5, .int x5), (6, .int x6)] [] M 0 0 := by
  exact j_lp (lvf := fun z => [(0, .ref (gadr (XG X) (0, s, 0))), (5, .int (z.2.1)), (6, .int (z.2.2))]) (Mf := fun z => z.1) (fun kn hk z => wgX3_carried_30 hC hG hnl fu s hs kn (fun M x5 x6 => hk (M, x5, x6)) z.1 z.2.1 z.2.2) fu (M, x5, x6)
set_option linter.unusedVariables false in
set_option maxRecDepth 100000 in
theorem wX3_carried {X : JX} (hC : JC X cX3_carried RX3 (some .int) 36 1360 0 0) (hG : dmI dmX (XG X)) (hnl : nLof X = 7) (fu : Nat) (s : Nat) (hs : s < 15) (M : Mem) (x1 x2 x3 x4 : Int32) : J X (ZN X foI) (FX3_carried fu (XD X) s M x1 x2 x3 x4) 0 [(0, .ref (gadr (XG X) (0, s, 0))), (1, .int x1), (2, .int x2), (3, .int x3), (4, .int x4)] [] M 0 0 := by
  unfold FX3_carried
  refine j_aload_n hC 0 dX3_carried_0 rfl ?_
  refine j_iload_n hC 1 dX3_carried_1 rfl ?_
  refine j_iload_n hC 2 dX3_carried_2 rfl ?_
  refine j_iload_n hC 3 dX3_carried_3 rfl ?_
  refine j_iload hC 4 dX3_carried_4 rfl ?_
  refine j_callV (nA := 4) (rest := []) hC [.int x1, .int x2, .int x3, .int x4] rfl (fun r hr => mX3_tells (XL X) (XG X) hG fu (XD X) s hs M x1 x2 x3 x4 r hr) q581 q583 qs3 q128 q584 (dmS hG hs rfl) rfl rfl (by decide +kernel) rfl rfl rfl rfl rfl rfl dX3_carried_6 (fun _ => []) (fun _ => rfl) (fun v6 M6 => ?_)
  refine j_aload_n hC 0 dX3_carried_9 rfl ?_
  refine j_getR (fk := 4) hC (dmS hG hs rfl) rfl rfl in_X3 rfl rfl q267 rfl dX3_carried_10 ?_
  refine j_iload_n hC 2 dX3_carried_13 rfl ?_
  refine j_iald hC (dmS hG hs rfl) rfl dX3_carried_14 (fun h14 => ?_)
  refine j_aload_n hC 0 dX3_carried_15 rfl ?_
  refine j_getR (fk := 0) hC (dmS hG hs rfl) rfl rfl in_X3 rfl rfl q255 rfl dX3_carried_16 ?_
  refine j_iload_n hC 1 dX3_carried_19 rfl ?_
  refine j_aald3 (d := (1, s, x1.toNatClampNeg)) hC (dmS hG hs rfl) rfl rfl dX3_carried_20 (fun h20 => ?_)
  refine j_getNI (fk := 1) hC (dmB hG hs (vin_lt h20)) rfl rfl in_X4 rfl rfl q206 rfl dX3_carried_21 ?_
  refine j_imul hC dX3_carried_24 ?_
  refine j_ltT (fun y25 => ?_)
  refine j_istore hC [(5, .int y25), (0, .ref (gadr (XG X) (0, s, 0))), (1, .int x1), (2, .int x2), (3, .int x3), (4, .int x4)] hnl dX3_carried_25 rfl rfl ?_
  refine j_iconst (v := 0) hC dX3_carried_27 (by decide) ?_
  refine j_istore hC [(6, .int 0), (5, .int y25), (0, .ref (gadr (XG X) (0, s, 0))), (1, .int x1), (2, .int x2), (3, .int x3), (4, .int x4)] hnl dX3_carried_28 rfl rfl ?_
  exact j_sub [2, 1, 0] rfl (wX3_carried_30 hC hG hnl fu s hs M6 y25 0)
set_option linter.unusedVariables false in
set_option maxRecDepth 100000 in
theorem mX3_carried (l : Launch) (Γ : xG) (hG : dmI dmX Γ) (fu : Nat) (D : List LDen) (s : Nat) (hs : s < 15) (M : Mem) (x1 x2 x3 x4 : Int32) (r : Int32 × Mem) (hr : FX3_carried fu D s M x1 x2 x3 x4 = some r) : CN l yX3_carried (ws_ yX3_carried cX3_carried 7 (some .int)) 36 1360 Γ D [.ref (gadr Γ (0, s, 0)), .int x1, .int x2, .int x3, .int x4] M (foI r.1) r.2 := by
  refine CN.of (own := RX3) (lv0 := lv_args 0 [.ref (gadr Γ (0, s, 0)), .int x1, .int x2, .int x3, .int x4]) (by decide +kernel) rfl (Nat.le_of_ble_eq_true rfl) rfl (fun X e1 e2 e3 e4 hC => ?_) r hr
  subst e1
  subst e2
  exact wX3_carried hC hG e4 fu s hs M x1 x2 x3 x4
set_option linter.unusedVariables false in
set_option maxRecDepth 100000 in
theorem wgX3_be_33 {X : JX} (hC : JC X cX3_be RX3 none 2 40 0 0) (hG : dmI dmX (XG X)) (hnl : nLof X = 3) (fu : Nat) (s : Nat) (hs : s < 15) (o : Nat) (ho : o < 15) (kn33 : Mem × Int32 → Option (Int32 × Mem)) (hk33 : ∀ (M : Mem) (x2 : Int32), J X (ZN X foV) (kn33 (M, x2)) 33 [(0, .ref (gadr (XG X) (0, s, 0))), (1, .ref (gadr (XG X) (0, o, 0))), (2, .int x2)] [] M 0 0) (M : Mem) (x2 : Int32) : J X (ZN X foV) (GX3_be_33 fu (XD X) s o kn33 M x2) 33 [(0, .ref (gadr (XG X) (0, s, 0))), (1, .ref (gadr (XG X) (0, o, 0))), (2, .int x2)] [] M 0 0 := by
  unfold GX3_be_33
  refine j_iload_n hC 2 dX3_be_33 rfl ?_
  refine j_aload_n hC 1 dX3_be_34 rfl ?_
  refine j_getI (fk := 9) hC (dmS hG ho rfl) rfl rfl in_X3 rfl rfl q278 rfl dX3_be_35 ?_
  refine j_icmp_ge (tgt := 62) hC dX3_be_38 (by decide) (fun h38 => ?_) (fun h38 => ?_)
  · refine j_aload_n hC 1 dX3_be_62 rfl ?_
    refine j_getR (fk := 2) hC (dmS hG ho rfl) rfl rfl in_X3 rfl rfl q262 rfl dX3_be_63 ?_
    refine j_iconst (v := 0) hC dX3_be_66 (by decide) ?_
    refine j_aload_n hC 0 dX3_be_67 rfl ?_
    refine j_getR (fk := 2) hC (dmS hG hs rfl) rfl rfl in_X3 rfl rfl q262 rfl dX3_be_68 ?_
    refine j_iconst (v := 0) hC dX3_be_71 (by decide) ?_
    refine j_bipush (v := 12) hC dX3_be_72 (by decide) ?_
    refine j_copyQ (w := 12) hC (dmS hG ho rfl) (dmS hG hs rfl) rfl rfl (by decide) (by decide) rfl rfl (fun _ => rfl) (fun _ => rfl) q710 q667 q666 q137 rfl (Nat.le_of_ble_eq_true rfl) dX3_be_74 ?_
    refine j_lt (fun M74 => ?_)
    refine j_aload_n hC 1 dX3_be_77 rfl ?_
    refine j_getR (fk := 3) hC (dmS hG ho rfl) rfl rfl in_X3 rfl rfl q264 rfl dX3_be_78 ?_
    refine j_iconst (v := 0) hC dX3_be_81 (by decide) ?_
    refine j_aload_n hC 0 dX3_be_82 rfl ?_
    refine j_getR (fk := 3) hC (dmS hG hs rfl) rfl rfl in_X3 rfl rfl q264 rfl dX3_be_83 ?_
    refine j_iconst (v := 0) hC dX3_be_86 (by decide) ?_
    refine j_bipush (v := 24) hC dX3_be_87 (by decide) ?_
    refine j_copyI (w := 24) hC (dmS hG ho rfl) (dmS hG hs rfl) rfl rfl (by decide) (by decide) rfl rfl q710 q667 q666 q137 rfl (Nat.le_of_ble_eq_true rfl) dX3_be_89 ?_
    refine j_lt (fun M89 => ?_)
    refine j_aload_n hC 1 dX3_be_92 rfl ?_
    refine j_getR (fk := 4) hC (dmS hG ho rfl) rfl rfl in_X3 rfl rfl q267 rfl dX3_be_93 ?_
    refine j_iconst (v := 0) hC dX3_be_96 (by decide) ?_
    refine j_aload_n hC 0 dX3_be_97 rfl ?_
    refine j_getR (fk := 4) hC (dmS hG hs rfl) rfl rfl in_X3 rfl rfl q267 rfl dX3_be_98 ?_
    refine j_iconst (v := 0) hC dX3_be_101 (by decide) ?_
    refine j_bipush (v := 13) hC dX3_be_102 (by decide) ?_
    refine j_copyI (w := 13) hC (dmS hG ho rfl) (dmS hG hs rfl) rfl rfl (by decide) (by decide) rfl rfl q710 q667 q666 q137 rfl (Nat.le_of_ble_eq_true rfl) dX3_be_104 ?_
    refine j_lt (fun M104 => ?_)
    refine j_aload_n hC 1 dX3_be_107 rfl ?_
    refine j_getR (fk := 6) hC (dmS hG ho rfl) rfl rfl in_X3 rfl rfl q271 rfl dX3_be_108 ?_
    refine j_iconst (v := 0) hC dX3_be_111 (by decide) ?_
    refine j_aload_n hC 0 dX3_be_112 rfl ?_
    refine j_getR (fk := 6) hC (dmS hG hs rfl) rfl rfl in_X3 rfl rfl q271 rfl dX3_be_113 ?_
    refine j_iconst (v := 0) hC dX3_be_116 (by decide) ?_
    refine j_sipush (v := 360) hC dX3_be_117 (by decide) ?_
    refine j_copyI (w := 360) hC (dmS hG ho rfl) (dmS hG hs rfl) rfl rfl (by decide) (by decide) rfl rfl q710 q667 q666 q137 rfl (Nat.le_of_ble_eq_true rfl) dX3_be_120 ?_
    refine j_lt (fun M120 => ?_)
    refine j_aload_n hC 0 dX3_be_123 rfl ?_
    refine j_aload_n hC 1 dX3_be_124 rfl ?_
    refine j_getI (fk := 7) hC (dmS hG ho rfl) rfl rfl in_X3 rfl rfl q272 rfl dX3_be_125 ?_
    refine j_put (fk := 7) (ty := .int) hC (dmS hG hs rfl) rfl rfl in_X3 rfl rfl q272 tyX3 tyX3_ok nmX3 rfl rfl (by decide +kernel) rfl rfl dX3_be_128 ?_
    refine j_lt (fun M128 => ?_)
    refine j_aload_n hC 0 dX3_be_131 rfl ?_
    refine j_aload_n hC 1 dX3_be_132 rfl ?_
    refine j_getI (fk := 8) hC (dmS hG ho rfl) rfl rfl in_X3 rfl rfl q275 rfl dX3_be_133 ?_
    refine j_put (fk := 8) (ty := .int) hC (dmS hG hs rfl) rfl rfl in_X3 rfl rfl q275 tyX3 tyX3_ok nmX3 rfl rfl (by decide +kernel) rfl rfl dX3_be_136 ?_
    refine j_lt (fun M136 => ?_)
    refine j_aload_n hC 0 dX3_be_139 rfl ?_
    refine j_aload_n hC 1 dX3_be_140 rfl ?_
    refine j_getI (fk := 9) hC (dmS hG ho rfl) rfl rfl in_X3 rfl rfl q278 rfl dX3_be_141 ?_
    refine j_put (fk := 9) (ty := .int) hC (dmS hG hs rfl) rfl rfl in_X3 rfl rfl q278 tyX3 tyX3_ok nmX3 rfl rfl (by decide +kernel) rfl rfl dX3_be_144 ?_
    refine j_lt (fun M144 => ?_)
    refine j_aload_n hC 0 dX3_be_147 rfl ?_
    refine j_aload_n hC 1 dX3_be_148 rfl ?_
    refine j_getI (fk := 10) hC (dmS hG ho rfl) rfl rfl in_X3 rfl rfl q281 rfl dX3_be_149 ?_
    refine j_put (fk := 10) (ty := .int) hC (dmS hG hs rfl) rfl rfl in_X3 rfl rfl q281 tyX3 tyX3_ok nmX3 rfl rfl (by decide +kernel) rfl rfl dX3_be_152 ?_
    refine j_lt (fun M152 => ?_)
    refine j_aload_n hC 0 dX3_be_155 rfl ?_
    refine j_aload_n hC 1 dX3_be_156 rfl ?_
    refine j_getI (fk := 11) hC (dmS hG ho rfl) rfl rfl in_X3 rfl rfl q283 rfl dX3_be_157 ?_
    refine j_put (fk := 11) (ty := .int) hC (dmS hG hs rfl) rfl rfl in_X3 rfl rfl q283 tyX3 tyX3_ok nmX3 rfl rfl (by decide +kernel) rfl rfl dX3_be_160 ?_
    refine j_lt (fun M160 => ?_)
    refine j_aload_n hC 0 dX3_be_163 rfl ?_
    refine j_aload_n hC 1 dX3_be_164 rfl ?_
    refine j_getI (fk := 12) hC (dmS hG ho rfl) rfl rfl in_X3 rfl rfl q285 rfl dX3_be_165 ?_
    refine j_put (fk := 12) (ty := .int) hC (dmS hG hs rfl) rfl rfl in_X3 rfl rfl q285 tyX3 tyX3_ok nmX3 rfl rfl (by decide +kernel) rfl rfl dX3_be_168 ?_
    refine j_lt (fun M168 => ?_)
    refine j_aload_n hC 0 dX3_be_171 rfl ?_
    refine j_aload_n hC 1 dX3_be_172 rfl ?_
    refine j_getI (fk := 13) hC (dmS hG ho rfl) rfl rfl in_X3 rfl rfl q289 rfl dX3_be_173 ?_
    refine j_put (fk := 13) (ty := .int) hC (dmS hG hs rfl) rfl rfl in_X3 rfl rfl q289 tyX3 tyX3_ok nmX3 rfl rfl (by decide +kernel) rfl rfl dX3_be_176 ?_
    refine j_lt (fun M176 => ?_)
    refine j_aload_n hC 0 dX3_be_179 rfl ?_
    refine j_aload_n hC 1 dX3_be_180 rfl ?_
    refine j_getI (fk := 14) hC (dmS hG ho rfl) rfl rfl in_X3 rfl rfl q293 rfl dX3_be_181 ?_
    refine j_put (fk := 14) (ty := .int) hC (dmS hG hs rfl) rfl rfl in_X3 rfl rfl q293 tyX3 tyX3_ok nmX3 rfl rfl (by decide +kernel) rfl rfl dX3_be_184 ?_
    refine j_lt (fun M184 => ?_)
    refine j_aload_n hC 0 dX3_be_187 rfl ?_
    refine j_aload_n hC 1 dX3_be_188 rfl ?_
    refine j_getI (fk := 15) hC (dmS hG ho rfl) rfl rfl in_X3 rfl rfl q296 rfl dX3_be_189 ?_
    refine j_put (fk := 15) (ty := .int) hC (dmS hG hs rfl) rfl rfl in_X3 rfl rfl q296 tyX3 tyX3_ok nmX3 rfl rfl (by decide +kernel) rfl rfl dX3_be_192 ?_
    refine j_lt (fun M192 => ?_)
    refine j_aload_n hC 0 dX3_be_195 rfl ?_
    refine j_aload_n hC 1 dX3_be_196 rfl ?_
    refine j_getI (fk := 16) hC (dmS hG ho rfl) rfl rfl in_X3 rfl rfl q299 rfl dX3_be_197 ?_
    refine j_put (fk := 16) (ty := .int) hC (dmS hG hs rfl) rfl rfl in_X3 rfl rfl q299 tyX3 tyX3_ok nmX3 rfl rfl (by decide +kernel) rfl rfl dX3_be_200 ?_
    refine j_lt (fun M200 => ?_)
    refine j_aload_n hC 0 dX3_be_203 rfl ?_
    refine j_aload_n hC 1 dX3_be_204 rfl ?_
    refine j_getI (fk := 17) hC (dmS hG ho rfl) rfl rfl in_X3 rfl rfl q302 rfl dX3_be_205 ?_
    refine j_put (fk := 17) (ty := .int) hC (dmS hG hs rfl) rfl rfl in_X3 rfl rfl q302 tyX3 tyX3_ok nmX3 rfl rfl (by decide +kernel) rfl rfl dX3_be_208 ?_
    refine j_lt (fun M208 => ?_)
    refine j_aload_n hC 0 dX3_be_211 rfl ?_
    refine j_aload_n hC 1 dX3_be_212 rfl ?_
    refine j_getI (fk := 18) hC (dmS hG ho rfl) rfl rfl in_X3 rfl rfl q304 rfl dX3_be_213 ?_
    refine j_put (fk := 18) (ty := .int) hC (dmS hG hs rfl) rfl rfl in_X3 rfl rfl q304 tyX3 tyX3_ok nmX3 rfl rfl (by decide +kernel) rfl rfl dX3_be_216 ?_
    refine j_lt (fun M216 => ?_)
    refine j_aload_n hC 0 dX3_be_219 rfl ?_
    refine j_aload_n hC 1 dX3_be_220 rfl ?_
    refine j_getI (fk := 19) hC (dmS hG ho rfl) rfl rfl in_X3 rfl rfl q306 rfl dX3_be_221 ?_
    refine j_put (fk := 19) (ty := .int) hC (dmS hG hs rfl) rfl rfl in_X3 rfl rfl q306 tyX3 tyX3_ok nmX3 rfl rfl (by decide +kernel) rfl rfl dX3_be_224 ?_
    refine j_lt (fun M224 => ?_)
    exact j_vret hC dX3_be_227
  · refine j_aload_n hC 0 dX3_be_41 rfl ?_
    refine j_getR (fk := 1) hC (dmS hG hs rfl) rfl rfl in_X3 rfl rfl q259 rfl dX3_be_42 ?_
    refine j_iload_n hC 2 dX3_be_45 rfl ?_
    refine j_aald4 (d := (2, s, x2.toNatClampNeg)) hC (dmS hG hs rfl) rfl rfl dX3_be_46 (fun h46 => ?_)
    refine j_aload_n hC 1 dX3_be_47 rfl ?_
    refine j_getR (fk := 1) hC (dmS hG ho rfl) rfl rfl in_X3 rfl rfl q259 rfl dX3_be_48 ?_
    refine j_iload_n hC 2 dX3_be_51 rfl ?_
    refine j_aald4 (d := (2, o, x2.toNatClampNeg)) hC (dmS hG ho rfl) rfl rfl dX3_be_52 (fun h52 => ?_)
    refine j_callV (nA := 1) (rest := []) hC [.ref (gadr (XG X) (2, o, x2.toNatClampNeg))] rfl (fun r hr => mX5_be (XL X) (XG X) hG fu (XD X) s hs (x2.toNatClampNeg) (vin_lt h52) o ho (x2.toNatClampNeg) (vin_lt h52) M r hr) q706 q707 q708 q130 q709 (dmC hG hs (vin_lt h52)) rfl rfl (by decide +kernel) rfl rfl rfl rfl rfl rfl dX3_be_53 (fun _ => []) (fun _ => rfl) (fun v53 M53 => ?_)
    refine j_iincL hC 2 (fun y56 => [(2, .int y56), (0, .ref (gadr (XG X) (0, s, 0))), (1, .ref (gadr (XG X) (0, o, 0)))]) hnl dX3_be_56 rfl (by decide) rfl (fun _ => rfl) (fun y56 => ?_)
    refine j_goto (tgt := 33) hC dX3_be_59 (by decide) ?_
    exact j_sub [1, 2, 0] rfl (hk33 M53 y56)
set_option linter.unusedVariables false in
set_option maxRecDepth 100000 in
theorem wX3_be_33 {X : JX} (hC : JC X cX3_be RX3 none 2 40 0 0) (hG : dmI dmX (XG X)) (hnl : nLof X = 3) (fu : Nat) (s : Nat) (hs : s < 15) (o : Nat) (ho : o < 15) (M : Mem) (x2 : Int32) : J X (ZN X foV) (FX3_be_33 fu (XD X) s o M x2) 33 [(0, .ref (gadr (XG X) (0, s, 0))), (1, .ref (gadr (XG X) (0, o, 0))), (2, .int x2)] [] M 0 0 := by
  exact j_lp (lvf := fun z => [(0, .ref (gadr (XG X) (0, s, 0))), (1, .ref (gadr (XG X) (0, o, 0))), (2, .int (z.2))]) (Mf := fun z => z.1) (fun kn hk z => wgX3_be_33 hC hG hnl fu s hs o ho kn (fun M x2 => hk (M, x2)) z.1 z.2) fu (M, x2)
set_option linter.unusedVariables false in
set_option maxRecDepth 100000 in
theorem wgX3_be_2 {X : JX} (hC : JC X cX3_be RX3 none 2 40 0 0) (hG : dmI dmX (XG X)) (hnl : nLof X = 3) (fu : Nat) (s : Nat) (hs : s < 15) (o : Nat) (ho : o < 15) (kn2 : Mem × Int32 → Option (Int32 × Mem)) (hk2 : ∀ (M : Mem) (x2 : Int32), J X (ZN X foV) (kn2 (M, x2)) 2 [(0, .ref (gadr (XG X) (0, s, 0))), (1, .ref (gadr (XG X) (0, o, 0))), (2, .int x2)] [] M 0 0) (M : Mem) (x2 : Int32) : J X (ZN X foV) (GX3_be_2 fu (XD X) s o kn2 M x2) 2 [(0, .ref (gadr (XG X) (0, s, 0))), (1, .ref (gadr (XG X) (0, o, 0))), (2, .int x2)] [] M 0 0 := by
  unfold GX3_be_2
  refine j_iload_n hC 2 dX3_be_2 rfl ?_
  refine j_aload_n hC 1 dX3_be_3 rfl ?_
  refine j_getI (fk := 7) hC (dmS hG ho rfl) rfl rfl in_X3 rfl rfl q272 rfl dX3_be_4 ?_
  refine j_icmp_ge (tgt := 31) hC dX3_be_7 (by decide) (fun h7 => ?_) (fun h7 => ?_)
  · refine j_iconst (v := 0) hC dX3_be_31 (by decide) ?_
    refine j_istore_n hC [(2, .int 0), (0, .ref (gadr (XG X) (0, s, 0))), (1, .ref (gadr (XG X) (0, o, 0)))] hnl dX3_be_32 rfl rfl ?_
    exact j_sub [1, 2, 0] rfl (wX3_be_33 hC hG hnl fu s hs o ho M 0)
  · refine j_aload_n hC 0 dX3_be_10 rfl ?_
    refine j_getR (fk := 0) hC (dmS hG hs rfl) rfl rfl in_X3 rfl rfl q255 rfl dX3_be_11 ?_
    refine j_iload_n hC 2 dX3_be_14 rfl ?_
    refine j_aald3 (d := (1, s, x2.toNatClampNeg)) hC (dmS hG hs rfl) rfl rfl dX3_be_15 (fun h15 => ?_)
    refine j_aload_n hC 1 dX3_be_16 rfl ?_
    refine j_getR (fk := 0) hC (dmS hG ho rfl) rfl rfl in_X3 rfl rfl q255 rfl dX3_be_17 ?_
    refine j_iload_n hC 2 dX3_be_20 rfl ?_
    refine j_aald3 (d := (1, o, x2.toNatClampNeg)) hC (dmS hG ho rfl) rfl rfl dX3_be_21 (fun h21 => ?_)
    refine j_callV (nA := 1) (rest := []) hC [.ref (gadr (XG X) (1, o, x2.toNatClampNeg))] rfl (fun r hr => mX4_be (XL X) (XG X) hG fu (XD X) s hs (x2.toNatClampNeg) (vin_lt h21) o ho (x2.toNatClampNeg) (vin_lt h21) M r hr) q702 q703 q704 q129 q705 (dmB hG hs (vin_lt h21)) rfl rfl (by decide +kernel) rfl rfl rfl rfl rfl rfl dX3_be_22 (fun _ => []) (fun _ => rfl) (fun v22 M22 => ?_)
    refine j_iincL hC 2 (fun y25 => [(2, .int y25), (0, .ref (gadr (XG X) (0, s, 0))), (1, .ref (gadr (XG X) (0, o, 0)))]) hnl dX3_be_25 rfl (by decide) rfl (fun _ => rfl) (fun y25 => ?_)
    refine j_goto (tgt := 2) hC dX3_be_28 (by decide) ?_
    exact j_sub [1, 2, 0] rfl (hk2 M22 y25)
set_option linter.unusedVariables false in
set_option maxRecDepth 100000 in
theorem wX3_be_2 {X : JX} (hC : JC X cX3_be RX3 none 2 40 0 0) (hG : dmI dmX (XG X)) (hnl : nLof X = 3) (fu : Nat) (s : Nat) (hs : s < 15) (o : Nat) (ho : o < 15) (M : Mem) (x2 : Int32) : J X (ZN X foV) (FX3_be_2 fu (XD X) s o M x2) 2 [(0, .ref (gadr (XG X) (0, s, 0))), (1, .ref (gadr (XG X) (0, o, 0))), (2, .int x2)] [] M 0 0 := by
  exact j_lp (lvf := fun z => [(0, .ref (gadr (XG X) (0, s, 0))), (1, .ref (gadr (XG X) (0, o, 0))), (2, .int (z.2))]) (Mf := fun z => z.1) (fun kn hk z => wgX3_be_2 hC hG hnl fu s hs o ho kn (fun M x2 => hk (M, x2)) z.1 z.2) fu (M, x2)
set_option linter.unusedVariables false in
set_option maxRecDepth 100000 in
theorem wX3_be {X : JX} (hC : JC X cX3_be RX3 none 2 40 0 0) (hG : dmI dmX (XG X)) (hnl : nLof X = 3) (fu : Nat) (s : Nat) (hs : s < 15) (o : Nat) (ho : o < 15) (M : Mem) : J X (ZN X foV) (FX3_be fu (XD X) s o M) 0 [(0, .ref (gadr (XG X) (0, s, 0))), (1, .ref (gadr (XG X) (0, o, 0)))] [] M 0 0 := by
  unfold FX3_be
  refine j_iconst (v := 0) hC dX3_be_0 (by decide) ?_
  refine j_istore_n hC [(2, .int 0), (0, .ref (gadr (XG X) (0, s, 0))), (1, .ref (gadr (XG X) (0, o, 0)))] hnl dX3_be_1 rfl rfl ?_
  exact j_sub [1, 2, 0] rfl (wX3_be_2 hC hG hnl fu s hs o ho M 0)
set_option linter.unusedVariables false in
set_option maxRecDepth 100000 in
theorem mX3_be (l : Launch) (Γ : xG) (hG : dmI dmX Γ) (fu : Nat) (D : List LDen) (s : Nat) (hs : s < 15) (o : Nat) (ho : o < 15) (M : Mem) (r : Int32 × Mem) (hr : FX3_be fu D s o M = some r) : CN l yX3_be (ws_ yX3_be cX3_be 3 none) 2 40 Γ D [.ref (gadr Γ (0, s, 0)), .ref (gadr Γ (0, o, 0))] M (foV r.1) r.2 := by
  refine CN.of (own := RX3) (lv0 := lv_args 0 [.ref (gadr Γ (0, s, 0)), .ref (gadr Γ (0, o, 0))]) (by decide +kernel) rfl (Nat.le_of_ble_eq_true rfl) rfl (fun X e1 e2 e3 e4 hC => ?_) r hr
  subst e1
  subst e2
  exact wX3_be hC hG e4 fu s hs o ho M
