/-! Reader.part (printed by gen/gen.py) -/
set_option maxRecDepth 100000
/-- x's cells and the Sum in the making -/
def dmXS : CId → Bool
  | (8, w, i) => decide (w = 0) && decide (i < 2)
  | c => dmX c
theorem dmXS_X {Γ : xG} (h : dmI dmXS Γ) : dmI dmX Γ := fun c hc => h c (by
  unfold dmXS
  split
  · simp [dmX] at hc
  · exact hc)
set_option linter.unusedVariables false in
def GX2_part_27 (fu : Nat) (D : List LDen) (kn27 : Mem × Int32 → Option TR) (M : Mem) (x2 : Int32) : Option TR :=
  if 6 ≤ x2 then bx (FX2_fail fu D M (M (4, 0, 8) 8)) (fun _ M71 => some (0, 0, M71)) else gd x2 6 (bd (FX2_takes fu D (x2.toNatClampNeg) M) (fun v40 M40 => if v40 = 0 then lt (x2 + 1) (fun y60 => kn27 (M40, y60)) else gd x2 6 (gd x2 6 (lt (up M40 (8, 0, 1) x2.toNatClampNeg ((M40 (8, 0, 1) x2.toNatClampNeg) + 1)) (fun M58 => some (0, 0, M58))))))
set_option linter.unusedVariables false in
def FX2_part_27 (fu : Nat) (D : List LDen) (M : Mem) (x2 : Int32) : Option TR := lp (fun kn z => GX2_part_27 fu D kn z.1 z.2) fu (M, x2)
set_option linter.unusedVariables false in
def FX2_part (fu : Nat) (D : List LDen) (M : Mem) : Option TR :=
  bd (FX2_isFigure fu D M) (fun v1 M1 => if v1 = 0 then FX2_part_27 fu D M1 0 else bx (FX2_number fu D M1 0 999) (fun v17 M17 => lt (up M17 (8, 0, 0) 1 ((M1 (8, 0, 0) 1) + v17)) (fun M21 => some (0, 0, M21))))
set_option linter.unusedVariables false in
set_option maxRecDepth 100000 in
theorem wgX2_part_27 {X : JX} (hC : JC X cX2_part RX2 none 6 166 0 0) (hT : JT X) (hG : dmI dmXS (XG X)) (hnl : nLof X = 3) (fu : Nat) (kn27 : Mem × Int32 → Option TR) (hk27 : ∀ (M : Mem) (x2 : Int32), J X (ZT X foV 0 0) (kn27 (M, x2)) 27 [(0, .ref (gadr (XG X) (4, 0, 8))), (1, .ref (gadr (XG X) (8, 0, 0))), (2, .int x2)] [] M 0 0) (M : Mem) (x2 : Int32) : J X (ZT X foV 0 0) (GX2_part_27 fu (XD X) kn27 M x2) 27 [(0, .ref (gadr (XG X) (4, 0, 8))), (1, .ref (gadr (XG X) (8, 0, 0))), (2, .int x2)] [] M 0 0 := by
  unfold GX2_part_27
  refine j_iload_n hC 2 dX2_part_27 rfl ?_
  refine j_bipush (v := 6) hC dX2_part_28 (by decide) ?_
  refine j_icmp_ge (tgt := 66) hC dX2_part_30 (by decide) (fun h30 => ?_) (fun h30 => ?_)
  · refine j_aload_n hC 0 dX2_part_66 rfl ?_
    refine j_aload_n hC 0 dX2_part_67 rfl ?_
    refine j_getI (fk := 8) hC (dmY (dmXS_X hG) rfl) rfl rfl in_X2 rfl rfl q433 rfl dX2_part_68 ?_
    refine j_callVT (nA := 1) (rest := []) hC hT [.int (M (4, 0, 8) 8)] rfl (fun r hr => mX2_fail (XL X) (JT.st hT) (XG X) (dmXS_X hG) fu (XD X) M (M (4, 0, 8) 8) r hr) q763 q765 qs12 q127 q766 (dmY (dmXS_X hG) rfl) rfl rfl (by decide +kernel) rfl rfl rfl rfl rfl rfl dX2_part_71 (fun _ => []) (fun _ => rfl) (fun v71 M71 => ?_)
    exact j_vretT hC rfl rfl dX2_part_74
  · refine j_aload_n hC 0 dX2_part_33 rfl ?_
    refine j_aload_n hC 0 dX2_part_34 rfl ?_
    refine j_getR (fk := 1) hC (dmY (dmXS_X hG) rfl) rfl rfl in_X2 rfl rfl q425 rfl dX2_part_35 ?_
    refine j_iload_n hC 2 dX2_part_38 rfl ?_
    refine j_aald7 (d := (6, 0, x2.toNatClampNeg)) hC (dmY (dmXS_X hG) rfl) rfl rfl dX2_part_39 (fun h39 => ?_)
    refine j_callV (nA := 1) (rest := []) hC [.ref (gadr (XG X) (6, 0, x2.toNatClampNeg))] rfl (fun r hr => mX2_takes (XL X) (XG X) (dmXS_X hG) fu (XD X) (x2.toNatClampNeg) (Nat.lt_of_lt_of_le (vin_lt h39) (by decide)) M r hr) q771 q773 qs14 q127 q774 (dmY (dmXS_X hG) rfl) rfl rfl (by decide +kernel) rfl rfl rfl rfl rfl rfl dX2_part_40 (fun v40 => [.int v40]) (fun _ => rfl) (fun v40 M40 => ?_)
    refine j_if_ne (tgt := 49) hC dX2_part_43 (by decide) (fun h43 => ?_) (fun h43 => ?_)
    · refine j_goto (tgt := 60) hC dX2_part_46 (by decide) ?_
      refine j_iincL hC 2 (fun y60 => [(2, .int y60), (0, .ref (gadr (XG X) (4, 0, 8))), (1, .ref (gadr (XG X) (8, 0, 0)))]) hnl dX2_part_60 rfl (by decide) rfl (fun _ => rfl) (fun y60 => ?_)
      refine j_goto (tgt := 27) hC dX2_part_63 (by decide) ?_
      exact j_sub [1, 2, 0] rfl (hk27 M40 y60)
    · refine j_aload_n hC 1 dX2_part_49 rfl ?_
      refine j_getNR (fk := 0) hC (hG (8, 0, 0) rfl) rfl rfl in_X11 rfl rfl q961 rfl dX2_part_50 ?_
      refine j_iload_n hC 2 dX2_part_53 rfl ?_
      refine j_dup2 hC dX2_part_54 rfl rfl ?_
      refine j_iald hC (hG (8, 0, 1) rfl) rfl dX2_part_55 (fun h55 => ?_)
      refine j_iconst (v := 1) hC dX2_part_56 (by decide) ?_
      refine j_iadd hC dX2_part_57 ?_
      refine j_iast hC (hG (8, 0, 1) rfl) rfl dX2_part_58 (fun h58 => ?_)
      refine j_lt (fun M58 => ?_)
      exact j_vretT hC rfl rfl dX2_part_59
set_option linter.unusedVariables false in
set_option maxRecDepth 100000 in
theorem wX2_part_27 {X : JX} (hC : JC X cX2_part RX2 none 6 166 0 0) (hT : JT X) (hG : dmI dmXS (XG X)) (hnl : nLof X = 3) (fu : Nat) (M : Mem) (x2 : Int32) : J X (ZT X foV 0 0) (FX2_part_27 fu (XD X) M x2) 27 [(0, .ref (gadr (XG X) (4, 0, 8))), (1, .ref (gadr (XG X) (8, 0, 0))), (2, .int x2)] [] M 0 0 := by
  exact j_lp (lvf := fun z => [(0, .ref (gadr (XG X) (4, 0, 8))), (1, .ref (gadr (XG X) (8, 0, 0))), (2, .int (z.2))]) (Mf := fun z => z.1) (fun kn hk z => wgX2_part_27 hC hT hG hnl fu kn (fun M x2 => hk (M, x2)) z.1 z.2) fu (M, x2)
set_option linter.unusedVariables false in
set_option maxRecDepth 100000 in
theorem wX2_part {X : JX} (hC : JC X cX2_part RX2 none 6 166 0 0) (hT : JT X) (hG : dmI dmXS (XG X)) (hnl : nLof X = 3) (fu : Nat) (M : Mem) : J X (ZT X foV 0 0) (FX2_part fu (XD X) M) 0 [(0, .ref (gadr (XG X) (4, 0, 8))), (1, .ref (gadr (XG X) (8, 0, 0)))] [] M 0 0 := by
  unfold FX2_part
  refine j_aload_n hC 0 dX2_part_0 rfl ?_
  refine j_callV (nA := 0) (rest := []) hC [] rfl (fun r hr => mX2_isFigure (XL X) (XG X) (dmXS_X hG) fu (XD X) M r hr) q973 q975 qs29 q127 q976 (dmY (dmXS_X hG) rfl) rfl rfl (by decide +kernel) rfl rfl rfl rfl rfl rfl dX2_part_1 (fun v1 => [.int v1]) (fun _ => rfl) (fun v1 M1 => ?_)
  refine j_if_eq (tgt := 25) hC dX2_part_4 (by decide) (fun h4 => ?_) (fun h4 => ?_)
  · refine j_iconst (v := 0) hC dX2_part_25 (by decide) ?_
    refine j_istore_n hC [(2, .int 0), (0, .ref (gadr (XG X) (4, 0, 8))), (1, .ref (gadr (XG X) (8, 0, 0)))] hnl dX2_part_26 rfl rfl ?_
    exact j_sub [1, 2, 0] rfl (wX2_part_27 hC hT hG hnl fu M1 0)
  · refine j_aload_n hC 1 dX2_part_7 rfl ?_
    refine j_dup hC dX2_part_8 rfl ?_
    refine j_getNI (fk := 1) hC (hG (8, 0, 0) rfl) rfl rfl in_X11 rfl rfl q963 rfl dX2_part_9 ?_
    refine j_aload_n hC 0 dX2_part_12 rfl ?_
    refine j_iconst (v := 0) hC dX2_part_13 (by decide) ?_
    refine j_sipush (v := 999) hC dX2_part_14 (by decide) ?_
    refine j_callVT (nA := 2) (rest := [.int (M1 (8, 0, 0) 1), .ref (gadr (XG X) (8, 0, 0))]) hC hT [.int 0, .int 999] rfl (fun r hr => mX2_number (XL X) (JT.st hT) (XG X) (dmXS_X hG) fu (XD X) M1 0 999 r hr) q836 q838 qs18 q127 q839 (dmY (dmXS_X hG) rfl) rfl rfl (by decide +kernel) rfl rfl rfl rfl rfl rfl dX2_part_17 (fun v17 => [.int v17, .int (M1 (8, 0, 0) 1), .ref (gadr (XG X) (8, 0, 0))]) (fun _ => rfl) (fun v17 M17 => ?_)
    refine j_iadd hC dX2_part_20 ?_
    refine j_putN (fk := 1) (ty := .int) hC (hG (8, 0, 0) rfl) rfl rfl in_X11 rfl rfl q963 tyX11 tyX11_ok nmX11 rfl rfl (by decide +kernel) rfl rfl dX2_part_21 ?_
    refine j_lt (fun M21 => ?_)
    exact j_vretT hC rfl rfl dX2_part_24
set_option linter.unusedVariables false in
set_option maxRecDepth 100000 in
theorem mX2_part (l : Launch) (hst : l.stackTraces = false) (Γ : xG) (hG : dmI dmXS Γ) (fu : Nat) (D : List LDen) (M : Mem) (r : TR) (hr : FX2_part fu D M = some r) : CT l yX2_part (ws_ yX2_part cX2_part 3 none) 6 166 0 0 Γ D [.ref (gadr Γ (4, 0, 8)), .ref (gadr Γ (8, 0, 0))] M foV r := by
  refine CT.of hst (own := RX2) (lv0 := lv_args 0 [.ref (gadr Γ (4, 0, 8)), .ref (gadr Γ (8, 0, 0))]) (by decide +kernel) rfl (Nat.le_of_ble_eq_true rfl) rfl (fun X e1 e2 e3 e4 hC hT => ?_) r hr
  subst e1
  subst e2
  exact wX2_part hC hT hG e4 fu M
