/-! the model: the reader of conditions, closed; the law's reading (the rest printed by gen/gen.py) -/
set_option maxRecDepth 100000
def recX8 (fu : Nat) (D : List LDen) : Nat → Nat → Mem → Option (Int32 × Mem)
  | 0, _, _ => none
  | d + 1, i, M => if i = 0 then FX8_readAtomR fu D (recX8 fu D d) M else if i = 1 then FX8_readAllOfR fu D (recX8 fu D d) M else FX8_readCondR fu D (recX8 fu D d) M
theorem recX8_met (l : Launch) (Γ : xG) (hG : dmI dmM Γ) (fu : Nat) (D : List LDen) : ∀ d : Nat, (∀ (M : Mem) (r : Int32 × Mem), recX8 fu D d 0 M = some r → CN l yX8_readAtom (ws_ yX8_readAtom cX8_readAtom 2 (some .boolean)) (2 * d + 20) (60 * d + 400) Γ D [.ref (gadr Γ (5, 0, 0))] M (foI r.1) r.2) ∧ (∀ (M : Mem) (r : Int32 × Mem), recX8 fu D d 1 M = some r → CN l yX8_readAllOf (ws_ yX8_readAllOf cX8_readAllOf 1 (some .boolean)) (2 * d + 20) (60 * d + 400) Γ D [.ref (gadr Γ (5, 0, 0))] M (foI r.1) r.2) ∧ (∀ (M : Mem) (r : Int32 × Mem), recX8 fu D d 2 M = some r → CN l yX8_readCond (ws_ yX8_readCond cX8_readCond 1 (some .boolean)) (2 * d + 20) (60 * d + 400) Γ D [.ref (gadr Γ (5, 0, 0))] M (foI r.1) r.2) := by
  intro d
  induction d with
  | zero => exact ⟨fun _ _ h => (by cases h), fun _ _ h => (by cases h), fun _ _ h => (by cases h)⟩
  | succ d ih =>
    refine ⟨fun M r hr => ?_, fun M r hr => ?_, fun M r hr => ?_⟩
    · refine CN.of (own := RX8) (lv0 := lv_args 0 [.ref (gadr Γ (5, 0, 0))]) (by decide +kernel) rfl (Nat.le_of_ble_eq_true rfl) rfl (pr := FX8_readAtomR fu D (recX8 fu D d) M) (fun X e1 e2 e3 e4 hC => ?_) r hr
      subst e1
      subst e2
      subst e3
      exact wX8_readAtomR hC hG e4 fu (recX8 fu (XD X) d) ih.1 ih.2.1 ih.2.2 M
    · refine CN.of (own := RX8) (lv0 := lv_args 0 [.ref (gadr Γ (5, 0, 0))]) (by decide +kernel) rfl (Nat.le_of_ble_eq_true rfl) rfl (pr := FX8_readAllOfR fu D (recX8 fu D d) M) (fun X e1 e2 e3 e4 hC => ?_) r hr
      subst e1
      subst e2
      subst e3
      exact wX8_readAllOfR hC hG e4 fu (recX8 fu (XD X) d) ih.1 ih.2.1 ih.2.2 M
    · refine CN.of (own := RX8) (lv0 := lv_args 0 [.ref (gadr Γ (5, 0, 0))]) (by decide +kernel) rfl (Nat.le_of_ble_eq_true rfl) rfl (pr := FX8_readCondR fu D (recX8 fu D d) M) (fun X e1 e2 e3 e4 hC => ?_) r hr
      subst e1
      subst e2
      subst e3
      exact wX8_readCondR hC hG e4 fu (recX8 fu (XD X) d) ih.1 ih.2.1 ih.2.2 M
def FX8_readCond (fu : Nat) (D : List LDen) (M : Mem) : Option (Int32 × Mem) := recX8 fu D 30 2 M
theorem mX8_readCond (l : Launch) (Γ : xG) (hG : dmI dmM Γ) (fu : Nat) (D : List LDen) (M : Mem) (r : Int32 × Mem) (hr : FX8_readCond fu D M = some r) : CN l yX8_readCond (ws_ yX8_readCond cX8_readCond 1 (some .boolean)) 80 2200 Γ D [.ref (gadr Γ (5, 0, 0))] M (foI r.1) r.2 := (recX8_met l Γ hG fu D 30).2.2 M r hr
set_option linter.unusedVariables false in
def FX8_readLawLine_141 (fu : Nat) (D : List LDen) (M : Mem) (x2 : Int32) : Option (Int32 × Mem) :=
  gd (x2 + 3) 2180 (lt (up M (5, 0, 1) ((x2 + 3).toNatClampNeg) (M (5, 0, 0) 16)) (fun M152 => some (1, M152)))
set_option linter.unusedVariables false in
def FX8_readLawLine_66 (fu : Nat) (D : List LDen) (M : Mem) (x2 t0 t1 : Int32) : Option (Int32 × Mem) :=
  gd t1 2180 (lt (up M (5, 0, 1) t1.toNatClampNeg t0) (fun M66 => gd x2 2180 (if 0 ≤ (M66 (5, 0, 1) x2.toNatClampNeg) then bd (FX8_number fu D M66 0 9) (fun v89 M89 => gd (x2 + 1) 2180 (lt (up M89 (5, 0, 1) ((x2 + 1).toNatClampNeg) v89) (fun M92 => gd (x2 + 1) 2180 (if 0 ≤ (M92 (5, 0, 1) ((x2 + 1).toNatClampNeg)) then gd (x2 + 2) 2180 (lt (up M92 (5, 0, 1) ((x2 + 2).toNatClampNeg) (M92 (5, 0, 0) 16)) (fun M117 => lt (up M117 (5, 0, 0) 13 0) (fun M120 => bd (FX8_passes fu D 23 M120) (fun v126 M126 => if v126 = 0 then FX8_readLawLine_141 fu D M126 x2 else bd (FX8_readCond fu D M126) (fun v133 M133 => if v133 = 0 then some (0, M133) else FX8_readLawLine_141 fu D M133 x2))))) else some (0, M92))))) else some (0, M66))))
set_option linter.unusedVariables false in
def FX8_readLawLine (fu : Nat) (D : List LDen) (M : Mem) (x1 : Int32) : Option (Int32 × Mem) :=
  lt (1332 + (4 * x1)) (fun y7 => bd (FX8_isWord fu D 21 M) (fun v16 M16 => if v16 = 0 then bd (FX8_isWord fu D 22 M16) (fun v29 M29 => if v29 = 0 then bd (FX8_isWord fu D 20 M29) (fun v42 M42 => if v42 = 0 then bd (FX8_isWord fu D 19 M42) (fun v55 M55 => if v55 = 0 then FX8_readLawLine_66 fu D M55 y7 (-1) y7 else FX8_readLawLine_66 fu D M55 y7 3 y7) else FX8_readLawLine_66 fu D M42 y7 2 y7) else FX8_readLawLine_66 fu D M29 y7 1 y7) else FX8_readLawLine_66 fu D M16 y7 0 y7))
set_option linter.unusedVariables false in
set_option maxRecDepth 100000 in
theorem wX8_readLawLine_141 {X : JX} (hC : JC X cX8_readLawLine RX8 (some .boolean) 81 2220 0 0) (hG : dmI dmM (XG X)) (hnl : nLof X = 3) (fu : Nat) (M : Mem) (x2 : Int32) : J X (ZN X foI) (FX8_readLawLine_141 fu (XD X) M x2) 141 [(0, .ref (gadr (XG X) (5, 0, 0))), (2, .int x2)] [] M 0 0 := by
  unfold FX8_readLawLine_141
  refine j_aload_n hC 0 dX8_readLawLine_141 rfl ?_
  refine j_getR (fk := 1) hC (dmMo hG rfl) rfl rfl in_X8 rfl rfl q1465 rfl dX8_readLawLine_142 ?_
  refine j_iload_n hC 1 dX8_readLawLine_145 rfl ?_
  refine j_iconst (v := 3) hC dX8_readLawLine_146 (by decide) ?_
  refine j_iadd hC dX8_readLawLine_147 ?_
  refine j_aload_n hC 0 dX8_readLawLine_148 rfl ?_
  refine j_getI (fk := 16) hC (dmMo hG rfl) rfl rfl in_X8 rfl rfl q1480 rfl dX8_readLawLine_149 ?_
  refine j_iast hC (dmMo hG rfl) rfl dX8_readLawLine_152 (fun h152 => ?_)
  refine j_lt (fun M152 => ?_)
  refine j_iconst (v := 1) hC dX8_readLawLine_153 (by decide) ?_
  exact j_zret hC (by decide) dX8_readLawLine_154
set_option linter.unusedVariables false in
set_option maxRecDepth 100000 in
theorem wX8_readLawLine_66 {X : JX} (hC : JC X cX8_readLawLine RX8 (some .boolean) 81 2220 0 0) (hG : dmI dmM (XG X)) (hnl : nLof X = 3) (fu : Nat) (M : Mem) (x2 t0 t1 : Int32) : J X (ZN X foI) (FX8_readLawLine_66 fu (XD X) M x2 t0 t1) 66 [(0, .ref (gadr (XG X) (5, 0, 0))), (2, .int x2)] [.int t0, .int t1, .ref (gadr (XG X) (5, 0, 1))] M 0 0 := by
  unfold FX8_readLawLine_66
  refine j_iast hC (dmMo hG rfl) rfl dX8_readLawLine_66 (fun h66 => ?_)
  refine j_lt (fun M66 => ?_)
  refine j_aload_n hC 0 dX8_readLawLine_67 rfl ?_
  refine j_getR (fk := 1) hC (dmMo hG rfl) rfl rfl in_X8 rfl rfl q1465 rfl dX8_readLawLine_68 ?_
  refine j_iload_n hC 1 dX8_readLawLine_71 rfl ?_
  refine j_iald hC (dmMo hG rfl) rfl dX8_readLawLine_72 (fun h72 => ?_)
  refine j_if_ge (tgt := 78) hC dX8_readLawLine_73 (by decide) (fun h73 => ?_) (fun h73 => ?_)
  · refine j_aload_n hC 0 dX8_readLawLine_78 rfl ?_
    refine j_getR (fk := 1) hC (dmMo hG rfl) rfl rfl in_X8 rfl rfl q1465 rfl dX8_readLawLine_79 ?_
    refine j_iload_n hC 1 dX8_readLawLine_82 rfl ?_
    refine j_iconst (v := 1) hC dX8_readLawLine_83 (by decide) ?_
    refine j_iadd hC dX8_readLawLine_84 ?_
    refine j_aload_n hC 0 dX8_readLawLine_85 rfl ?_
    refine j_iconst (v := 0) hC dX8_readLawLine_86 (by decide) ?_
    refine j_bipush (v := 9) hC dX8_readLawLine_87 (by decide) ?_
    refine j_callV (nA := 2) (rest := [.int (x2 + 1), .ref (gadr (XG X) (5, 0, 1))]) hC [.int 0, .int 9] rfl (fun r hr => mX8_number (XL X) (XG X) hG fu (XD X) M66 0 9 r hr) q1627 q1629 qs55 q136 q1630 (dmMo hG rfl) rfl rfl (by decide +kernel) rfl rfl rfl rfl rfl rfl dX8_readLawLine_89 (fun v89 => [.int v89, .int (x2 + 1), .ref (gadr (XG X) (5, 0, 1))]) (fun _ => rfl) (fun v89 M89 => ?_)
    refine j_iast hC (dmMo hG rfl) rfl dX8_readLawLine_92 (fun h92 => ?_)
    refine j_lt (fun M92 => ?_)
    refine j_aload_n hC 0 dX8_readLawLine_93 rfl ?_
    refine j_getR (fk := 1) hC (dmMo hG rfl) rfl rfl in_X8 rfl rfl q1465 rfl dX8_readLawLine_94 ?_
    refine j_iload_n hC 1 dX8_readLawLine_97 rfl ?_
    refine j_iconst (v := 1) hC dX8_readLawLine_98 (by decide) ?_
    refine j_iadd hC dX8_readLawLine_99 ?_
    refine j_iald hC (dmMo hG rfl) rfl dX8_readLawLine_100 (fun h100 => ?_)
    refine j_if_ge (tgt := 106) hC dX8_readLawLine_101 (by decide) (fun h101 => ?_) (fun h101 => ?_)
    · refine j_aload_n hC 0 dX8_readLawLine_106 rfl ?_
      refine j_getR (fk := 1) hC (dmMo hG rfl) rfl rfl in_X8 rfl rfl q1465 rfl dX8_readLawLine_107 ?_
      refine j_iload_n hC 1 dX8_readLawLine_110 rfl ?_
      refine j_iconst (v := 2) hC dX8_readLawLine_111 (by decide) ?_
      refine j_iadd hC dX8_readLawLine_112 ?_
      refine j_aload_n hC 0 dX8_readLawLine_113 rfl ?_
      refine j_getI (fk := 16) hC (dmMo hG rfl) rfl rfl in_X8 rfl rfl q1480 rfl dX8_readLawLine_114 ?_
      refine j_iast hC (dmMo hG rfl) rfl dX8_readLawLine_117 (fun h117 => ?_)
      refine j_lt (fun M117 => ?_)
      refine j_aload_n hC 0 dX8_readLawLine_118 rfl ?_
      refine j_iconst (v := 0) hC dX8_readLawLine_119 (by decide) ?_
      refine j_put (fk := 13) (ty := .int) hC (dmMo hG rfl) rfl rfl in_X8 rfl rfl q1477 tyX8 tyX8_ok nmX8 rfl rfl (by decide +kernel) rfl rfl dX8_readLawLine_120 ?_
      refine j_lt (fun M120 => ?_)
      refine j_aload_n hC 0 dX8_readLawLine_123 rfl ?_
      refine j_ldcS (tx := "if") (i := 23) hC (by decide) dX8_readLawLine_124 ?_
      refine j_callV (nA := 1) (rest := []) hC [.ref (gadr (XG X) (6, 0, 23))] rfl (fun r hr => mX8_passes (XL X) (XG X) hG fu (XD X) 23 (by decide) M120 r hr) q1704 q1706 qs67 q136 q1707 (dmMo hG rfl) rfl rfl (by decide +kernel) rfl rfl rfl rfl rfl rfl dX8_readLawLine_126 (fun v126 => [.int v126]) (fun _ => rfl) (fun v126 M126 => ?_)
      refine j_if_eq (tgt := 141) hC dX8_readLawLine_129 (by decide) (fun h129 => ?_) (fun h129 => ?_)
      · exact j_sub [0, 1] rfl (wX8_readLawLine_141 hC hG hnl fu M126 x2)
      · refine j_aload_n hC 0 dX8_readLawLine_132 rfl ?_
        refine j_callV (nA := 0) (rest := []) hC [] rfl (fun r hr => mX8_readCond (XL X) (XG X) hG fu (XD X) M126 r hr) q1708 q1710 qs68 q136 q1711 (dmMo hG rfl) rfl rfl (by decide +kernel) rfl rfl rfl rfl rfl rfl dX8_readLawLine_133 (fun v133 => [.int v133]) (fun _ => rfl) (fun v133 M133 => ?_)
        refine j_if_ne (tgt := 141) hC dX8_readLawLine_136 (by decide) (fun h136 => ?_) (fun h136 => ?_)
        · refine j_iconst (v := 0) hC dX8_readLawLine_139 (by decide) ?_
          exact j_zret hC (by decide) dX8_readLawLine_140
        · exact j_sub [0, 1] rfl (wX8_readLawLine_141 hC hG hnl fu M133 x2)
    · refine j_iconst (v := 0) hC dX8_readLawLine_104 (by decide) ?_
      exact j_zret hC (by decide) dX8_readLawLine_105
  · refine j_iconst (v := 0) hC dX8_readLawLine_76 (by decide) ?_
    exact j_zret hC (by decide) dX8_readLawLine_77
set_option linter.unusedVariables false in
set_option maxRecDepth 100000 in
theorem wX8_readLawLine {X : JX} (hC : JC X cX8_readLawLine RX8 (some .boolean) 81 2220 0 0) (hG : dmI dmM (XG X)) (hnl : nLof X = 3) (fu : Nat) (M : Mem) (x1 : Int32) : J X (ZN X foI) (FX8_readLawLine fu (XD X) M x1) 0 [(0, .ref (gadr (XG X) (5, 0, 0))), (1, .int x1)] [] M 0 0 := by
  unfold FX8_readLawLine
  refine j_sipush (v := 1332) hC dX8_readLawLine_0 (by decide) ?_
  refine j_iconst (v := 4) hC dX8_readLawLine_3 (by decide) ?_
  refine j_iload_n hC 1 dX8_readLawLine_4 rfl ?_
  refine j_imul hC dX8_readLawLine_5 ?_
  refine j_iadd hC dX8_readLawLine_6 ?_
  refine j_ltT (fun y7 => ?_)
  refine j_istore_n hC [(2, .int y7), (0, .ref (gadr (XG X) (5, 0, 0))), (1, .int x1)] hnl dX8_readLawLine_7 rfl rfl ?_
  refine j_aload_n hC 1 dX8_readLawLine_8 rfl ?_
  refine j_getR (fk := 1) hC (dmMo hG rfl) rfl rfl in_X8 rfl rfl q1465 rfl dX8_readLawLine_9 ?_
  refine j_iload_n hC 0 dX8_readLawLine_12 rfl ?_
  refine j_aload_n hC 1 dX8_readLawLine_13 rfl ?_
  refine j_ldcS (tx := "drop") (i := 21) hC (by decide) dX8_readLawLine_14 ?_
  refine j_callV (nA := 1) (rest := [.int y7, .ref (gadr (XG X) (5, 0, 1))]) hC [.ref (gadr (XG X) (6, 0, 21))] rfl (fun r hr => mX8_isWord (XL X) (XG X) hG fu (XD X) 21 (by decide) M r hr) q1612 q1614 qs52 q136 q1615 (dmMo hG rfl) rfl rfl (by decide +kernel) rfl rfl rfl rfl rfl rfl dX8_readLawLine_16 (fun v16 => [.int v16, .int y7, .ref (gadr (XG X) (5, 0, 1))]) (fun _ => rfl) (fun v16 M16 => ?_)
  refine j_if_eq (tgt := 26) hC dX8_readLawLine_19 (by decide) (fun h19 => ?_) (fun h19 => ?_)
  · refine j_aload_n hC 1 dX8_readLawLine_26 rfl ?_
    refine j_ldcS (tx := "lift") (i := 22) hC (by decide) dX8_readLawLine_27 ?_
    refine j_callV (nA := 1) (rest := [.int y7, .ref (gadr (XG X) (5, 0, 1))]) hC [.ref (gadr (XG X) (6, 0, 22))] rfl (fun r hr => mX8_isWord (XL X) (XG X) hG fu (XD X) 22 (by decide) M16 r hr) q1612 q1614 qs52 q136 q1615 (dmMo hG rfl) rfl rfl (by decide +kernel) rfl rfl rfl rfl rfl rfl dX8_readLawLine_29 (fun v29 => [.int v29, .int y7, .ref (gadr (XG X) (5, 0, 1))]) (fun _ => rfl) (fun v29 M29 => ?_)
    refine j_if_eq (tgt := 39) hC dX8_readLawLine_32 (by decide) (fun h32 => ?_) (fun h32 => ?_)
    · refine j_aload_n hC 1 dX8_readLawLine_39 rfl ?_
      refine j_ldcS (tx := "east") (i := 20) hC (by decide) dX8_readLawLine_40 ?_
      refine j_callV (nA := 1) (rest := [.int y7, .ref (gadr (XG X) (5, 0, 1))]) hC [.ref (gadr (XG X) (6, 0, 20))] rfl (fun r hr => mX8_isWord (XL X) (XG X) hG fu (XD X) 20 (by decide) M29 r hr) q1612 q1614 qs52 q136 q1615 (dmMo hG rfl) rfl rfl (by decide +kernel) rfl rfl rfl rfl rfl rfl dX8_readLawLine_42 (fun v42 => [.int v42, .int y7, .ref (gadr (XG X) (5, 0, 1))]) (fun _ => rfl) (fun v42 M42 => ?_)
      refine j_if_eq (tgt := 52) hC dX8_readLawLine_45 (by decide) (fun h45 => ?_) (fun h45 => ?_)
      · refine j_aload_n hC 1 dX8_readLawLine_52 rfl ?_
        refine j_ldcS (tx := "west") (i := 19) hC (by decide) dX8_readLawLine_53 ?_
        refine j_callV (nA := 1) (rest := [.int y7, .ref (gadr (XG X) (5, 0, 1))]) hC [.ref (gadr (XG X) (6, 0, 19))] rfl (fun r hr => mX8_isWord (XL X) (XG X) hG fu (XD X) 19 (by decide) M42 r hr) q1612 q1614 qs52 q136 q1615 (dmMo hG rfl) rfl rfl (by decide +kernel) rfl rfl rfl rfl rfl rfl dX8_readLawLine_55 (fun v55 => [.int v55, .int y7, .ref (gadr (XG X) (5, 0, 1))]) (fun _ => rfl) (fun v55 M55 => ?_)
        refine j_if_eq (tgt := 65) hC dX8_readLawLine_58 (by decide) (fun h58 => ?_) (fun h58 => ?_)
        · refine j_iconst (v := (-1)) hC dX8_readLawLine_65 (by decide) ?_
          exact j_sub [1, 0] rfl (wX8_readLawLine_66 hC hG hnl fu M55 y7 (-1) y7)
        · refine j_iconst (v := 3) hC dX8_readLawLine_61 (by decide) ?_
          refine j_goto (tgt := 66) hC dX8_readLawLine_62 (by decide) ?_
          exact j_sub [1, 0] rfl (wX8_readLawLine_66 hC hG hnl fu M55 y7 3 y7)
      · refine j_iconst (v := 2) hC dX8_readLawLine_48 (by decide) ?_
        refine j_goto (tgt := 66) hC dX8_readLawLine_49 (by decide) ?_
        exact j_sub [1, 0] rfl (wX8_readLawLine_66 hC hG hnl fu M42 y7 2 y7)
    · refine j_iconst (v := 1) hC dX8_readLawLine_35 (by decide) ?_
      refine j_goto (tgt := 66) hC dX8_readLawLine_36 (by decide) ?_
      exact j_sub [1, 0] rfl (wX8_readLawLine_66 hC hG hnl fu M29 y7 1 y7)
  · refine j_iconst (v := 0) hC dX8_readLawLine_22 (by decide) ?_
    refine j_goto (tgt := 66) hC dX8_readLawLine_23 (by decide) ?_
    exact j_sub [1, 0] rfl (wX8_readLawLine_66 hC hG hnl fu M16 y7 0 y7)
set_option linter.unusedVariables false in
set_option maxRecDepth 100000 in
theorem mX8_readLawLine (l : Launch) (Γ : xG) (hG : dmI dmM Γ) (fu : Nat) (D : List LDen) (M : Mem) (x1 : Int32) (r : Int32 × Mem) (hr : FX8_readLawLine fu D M x1 = some r) : CN l yX8_readLawLine (ws_ yX8_readLawLine cX8_readLawLine 3 (some .boolean)) 81 2220 Γ D [.ref (gadr Γ (5, 0, 0)), .int x1] M (foI r.1) r.2 := by
  refine CN.of (own := RX8) (lv0 := lv_args 0 [.ref (gadr Γ (5, 0, 0)), .int x1]) (by decide +kernel) rfl (Nat.le_of_ble_eq_true rfl) rfl (fun X e1 e2 e3 e4 hC => ?_) r hr
  subst e1
  subst e2
  exact wX8_readLawLine hC hG e4 fu M x1
set_option linter.unusedVariables false in
def FX8_readLine_46 (fu : Nat) (D : List LDen) (M : Mem) (t0 : Int32) : Option (Int32 × Mem) :=
  some (t0 &&& 1, M)
set_option linter.unusedVariables false in
def FX8_readLine_45 (fu : Nat) (D : List LDen) (M : Mem) : Option (Int32 × Mem) :=
  FX8_readLine_46 fu D M 0
set_option linter.unusedVariables false in
def FX8_readLine_41 (fu : Nat) (D : List LDen) (M : Mem) : Option (Int32 × Mem) :=
  FX8_readLine_46 fu D M 1
set_option linter.unusedVariables false in
def FX8_readLine_16 (fu : Nat) (D : List LDen) (M : Mem) (x1 x2 t0 t1 : Int32) : Option (Int32 × Mem) :=
  if t0 ≤ t1 then FX8_readLine_45 fu D M else if x1 = 0 then bd (FX8_readLawLine fu D M x2) (fun v35 M35 => if v35 = 0 then FX8_readLine_45 fu D M35 else FX8_readLine_41 fu D M35) else bd (FX8_readCourtLine fu D M) (fun v24 M24 => if v24 = 0 then FX8_readLine_45 fu D M24 else FX8_readLine_41 fu D M24)
set_option linter.unusedVariables false in
def FX8_readLine (fu : Nat) (D : List LDen) (M : Mem) (x1 x2 : Int32) : Option (Int32 × Mem) :=
  bd (FX8_letters fu D M) (fun _ M1 => if x1 = 0 then FX8_readLine_16 fu D M1 x1 x2 12 x2 else FX8_readLine_16 fu D M1 x1 x2 14 x2)
set_option linter.unusedVariables false in
set_option maxRecDepth 100000 in
theorem wX8_readLine_46 {X : JX} (hC : JC X cX8_readLine RX8 (some .boolean) 82 2242 0 0) (hG : dmI dmM (XG X)) (hnl : nLof X = 3) (fu : Nat) (M : Mem) (t0 : Int32) : J X (ZN X foI) (FX8_readLine_46 fu (XD X) M t0) 46 [] [.int t0] M 0 0 := by
  unfold FX8_readLine_46
  exact j_zret hC rfl dX8_readLine_46
set_option linter.unusedVariables false in
set_option maxRecDepth 100000 in
theorem wX8_readLine_45 {X : JX} (hC : JC X cX8_readLine RX8 (some .boolean) 82 2242 0 0) (hG : dmI dmM (XG X)) (hnl : nLof X = 3) (fu : Nat) (M : Mem) : J X (ZN X foI) (FX8_readLine_45 fu (XD X) M) 45 [] [] M 0 0 := by
  unfold FX8_readLine_45
  refine j_iconst (v := 0) hC dX8_readLine_45 (by decide) ?_
  exact j_sub [] rfl (wX8_readLine_46 hC hG hnl fu M 0)
set_option linter.unusedVariables false in
set_option maxRecDepth 100000 in
theorem wX8_readLine_41 {X : JX} (hC : JC X cX8_readLine RX8 (some .boolean) 82 2242 0 0) (hG : dmI dmM (XG X)) (hnl : nLof X = 3) (fu : Nat) (M : Mem) : J X (ZN X foI) (FX8_readLine_41 fu (XD X) M) 41 [] [] M 0 0 := by
  unfold FX8_readLine_41
  refine j_iconst (v := 1) hC dX8_readLine_41 (by decide) ?_
  refine j_goto (tgt := 46) hC dX8_readLine_42 (by decide) ?_
  exact j_sub [] rfl (wX8_readLine_46 hC hG hnl fu M 1)
set_option linter.unusedVariables false in
set_option maxRecDepth 100000 in
theorem wX8_readLine_16 {X : JX} (hC : JC X cX8_readLine RX8 (some .boolean) 82 2242 0 0) (hG : dmI dmM (XG X)) (hnl : nLof X = 3) (fu : Nat) (M : Mem) (x1 x2 t0 t1 : Int32) : J X (ZN X foI) (FX8_readLine_16 fu (XD X) M x1 x2 t0 t1) 16 [(0, .ref (gadr (XG X) (5, 0, 0))), (1, .int x1), (2, .int x2)] [.int t0, .int t1] M 0 0 := by
  unfold FX8_readLine_16
  refine j_icmp_ge (tgt := 45) hC dX8_readLine_16 (by decide) (fun h16 => ?_) (fun h16 => ?_)
  · exact j_sub [] rfl (wX8_readLine_45 hC hG hnl fu M)
  · refine j_iload_n hC 1 dX8_readLine_19 rfl ?_
    refine j_if_eq (tgt := 33) hC dX8_readLine_20 (by decide) (fun h20 => ?_) (fun h20 => ?_)
    · refine j_aload_n hC 0 dX8_readLine_33 rfl ?_
      refine j_iload_n hC 2 dX8_readLine_34 rfl ?_
      refine j_callV (nA := 1) (rest := []) hC [.int x2] rfl (fun r hr => mX8_readLawLine (XL X) (XG X) hG fu (XD X) M x2 r hr) q1697 q1699 qs66 q136 q1700 (dmMo hG rfl) rfl rfl (by decide +kernel) rfl rfl rfl rfl rfl rfl dX8_readLine_35 (fun v35 => [.int v35]) (fun _ => rfl) (fun v35 M35 => ?_)
      refine j_if_eq (tgt := 45) hC dX8_readLine_38 (by decide) (fun h38 => ?_) (fun h38 => ?_)
      · exact j_sub [] rfl (wX8_readLine_45 hC hG hnl fu M35)
      · exact j_sub [] rfl (wX8_readLine_41 hC hG hnl fu M35)
    · refine j_aload_n hC 0 dX8_readLine_23 rfl ?_
      refine j_callV (nA := 0) (rest := []) hC [] rfl (fun r hr => mX8_readCourtLine (XL X) (XG X) hG fu (XD X) M r hr) q1607 q1609 qs51 q136 q1610 (dmMo hG rfl) rfl rfl (by decide +kernel) rfl rfl rfl rfl rfl rfl dX8_readLine_24 (fun v24 => [.int v24]) (fun _ => rfl) (fun v24 M24 => ?_)
      refine j_if_eq (tgt := 45) hC dX8_readLine_27 (by decide) (fun h27 => ?_) (fun h27 => ?_)
      · exact j_sub [] rfl (wX8_readLine_45 hC hG hnl fu M24)
      · refine j_goto (tgt := 41) hC dX8_readLine_30 (by decide) ?_
        exact j_sub [] rfl (wX8_readLine_41 hC hG hnl fu M24)
set_option linter.unusedVariables false in
set_option maxRecDepth 100000 in
theorem wX8_readLine {X : JX} (hC : JC X cX8_readLine RX8 (some .boolean) 82 2242 0 0) (hG : dmI dmM (XG X)) (hnl : nLof X = 3) (fu : Nat) (M : Mem) (x1 x2 : Int32) : J X (ZN X foI) (FX8_readLine fu (XD X) M x1 x2) 0 [(0, .ref (gadr (XG X) (5, 0, 0))), (1, .int x1), (2, .int x2)] [] M 0 0 := by
  unfold FX8_readLine
  refine j_aload_n hC 0 dX8_readLine_0 rfl ?_
  refine j_callV (nA := 0) (rest := []) hC [] rfl (fun r hr => mX8_letters (XL X) (XG X) hG fu (XD X) M r hr) q1603 q1605 qs50 q136 q1606 (dmMo hG rfl) rfl rfl (by decide +kernel) rfl rfl rfl rfl rfl rfl dX8_readLine_1 (fun _ => []) (fun _ => rfl) (fun v1 M1 => ?_)
  refine j_iload_n hC 2 dX8_readLine_4 rfl ?_
  refine j_iload_n hC 1 dX8_readLine_5 rfl ?_
  refine j_if_eq (tgt := 14) hC dX8_readLine_6 (by decide) (fun h6 => ?_) (fun h6 => ?_)
  · refine j_bipush (v := 12) hC dX8_readLine_14 (by decide) ?_
    exact j_sub [0, 1, 2] rfl (wX8_readLine_16 hC hG hnl fu M1 x1 x2 12 x2)
  · refine j_bipush (v := 14) hC dX8_readLine_9 (by decide) ?_
    refine j_goto (tgt := 16) hC dX8_readLine_11 (by decide) ?_
    exact j_sub [0, 1, 2] rfl (wX8_readLine_16 hC hG hnl fu M1 x1 x2 14 x2)
set_option linter.unusedVariables false in
set_option maxRecDepth 100000 in
theorem mX8_readLine (l : Launch) (Γ : xG) (hG : dmI dmM Γ) (fu : Nat) (D : List LDen) (M : Mem) (x1 x2 : Int32) (r : Int32 × Mem) (hr : FX8_readLine fu D M x1 x2 = some r) : CN l yX8_readLine (ws_ yX8_readLine cX8_readLine 3 (some .boolean)) 82 2242 Γ D [.ref (gadr Γ (5, 0, 0)), .int x1, .int x2] M (foI r.1) r.2 := by
  refine CN.of (own := RX8) (lv0 := lv_args 0 [.ref (gadr Γ (5, 0, 0)), .int x1, .int x2]) (by decide +kernel) rfl (Nat.le_of_ble_eq_true rfl) rfl (fun X e1 e2 e3 e4 hC => ?_) r hr
  subst e1
  subst e2
  exact wX8_readLine hC hG e4 fu M x1 x2
set_option linter.unusedVariables false in
def GX8_readAll_28 (fu : Nat) (D : List LDen) (kn28 : Mem × Int32 × Int32 → Option (Int32 × Mem)) (M : Mem) (x1 x2 : Int32) : Option (Int32 × Mem) :=
  bd (FX8_readLine fu D M x1 x2) (fun v31 M31 => if v31 = 0 then some ((-1), M31) else bd (FX8_blanks fu D M31) (fun _ M40 => if (M40 (5, 0, 0) 10) = (M40 (5, 0, 0) 11) then some (x2 + 1, M40) else bd (FX8_isAt fu D M40 59 59) (fun v63 M63 => if v63 = 0 then some ((-1), M63) else lt (up M63 (5, 0, 0) 10 ((M63 (5, 0, 0) 10) + 1)) (fun M78 => lt (x2 + 1) (fun y81 => kn28 (M78, x1, y81))))))
set_option linter.unusedVariables false in
def FX8_readAll_28 (fu : Nat) (D : List LDen) (M : Mem) (x1 x2 : Int32) : Option (Int32 × Mem) := lp (fun kn z => GX8_readAll_28 fu D kn z.1 z.2.1 z.2.2) fu (M, x1, x2)
set_option linter.unusedVariables false in
def FX8_readAll (fu : Nat) (D : List LDen) (M : Mem) (x1 : Int32) : Option (Int32 × Mem) :=
  bd (FX8_uses fu D M) (fun _ M1 => lt (up M1 (5, 0, 0) 16 0) (fun M6 => bd (FX8_blanks fu D M6) (fun _ M10 => if (M10 (5, 0, 0) 10) = (M10 (5, 0, 0) 11) then some (0, M10) else FX8_readAll_28 fu D M10 x1 0)))
set_option linter.unusedVariables false in
set_option maxRecDepth 100000 in
theorem wgX8_readAll_28 {X : JX} (hC : JC X cX8_readAll RX8 (some .int) 83 2264 0 0) (hG : dmI dmM (XG X)) (hnl : nLof X = 3) (fu : Nat) (kn28 : Mem × Int32 × Int32 → Option (Int32 × Mem)) (hk28 : ∀ (M : Mem) (x1 x2 : Int32), J X (ZN X foI) (kn28 (M, x1, x2)) 28 [(0, .ref (gadr (XG X) (5, 0, 0))), (1, .int x1), (2, .int x2)] [] M 0 0) (M : Mem) (x1 x2 : Int32) : J X (ZN X foI) (GX8_readAll_28 fu (XD X) kn28 M x1 x2) 28 [(0, .ref (gadr (XG X) (5, 0, 0))), (1, .int x1), (2, .int x2)] [] M 0 0 := by
  unfold GX8_readAll_28
  refine j_aload_n hC 0 dX8_readAll_28 rfl ?_
  refine j_iload_n hC 1 dX8_readAll_29 rfl ?_
  refine j_iload_n hC 2 dX8_readAll_30 rfl ?_
  refine j_callV (nA := 2) (rest := []) hC [.int x1, .int x2] rfl (fun r hr => mX8_readLine (XL X) (XG X) hG fu (XD X) M x1 x2 r hr) q1599 q1601 qs49 q136 q1602 (dmMo hG rfl) rfl rfl (by decide +kernel) rfl rfl rfl rfl rfl rfl dX8_readAll_31 (fun v31 => [.int v31]) (fun _ => rfl) (fun v31 M31 => ?_)
  refine j_if_ne (tgt := 39) hC dX8_readAll_34 (by decide) (fun h34 => ?_) (fun h34 => ?_)
  · refine j_iconst (v := (-1)) hC dX8_readAll_37 (by decide) ?_
    exact j_iret hC dX8_readAll_38
  · refine j_aload_n hC 0 dX8_readAll_39 rfl ?_
    refine j_callV (nA := 0) (rest := []) hC [] rfl (fun r hr => mX8_blanks (XL X) (XG X) hG fu (XD X) M31 r hr) q1591 q1593 qs47 q136 q1594 (dmMo hG rfl) rfl rfl (by decide +kernel) rfl rfl rfl rfl rfl rfl dX8_readAll_40 (fun _ => []) (fun _ => rfl) (fun v40 M40 => ?_)
    refine j_aload_n hC 0 dX8_readAll_43 rfl ?_
    refine j_getI (fk := 10) hC (dmMo hG rfl) rfl rfl in_X8 rfl rfl q1474 rfl dX8_readAll_44 ?_
    refine j_aload_n hC 0 dX8_readAll_47 rfl ?_
    refine j_getI (fk := 11) hC (dmMo hG rfl) rfl rfl in_X8 rfl rfl q1475 rfl dX8_readAll_48 ?_
    refine j_icmp_ne (tgt := 58) hC dX8_readAll_51 (by decide) (fun h51 => ?_) (fun h51 => ?_)
    · refine j_iload_n hC 2 dX8_readAll_54 rfl ?_
      refine j_iconst (v := 1) hC dX8_readAll_55 (by decide) ?_
      refine j_iadd hC dX8_readAll_56 ?_
      exact j_iret hC dX8_readAll_57
    · refine j_aload_n hC 0 dX8_readAll_58 rfl ?_
      refine j_bipush (v := 59) hC dX8_readAll_59 (by decide) ?_
      refine j_bipush (v := 59) hC dX8_readAll_61 (by decide) ?_
      refine j_callV (nA := 2) (rest := []) hC [.int 59, .int 59] rfl (fun r hr => mX8_isAt (XL X) (XG X) hG fu (XD X) M40 59 59 r hr) q1595 q1597 qs48 q136 q1598 (dmMo hG rfl) rfl rfl (by decide +kernel) rfl rfl rfl rfl rfl rfl dX8_readAll_63 (fun v63 => [.int v63]) (fun _ => rfl) (fun v63 M63 => ?_)
      refine j_if_ne (tgt := 71) hC dX8_readAll_66 (by decide) (fun h66 => ?_) (fun h66 => ?_)
      · refine j_iconst (v := (-1)) hC dX8_readAll_69 (by decide) ?_
        exact j_iret hC dX8_readAll_70
      · refine j_aload_n hC 0 dX8_readAll_71 rfl ?_
        refine j_dup hC dX8_readAll_72 rfl ?_
        refine j_getI (fk := 10) hC (dmMo hG rfl) rfl rfl in_X8 rfl rfl q1474 rfl dX8_readAll_73 ?_
        refine j_iconst (v := 1) hC dX8_readAll_76 (by decide) ?_
        refine j_iadd hC dX8_readAll_77 ?_
        refine j_put (fk := 10) (ty := .int) hC (dmMo hG rfl) rfl rfl in_X8 rfl rfl q1474 tyX8 tyX8_ok nmX8 rfl rfl (by decide +kernel) rfl rfl dX8_readAll_78 ?_
        refine j_lt (fun M78 => ?_)
        refine j_iincL hC 2 (fun y81 => [(2, .int y81), (0, .ref (gadr (XG X) (5, 0, 0))), (1, .int x1)]) hnl dX8_readAll_81 rfl (by decide) rfl (fun _ => rfl) (fun y81 => ?_)
        refine j_goto (tgt := 28) hC dX8_readAll_84 (by decide) ?_
        exact j_sub [1, 2, 0] rfl (hk28 M78 x1 y81)
set_option linter.unusedVariables false in
set_option maxRecDepth 100000 in
theorem wX8_readAll_28 {X : JX} (hC : JC X cX8_readAll RX8 (some .int) 83 2264 0 0) (hG : dmI dmM (XG X)) (hnl : nLof X = 3) (fu : Nat) (M : Mem) (x1 x2 : Int32) : J X (ZN X foI) (FX8_readAll_28 fu (XD X) M x1 x2) 28 [(0, .ref (gadr (XG X) (5, 0, 0))), (1, .int x1), (2, .int x2)] [] M 0 0 := by
  exact j_lp (lvf := fun z => [(0, .ref (gadr (XG X) (5, 0, 0))), (1, .int (z.2.1)), (2, .int (z.2.2))]) (Mf := fun z => z.1) (fun kn hk z => wgX8_readAll_28 hC hG hnl fu kn (fun M x1 x2 => hk (M, x1, x2)) z.1 z.2.1 z.2.2) fu (M, x1, x2)
set_option linter.unusedVariables false in
set_option maxRecDepth 100000 in
theorem wX8_readAll {X : JX} (hC : JC X cX8_readAll RX8 (some .int) 83 2264 0 0) (hG : dmI dmM (XG X)) (hnl : nLof X = 3) (fu : Nat) (M : Mem) (x1 : Int32) : J X (ZN X foI) (FX8_readAll fu (XD X) M x1) 0 [(0, .ref (gadr (XG X) (5, 0, 0))), (1, .int x1)] [] M 0 0 := by
  unfold FX8_readAll
  refine j_aload_n hC 0 dX8_readAll_0 rfl ?_
  refine j_callV (nA := 0) (rest := []) hC [] rfl (fun r hr => mX8_uses (XL X) (XG X) hG fu (XD X) M r hr) q1587 q1589 qs46 q136 q1590 (dmMo hG rfl) rfl rfl (by decide +kernel) rfl rfl rfl rfl rfl rfl dX8_readAll_1 (fun _ => []) (fun _ => rfl) (fun v1 M1 => ?_)
  refine j_aload_n hC 0 dX8_readAll_4 rfl ?_
  refine j_iconst (v := 0) hC dX8_readAll_5 (by decide) ?_
  refine j_put (fk := 16) (ty := .int) hC (dmMo hG rfl) rfl rfl in_X8 rfl rfl q1480 tyX8 tyX8_ok nmX8 rfl rfl (by decide +kernel) rfl rfl dX8_readAll_6 ?_
  refine j_lt (fun M6 => ?_)
  refine j_aload_n hC 0 dX8_readAll_9 rfl ?_
  refine j_callV (nA := 0) (rest := []) hC [] rfl (fun r hr => mX8_blanks (XL X) (XG X) hG fu (XD X) M6 r hr) q1591 q1593 qs47 q136 q1594 (dmMo hG rfl) rfl rfl (by decide +kernel) rfl rfl rfl rfl rfl rfl dX8_readAll_10 (fun _ => []) (fun _ => rfl) (fun v10 M10 => ?_)
  refine j_aload_n hC 0 dX8_readAll_13 rfl ?_
  refine j_getI (fk := 10) hC (dmMo hG rfl) rfl rfl in_X8 rfl rfl q1474 rfl dX8_readAll_14 ?_
  refine j_aload_n hC 0 dX8_readAll_17 rfl ?_
  refine j_getI (fk := 11) hC (dmMo hG rfl) rfl rfl in_X8 rfl rfl q1475 rfl dX8_readAll_18 ?_
  refine j_icmp_ne (tgt := 26) hC dX8_readAll_21 (by decide) (fun h21 => ?_) (fun h21 => ?_)
  · refine j_iconst (v := 0) hC dX8_readAll_24 (by decide) ?_
    exact j_iret hC dX8_readAll_25
  · refine j_iconst (v := 0) hC dX8_readAll_26 (by decide) ?_
    refine j_istore_n hC [(2, .int 0), (0, .ref (gadr (XG X) (5, 0, 0))), (1, .int x1)] hnl dX8_readAll_27 rfl rfl ?_
    exact j_sub [1, 2, 0] rfl (wX8_readAll_28 hC hG hnl fu M10 x1 0)
set_option linter.unusedVariables false in
set_option maxRecDepth 100000 in
theorem mX8_readAll (l : Launch) (Γ : xG) (hG : dmI dmM Γ) (fu : Nat) (D : List LDen) (M : Mem) (x1 : Int32) (r : Int32 × Mem) (hr : FX8_readAll fu D M x1 = some r) : CN l yX8_readAll (ws_ yX8_readAll cX8_readAll 3 (some .int)) 83 2264 Γ D [.ref (gadr Γ (5, 0, 0)), .int x1] M (foI r.1) r.2 := by
  refine CN.of (own := RX8) (lv0 := lv_args 0 [.ref (gadr Γ (5, 0, 0)), .int x1]) (by decide +kernel) rfl (Nat.le_of_ble_eq_true rfl) rfl (fun X e1 e2 e3 e4 hC => ?_) r hr
  subst e1
  subst e2
  exact wX8_readAll hC hG e4 fu M x1
set_option linter.unusedVariables false in
def GX8_court_92 (fu : Nat) (D : List LDen) (kn92 : Mem × Int32 → Option (Int32 × Mem)) (M : Mem) (x2 : Int32) : Option (Int32 × Mem) :=
  if 1331 ≤ x2 then some (0, M) else gd x2 1331 (gd x2 2180 (lt (up M (5, 0, 1) x2.toNatClampNeg (M (5, 0, 3) x2.toNatClampNeg)) (fun M110 => lt (x2 + 1) (fun y111 => kn92 (M110, y111)))))
set_option linter.unusedVariables false in
def FX8_court_92 (fu : Nat) (D : List LDen) (M : Mem) (x2 : Int32) : Option (Int32 × Mem) := lp (fun kn z => GX8_court_92 fu D kn z.1 z.2) fu (M, x2)
set_option linter.unusedVariables false in
def FX8_court_90 (fu : Nat) (D : List LDen) (M : Mem) : Option (Int32 × Mem) :=
  FX8_court_92 fu D M 0
set_option linter.unusedVariables false in
def FX8_court_83 (fu : Nat) (D : List LDen) (M : Mem) (t0 : Int32) : Option (Int32 × Mem) :=
  bd (FX8_throwsIf fu D M t0 2) (fun v84 M84 => if v84 = 0 then gd 3 2180 (gd 3 2180 (lt (up M84 (5, 0, 1) 3 ((M84 (5, 0, 1) 3) + 1)) (fun M128 => lt (up M128 (5, 0, 0) 7 0) (fun M131 => gd 3 2180 (some (M131 (5, 0, 1) 3, M131)))))) else FX8_court_90 fu D M84)
set_option linter.unusedVariables false in
def FX8_court_59 (fu : Nat) (D : List LDen) (M : Mem) (t0 : Int32) : Option (Int32 × Mem) :=
  bd (FX8_throwsIf fu D M t0 1) (fun v60 M60 => if v60 = 0 then gd 3 2180 (if (M60 (5, 0, 1) 3) = 12 then FX8_court_83 fu D M60 1 else FX8_court_83 fu D M60 0) else FX8_court_90 fu D M60)
set_option linter.unusedVariables false in
def FX8_court_46 (fu : Nat) (D : List LDen) (M : Mem) (x1 t0 : Int32) : Option (Int32 × Mem) :=
  lt (up M (5, 0, 0) 14 t0) (fun M46 => if 0 ≤ x1 then FX8_court_59 fu D M46 0 else FX8_court_59 fu D M46 1)
set_option linter.unusedVariables false in
def GX8_court_2 (fu : Nat) (D : List LDen) (kn2 : Mem × Int32 → Option (Int32 × Mem)) (M : Mem) (x1 : Int32) : Option (Int32 × Mem) :=
  if 1331 ≤ x1 then bd (FX8_readAll fu D M 1) (fun v29 M29 => if 0 ≤ v29 then FX8_court_46 fu D M29 v29 (-1) else FX8_court_46 fu D M29 v29 (M29 (5, 0, 0) 12)) else gd x1 2180 (gd x1 1331 (lt (up M (5, 0, 3) x1.toNatClampNeg (M (5, 0, 1) x1.toNatClampNeg)) (fun M20 => lt (x1 + 1) (fun y21 => kn2 (M20, y21)))))
set_option linter.unusedVariables false in
def FX8_court_2 (fu : Nat) (D : List LDen) (M : Mem) (x1 : Int32) : Option (Int32 × Mem) := lp (fun kn z => GX8_court_2 fu D kn z.1 z.2) fu (M, x1)
set_option linter.unusedVariables false in
def FX8_court (fu : Nat) (D : List LDen) (M : Mem) : Option (Int32 × Mem) :=
  FX8_court_2 fu D M 0
set_option linter.unusedVariables false in
set_option maxRecDepth 100000 in
theorem wgX8_court_92 {X : JX} (hC : JC X cX8_court RX8 (some .int) 84 2286 0 0) (hG : dmI dmM (XG X)) (hnl : nLof X = 3) (fu : Nat) (kn92 : Mem × Int32 → Option (Int32 × Mem)) (hk92 : ∀ (M : Mem) (x2 : Int32), J X (ZN X foI) (kn92 (M, x2)) 92 [(0, .ref (gadr (XG X) (5, 0, 0))), (2, .int x2)] [] M 0 0) (M : Mem) (x2 : Int32) : J X (ZN X foI) (GX8_court_92 fu (XD X) kn92 M x2) 92 [(0, .ref (gadr (XG X) (5, 0, 0))), (2, .int x2)] [] M 0 0 := by
  unfold GX8_court_92
  refine j_iload_n hC 1 dX8_court_92 rfl ?_
  refine j_sipush (v := 1331) hC dX8_court_93 (by decide) ?_
  refine j_icmp_ge (tgt := 117) hC dX8_court_96 (by decide) (fun h96 => ?_) (fun h96 => ?_)
  · refine j_iconst (v := 0) hC dX8_court_117 (by decide) ?_
    exact j_iret hC dX8_court_118
  · refine j_aload_n hC 0 dX8_court_99 rfl ?_
    refine j_getR (fk := 1) hC (dmMo hG rfl) rfl rfl in_X8 rfl rfl q1465 rfl dX8_court_100 ?_
    refine j_iload_n hC 1 dX8_court_103 rfl ?_
    refine j_aload_n hC 0 dX8_court_104 rfl ?_
    refine j_getR (fk := 3) hC (dmMo hG rfl) rfl rfl in_X8 rfl rfl q1467 rfl dX8_court_105 ?_
    refine j_iload_n hC 1 dX8_court_108 rfl ?_
    refine j_iald hC (dmMo hG rfl) rfl dX8_court_109 (fun h109 => ?_)
    refine j_iast hC (dmMo hG rfl) rfl dX8_court_110 (fun h110 => ?_)
    refine j_lt (fun M110 => ?_)
    refine j_iincL hC 1 (fun y111 => [(2, .int y111), (0, .ref (gadr (XG X) (5, 0, 0)))]) hnl dX8_court_111 rfl (by decide) rfl (fun _ => rfl) (fun y111 => ?_)
    refine j_goto (tgt := 92) hC dX8_court_114 (by decide) ?_
    exact j_sub [1, 0] rfl (hk92 M110 y111)
set_option linter.unusedVariables false in
set_option maxRecDepth 100000 in
theorem wX8_court_92 {X : JX} (hC : JC X cX8_court RX8 (some .int) 84 2286 0 0) (hG : dmI dmM (XG X)) (hnl : nLof X = 3) (fu : Nat) (M : Mem) (x2 : Int32) : J X (ZN X foI) (FX8_court_92 fu (XD X) M x2) 92 [(0, .ref (gadr (XG X) (5, 0, 0))), (2, .int x2)] [] M 0 0 := by
  exact j_lp (lvf := fun z => [(0, .ref (gadr (XG X) (5, 0, 0))), (2, .int (z.2))]) (Mf := fun z => z.1) (fun kn hk z => wgX8_court_92 hC hG hnl fu kn (fun M x2 => hk (M, x2)) z.1 z.2) fu (M, x2)
set_option linter.unusedVariables false in
set_option maxRecDepth 100000 in
theorem wX8_court_90 {X : JX} (hC : JC X cX8_court RX8 (some .int) 84 2286 0 0) (hG : dmI dmM (XG X)) (hnl : nLof X = 3) (fu : Nat) (M : Mem) : J X (ZN X foI) (FX8_court_90 fu (XD X) M) 90 [(0, .ref (gadr (XG X) (5, 0, 0)))] [] M 0 0 := by
  unfold FX8_court_90
  refine j_iconst (v := 0) hC dX8_court_90 (by decide) ?_
  refine j_istore_n hC [(2, .int 0), (0, .ref (gadr (XG X) (5, 0, 0)))] hnl dX8_court_91 rfl rfl ?_
  exact j_sub [1, 0] rfl (wX8_court_92 hC hG hnl fu M 0)
set_option linter.unusedVariables false in
set_option maxRecDepth 100000 in
theorem wX8_court_83 {X : JX} (hC : JC X cX8_court RX8 (some .int) 84 2286 0 0) (hG : dmI dmM (XG X)) (hnl : nLof X = 3) (fu : Nat) (M : Mem) (t0 : Int32) : J X (ZN X foI) (FX8_court_83 fu (XD X) M t0) 83 [(0, .ref (gadr (XG X) (5, 0, 0)))] [.int t0, .ref (gadr (XG X) (5, 0, 0))] M 0 0 := by
  unfold FX8_court_83
  refine j_iconst (v := 2) hC dX8_court_83 (by decide) ?_
  refine j_callV (nA := 2) (rest := []) hC [.int t0, .int 2] rfl (fun r hr => mX8_throwsIf (XL X) (XG X) hG fu (XD X) M t0 2 r hr) q1748 q1750 qs76 q136 q1751 (dmMo hG rfl) rfl rfl (by decide +kernel) rfl rfl rfl rfl rfl rfl dX8_court_84 (fun v84 => [.int v84]) (fun _ => rfl) (fun v84 M84 => ?_)
  refine j_if_eq (tgt := 119) hC dX8_court_87 (by decide) (fun h87 => ?_) (fun h87 => ?_)
  · refine j_aload_n hC 0 dX8_court_119 rfl ?_
    refine j_getR (fk := 1) hC (dmMo hG rfl) rfl rfl in_X8 rfl rfl q1465 rfl dX8_court_120 ?_
    refine j_iconst (v := 3) hC dX8_court_123 (by decide) ?_
    refine j_dup2 hC dX8_court_124 rfl rfl ?_
    refine j_iald hC (dmMo hG rfl) rfl dX8_court_125 (fun h125 => ?_)
    refine j_iconst (v := 1) hC dX8_court_126 (by decide) ?_
    refine j_iadd hC dX8_court_127 ?_
    refine j_iast hC (dmMo hG rfl) rfl dX8_court_128 (fun h128 => ?_)
    refine j_lt (fun M128 => ?_)
    refine j_aload_n hC 0 dX8_court_129 rfl ?_
    refine j_iconst (v := 0) hC dX8_court_130 (by decide) ?_
    refine j_put (fk := 7) (ty := .int) hC (dmMo hG rfl) rfl rfl in_X8 rfl rfl q1471 tyX8 tyX8_ok nmX8 rfl rfl (by decide +kernel) rfl rfl dX8_court_131 ?_
    refine j_lt (fun M131 => ?_)
    refine j_aload_n hC 0 dX8_court_134 rfl ?_
    refine j_getR (fk := 1) hC (dmMo hG rfl) rfl rfl in_X8 rfl rfl q1465 rfl dX8_court_135 ?_
    refine j_iconst (v := 3) hC dX8_court_138 (by decide) ?_
    refine j_iald hC (dmMo hG rfl) rfl dX8_court_139 (fun h139 => ?_)
    exact j_iret hC dX8_court_140
  · exact j_sub [0] rfl (wX8_court_90 hC hG hnl fu M84)
set_option linter.unusedVariables false in
set_option maxRecDepth 100000 in
theorem wX8_court_59 {X : JX} (hC : JC X cX8_court RX8 (some .int) 84 2286 0 0) (hG : dmI dmM (XG X)) (hnl : nLof X = 3) (fu : Nat) (M : Mem) (t0 : Int32) : J X (ZN X foI) (FX8_court_59 fu (XD X) M t0) 59 [(0, .ref (gadr (XG X) (5, 0, 0)))] [.int t0, .ref (gadr (XG X) (5, 0, 0))] M 0 0 := by
  unfold FX8_court_59
  refine j_iconst (v := 1) hC dX8_court_59 (by decide) ?_
  refine j_callV (nA := 2) (rest := []) hC [.int t0, .int 1] rfl (fun r hr => mX8_throwsIf (XL X) (XG X) hG fu (XD X) M t0 1 r hr) q1748 q1750 qs76 q136 q1751 (dmMo hG rfl) rfl rfl (by decide +kernel) rfl rfl rfl rfl rfl rfl dX8_court_60 (fun v60 => [.int v60]) (fun _ => rfl) (fun v60 M60 => ?_)
  refine j_if_ne (tgt := 90) hC dX8_court_63 (by decide) (fun h63 => ?_) (fun h63 => ?_)
  · refine j_aload_n hC 0 dX8_court_66 rfl ?_
    refine j_aload_n hC 0 dX8_court_67 rfl ?_
    refine j_getR (fk := 1) hC (dmMo hG rfl) rfl rfl in_X8 rfl rfl q1465 rfl dX8_court_68 ?_
    refine j_iconst (v := 3) hC dX8_court_71 (by decide) ?_
    refine j_iald hC (dmMo hG rfl) rfl dX8_court_72 (fun h72 => ?_)
    refine j_bipush (v := 12) hC dX8_court_73 (by decide) ?_
    refine j_icmp_ne (tgt := 82) hC dX8_court_75 (by decide) (fun h75 => ?_) (fun h75 => ?_)
    · refine j_iconst (v := 1) hC dX8_court_78 (by decide) ?_
      refine j_goto (tgt := 83) hC dX8_court_79 (by decide) ?_
      exact j_sub [0] rfl (wX8_court_83 hC hG hnl fu M60 1)
    · refine j_iconst (v := 0) hC dX8_court_82 (by decide) ?_
      exact j_sub [0] rfl (wX8_court_83 hC hG hnl fu M60 0)
  · exact j_sub [0] rfl (wX8_court_90 hC hG hnl fu M60)
set_option linter.unusedVariables false in
set_option maxRecDepth 100000 in
theorem wX8_court_46 {X : JX} (hC : JC X cX8_court RX8 (some .int) 84 2286 0 0) (hG : dmI dmM (XG X)) (hnl : nLof X = 3) (fu : Nat) (M : Mem) (x1 t0 : Int32) : J X (ZN X foI) (FX8_court_46 fu (XD X) M x1 t0) 46 [(0, .ref (gadr (XG X) (5, 0, 0))), (1, .int x1)] [.int t0, .ref (gadr (XG X) (5, 0, 0))] M 0 0 := by
  unfold FX8_court_46
  refine j_put (fk := 14) (ty := .int) hC (dmMo hG rfl) rfl rfl in_X8 rfl rfl q1478 tyX8 tyX8_ok nmX8 rfl rfl (by decide +kernel) rfl rfl dX8_court_46 ?_
  refine j_lt (fun M46 => ?_)
  refine j_aload_n hC 0 dX8_court_49 rfl ?_
  refine j_iload_n hC 1 dX8_court_50 rfl ?_
  refine j_if_ge (tgt := 58) hC dX8_court_51 (by decide) (fun h51 => ?_) (fun h51 => ?_)
  · refine j_iconst (v := 0) hC dX8_court_58 (by decide) ?_
    exact j_sub [0] rfl (wX8_court_59 hC hG hnl fu M46 0)
  · refine j_iconst (v := 1) hC dX8_court_54 (by decide) ?_
    refine j_goto (tgt := 59) hC dX8_court_55 (by decide) ?_
    exact j_sub [0] rfl (wX8_court_59 hC hG hnl fu M46 1)
set_option linter.unusedVariables false in
set_option maxRecDepth 100000 in
theorem wgX8_court_2 {X : JX} (hC : JC X cX8_court RX8 (some .int) 84 2286 0 0) (hG : dmI dmM (XG X)) (hnl : nLof X = 3) (fu : Nat) (kn2 : Mem × Int32 → Option (Int32 × Mem)) (hk2 : ∀ (M : Mem) (x1 : Int32), J X (ZN X foI) (kn2 (M, x1)) 2 [(0, .ref (gadr (XG X) (5, 0, 0))), (1, .int x1)] [] M 0 0) (M : Mem) (x1 : Int32) : J X (ZN X foI) (GX8_court_2 fu (XD X) kn2 M x1) 2 [(0, .ref (gadr (XG X) (5, 0, 0))), (1, .int x1)] [] M 0 0 := by
  unfold GX8_court_2
  refine j_iload_n hC 1 dX8_court_2 rfl ?_
  refine j_sipush (v := 1331) hC dX8_court_3 (by decide) ?_
  refine j_icmp_ge (tgt := 27) hC dX8_court_6 (by decide) (fun h6 => ?_) (fun h6 => ?_)
  · refine j_aload_n hC 0 dX8_court_27 rfl ?_
    refine j_iconst (v := 1) hC dX8_court_28 (by decide) ?_
    refine j_callV (nA := 1) (rest := []) hC [.int 1] rfl (fun r hr => mX8_readAll (XL X) (XG X) hG fu (XD X) M 1 r hr) q1583 q1585 qs45 q136 q1586 (dmMo hG rfl) rfl rfl (by decide +kernel) rfl rfl rfl rfl rfl rfl dX8_court_29 (fun v29 => [.int v29]) (fun _ => rfl) (fun v29 M29 => ?_)
    refine j_istore_n hC [(1, .int v29), (0, .ref (gadr (XG X) (5, 0, 0)))] hnl dX8_court_32 rfl rfl ?_
    refine j_aload_n hC 1 dX8_court_33 rfl ?_
    refine j_iload_n hC 0 dX8_court_34 rfl ?_
    refine j_if_ge (tgt := 45) hC dX8_court_35 (by decide) (fun h35 => ?_) (fun h35 => ?_)
    · refine j_iconst (v := (-1)) hC dX8_court_45 (by decide) ?_
      exact j_sub [1, 0] rfl (wX8_court_46 hC hG hnl fu M29 v29 (-1))
    · refine j_aload_n hC 1 dX8_court_38 rfl ?_
      refine j_getI (fk := 12) hC (dmMo hG rfl) rfl rfl in_X8 rfl rfl q1476 rfl dX8_court_39 ?_
      refine j_goto (tgt := 46) hC dX8_court_42 (by decide) ?_
      exact j_sub [1, 0] rfl (wX8_court_46 hC hG hnl fu M29 v29 (M29 (5, 0, 0) 12))
  · refine j_aload_n hC 0 dX8_court_9 rfl ?_
    refine j_getR (fk := 3) hC (dmMo hG rfl) rfl rfl in_X8 rfl rfl q1467 rfl dX8_court_10 ?_
    refine j_iload_n hC 1 dX8_court_13 rfl ?_
    refine j_aload_n hC 0 dX8_court_14 rfl ?_
    refine j_getR (fk := 1) hC (dmMo hG rfl) rfl rfl in_X8 rfl rfl q1465 rfl dX8_court_15 ?_
    refine j_iload_n hC 1 dX8_court_18 rfl ?_
    refine j_iald hC (dmMo hG rfl) rfl dX8_court_19 (fun h19 => ?_)
    refine j_iast hC (dmMo hG rfl) rfl dX8_court_20 (fun h20 => ?_)
    refine j_lt (fun M20 => ?_)
    refine j_iincL hC 1 (fun y21 => [(1, .int y21), (0, .ref (gadr (XG X) (5, 0, 0)))]) hnl dX8_court_21 rfl (by decide) rfl (fun _ => rfl) (fun y21 => ?_)
    refine j_goto (tgt := 2) hC dX8_court_24 (by decide) ?_
    exact j_sub [1, 0] rfl (hk2 M20 y21)
set_option linter.unusedVariables false in
set_option maxRecDepth 100000 in
theorem wX8_court_2 {X : JX} (hC : JC X cX8_court RX8 (some .int) 84 2286 0 0) (hG : dmI dmM (XG X)) (hnl : nLof X = 3) (fu : Nat) (M : Mem) (x1 : Int32) : J X (ZN X foI) (FX8_court_2 fu (XD X) M x1) 2 [(0, .ref (gadr (XG X) (5, 0, 0))), (1, .int x1)] [] M 0 0 := by
  exact j_lp (lvf := fun z => [(0, .ref (gadr (XG X) (5, 0, 0))), (1, .int (z.2))]) (Mf := fun z => z.1) (fun kn hk z => wgX8_court_2 hC hG hnl fu kn (fun M x1 => hk (M, x1)) z.1 z.2) fu (M, x1)
set_option linter.unusedVariables false in
set_option maxRecDepth 100000 in
theorem wX8_court {X : JX} (hC : JC X cX8_court RX8 (some .int) 84 2286 0 0) (hG : dmI dmM (XG X)) (hnl : nLof X = 3) (fu : Nat) (M : Mem) : J X (ZN X foI) (FX8_court fu (XD X) M) 0 [(0, .ref (gadr (XG X) (5, 0, 0)))] [] M 0 0 := by
  unfold FX8_court
  refine j_iconst (v := 0) hC dX8_court_0 (by decide) ?_
  refine j_istore_n hC [(1, .int 0), (0, .ref (gadr (XG X) (5, 0, 0)))] hnl dX8_court_1 rfl rfl ?_
  exact j_sub [1, 0] rfl (wX8_court_2 hC hG hnl fu M 0)
set_option linter.unusedVariables false in
set_option maxRecDepth 100000 in
theorem mX8_court (l : Launch) (Γ : xG) (hG : dmI dmM Γ) (fu : Nat) (D : List LDen) (M : Mem) (r : Int32 × Mem) (hr : FX8_court fu D M = some r) : CN l yX8_court (ws_ yX8_court cX8_court 3 (some .int)) 84 2286 Γ D [.ref (gadr Γ (5, 0, 0))] M (foI r.1) r.2 := by
  refine CN.of (own := RX8) (lv0 := lv_args 0 [.ref (gadr Γ (5, 0, 0))]) (by decide +kernel) rfl (Nat.le_of_ble_eq_true rfl) rfl (fun X e1 e2 e3 e4 hC => ?_) r hr
  subst e1
  subst e2
  exact wX8_court hC hG e4 fu M
set_option linter.unusedVariables false in
def GX8_law_52 (fu : Nat) (D : List LDen) (kn52 : Mem × Int32 × Int32 → Option (Int32 × Mem)) (M : Mem) (x1 x2 : Int32) : Option (Int32 × Mem) :=
  if 849 ≤ x2 then gd 4 2180 (lt (up M (5, 0, 1) 4 1) (fun M91 => lt (up M91 (5, 0, 0) 7 0) (fun M94 => some (x1, M94)))) else gd (1331 + x2) 2180 (gd (482 + x2) 2180 (lt (up M (5, 0, 1) ((482 + x2).toNatClampNeg) (M (5, 0, 1) ((1331 + x2).toNatClampNeg))) (fun M78 => lt (x2 + 1) (fun y79 => kn52 (M78, x1, y79)))))
set_option linter.unusedVariables false in
def FX8_law_52 (fu : Nat) (D : List LDen) (M : Mem) (x1 x2 : Int32) : Option (Int32 × Mem) := lp (fun kn z => GX8_law_52 fu D kn z.1 z.2.1 z.2.2) fu (M, x1, x2)
set_option linter.unusedVariables false in
def FX8_law_32 (fu : Nat) (D : List LDen) (M : Mem) (x1 t0 : Int32) : Option (Int32 × Mem) :=
  bd (FX8_throwsIf fu D M t0 1) (fun v33 M33 => if v33 = 0 then gd 1331 2180 (lt (up M33 (5, 0, 1) 1331 x1) (fun M49 => FX8_law_52 fu D M49 x1 0)) else some (0, M33))
set_option linter.unusedVariables false in
def FX8_law_19 (fu : Nat) (D : List LDen) (M : Mem) (x1 t0 : Int32) : Option (Int32 × Mem) :=
  lt (up M (5, 0, 0) 14 t0) (fun M19 => if 0 ≤ x1 then FX8_law_32 fu D M19 x1 0 else FX8_law_32 fu D M19 x1 1)
set_option linter.unusedVariables false in
def FX8_law (fu : Nat) (D : List LDen) (M : Mem) : Option (Int32 × Mem) :=
  bd (FX8_readAll fu D M 0) (fun v2 M2 => if 0 ≤ v2 then FX8_law_19 fu D M2 v2 (-1) else FX8_law_19 fu D M2 v2 (M2 (5, 0, 0) 12))
set_option linter.unusedVariables false in
set_option maxRecDepth 100000 in
theorem wgX8_law_52 {X : JX} (hC : JC X cX8_law RX8 (some .int) 84 2286 0 0) (hG : dmI dmM (XG X)) (hnl : nLof X = 3) (fu : Nat) (kn52 : Mem × Int32 × Int32 → Option (Int32 × Mem)) (hk52 : ∀ (M : Mem) (x1 x2 : Int32), J X (ZN X foI) (kn52 (M, x1, x2)) 52 [(0, .ref (gadr (XG X) (5, 0, 0))), (1, .int x1), (2, .int x2)] [] M 0 0) (M : Mem) (x1 x2 : Int32) : J X (ZN X foI) (GX8_law_52 fu (XD X) kn52 M x1 x2) 52 [(0, .ref (gadr (XG X) (5, 0, 0))), (1, .int x1), (2, .int x2)] [] M 0 0 := by
  unfold GX8_law_52
  refine j_iload_n hC 2 dX8_law_52 rfl ?_
  refine j_sipush (v := 849) hC dX8_law_53 (by decide) ?_
  refine j_icmp_ge (tgt := 85) hC dX8_law_56 (by decide) (fun h56 => ?_) (fun h56 => ?_)
  · refine j_aload_n hC 0 dX8_law_85 rfl ?_
    refine j_getR (fk := 1) hC (dmMo hG rfl) rfl rfl in_X8 rfl rfl q1465 rfl dX8_law_86 ?_
    refine j_iconst (v := 4) hC dX8_law_89 (by decide) ?_
    refine j_iconst (v := 1) hC dX8_law_90 (by decide) ?_
    refine j_iast hC (dmMo hG rfl) rfl dX8_law_91 (fun h91 => ?_)
    refine j_lt (fun M91 => ?_)
    refine j_aload_n hC 0 dX8_law_92 rfl ?_
    refine j_iconst (v := 0) hC dX8_law_93 (by decide) ?_
    refine j_put (fk := 7) (ty := .int) hC (dmMo hG rfl) rfl rfl in_X8 rfl rfl q1471 tyX8 tyX8_ok nmX8 rfl rfl (by decide +kernel) rfl rfl dX8_law_94 ?_
    refine j_lt (fun M94 => ?_)
    refine j_iload_n hC 1 dX8_law_97 rfl ?_
    exact j_iret hC dX8_law_98
  · refine j_aload_n hC 0 dX8_law_59 rfl ?_
    refine j_getR (fk := 1) hC (dmMo hG rfl) rfl rfl in_X8 rfl rfl q1465 rfl dX8_law_60 ?_
    refine j_sipush (v := 482) hC dX8_law_63 (by decide) ?_
    refine j_iload_n hC 2 dX8_law_66 rfl ?_
    refine j_iadd hC dX8_law_67 ?_
    refine j_aload_n hC 0 dX8_law_68 rfl ?_
    refine j_getR (fk := 1) hC (dmMo hG rfl) rfl rfl in_X8 rfl rfl q1465 rfl dX8_law_69 ?_
    refine j_sipush (v := 1331) hC dX8_law_72 (by decide) ?_
    refine j_iload_n hC 2 dX8_law_75 rfl ?_
    refine j_iadd hC dX8_law_76 ?_
    refine j_iald hC (dmMo hG rfl) rfl dX8_law_77 (fun h77 => ?_)
    refine j_iast hC (dmMo hG rfl) rfl dX8_law_78 (fun h78 => ?_)
    refine j_lt (fun M78 => ?_)
    refine j_iincL hC 2 (fun y79 => [(2, .int y79), (0, .ref (gadr (XG X) (5, 0, 0))), (1, .int x1)]) hnl dX8_law_79 rfl (by decide) rfl (fun _ => rfl) (fun y79 => ?_)
    refine j_goto (tgt := 52) hC dX8_law_82 (by decide) ?_
    exact j_sub [1, 2, 0] rfl (hk52 M78 x1 y79)
set_option linter.unusedVariables false in
set_option maxRecDepth 100000 in
theorem wX8_law_52 {X : JX} (hC : JC X cX8_law RX8 (some .int) 84 2286 0 0) (hG : dmI dmM (XG X)) (hnl : nLof X = 3) (fu : Nat) (M : Mem) (x1 x2 : Int32) : J X (ZN X foI) (FX8_law_52 fu (XD X) M x1 x2) 52 [(0, .ref (gadr (XG X) (5, 0, 0))), (1, .int x1), (2, .int x2)] [] M 0 0 := by
  exact j_lp (lvf := fun z => [(0, .ref (gadr (XG X) (5, 0, 0))), (1, .int (z.2.1)), (2, .int (z.2.2))]) (Mf := fun z => z.1) (fun kn hk z => wgX8_law_52 hC hG hnl fu kn (fun M x1 x2 => hk (M, x1, x2)) z.1 z.2.1 z.2.2) fu (M, x1, x2)
set_option linter.unusedVariables false in
set_option maxRecDepth 100000 in
theorem wX8_law_32 {X : JX} (hC : JC X cX8_law RX8 (some .int) 84 2286 0 0) (hG : dmI dmM (XG X)) (hnl : nLof X = 3) (fu : Nat) (M : Mem) (x1 t0 : Int32) : J X (ZN X foI) (FX8_law_32 fu (XD X) M x1 t0) 32 [(0, .ref (gadr (XG X) (5, 0, 0))), (1, .int x1)] [.int t0, .ref (gadr (XG X) (5, 0, 0))] M 0 0 := by
  unfold FX8_law_32
  refine j_iconst (v := 1) hC dX8_law_32 (by decide) ?_
  refine j_callV (nA := 2) (rest := []) hC [.int t0, .int 1] rfl (fun r hr => mX8_throwsIf (XL X) (XG X) hG fu (XD X) M t0 1 r hr) q1748 q1750 qs76 q136 q1751 (dmMo hG rfl) rfl rfl (by decide +kernel) rfl rfl rfl rfl rfl rfl dX8_law_33 (fun v33 => [.int v33]) (fun _ => rfl) (fun v33 M33 => ?_)
  refine j_if_eq (tgt := 41) hC dX8_law_36 (by decide) (fun h36 => ?_) (fun h36 => ?_)
  · refine j_aload_n hC 0 dX8_law_41 rfl ?_
    refine j_getR (fk := 1) hC (dmMo hG rfl) rfl rfl in_X8 rfl rfl q1465 rfl dX8_law_42 ?_
    refine j_sipush (v := 1331) hC dX8_law_45 (by decide) ?_
    refine j_iload_n hC 1 dX8_law_48 rfl ?_
    refine j_iast hC (dmMo hG rfl) rfl dX8_law_49 (fun h49 => ?_)
    refine j_lt (fun M49 => ?_)
    refine j_iconst (v := 0) hC dX8_law_50 (by decide) ?_
    refine j_istore_n hC [(2, .int 0), (0, .ref (gadr (XG X) (5, 0, 0))), (1, .int x1)] hnl dX8_law_51 rfl rfl ?_
    exact j_sub [1, 2, 0] rfl (wX8_law_52 hC hG hnl fu M49 x1 0)
  · refine j_iconst (v := 0) hC dX8_law_39 (by decide) ?_
    exact j_iret hC dX8_law_40
set_option linter.unusedVariables false in
set_option maxRecDepth 100000 in
theorem wX8_law_19 {X : JX} (hC : JC X cX8_law RX8 (some .int) 84 2286 0 0) (hG : dmI dmM (XG X)) (hnl : nLof X = 3) (fu : Nat) (M : Mem) (x1 t0 : Int32) : J X (ZN X foI) (FX8_law_19 fu (XD X) M x1 t0) 19 [(0, .ref (gadr (XG X) (5, 0, 0))), (1, .int x1)] [.int t0, .ref (gadr (XG X) (5, 0, 0))] M 0 0 := by
  unfold FX8_law_19
  refine j_put (fk := 14) (ty := .int) hC (dmMo hG rfl) rfl rfl in_X8 rfl rfl q1478 tyX8 tyX8_ok nmX8 rfl rfl (by decide +kernel) rfl rfl dX8_law_19 ?_
  refine j_lt (fun M19 => ?_)
  refine j_aload_n hC 0 dX8_law_22 rfl ?_
  refine j_iload_n hC 1 dX8_law_23 rfl ?_
  refine j_if_ge (tgt := 31) hC dX8_law_24 (by decide) (fun h24 => ?_) (fun h24 => ?_)
  · refine j_iconst (v := 0) hC dX8_law_31 (by decide) ?_
    exact j_sub [0, 1] rfl (wX8_law_32 hC hG hnl fu M19 x1 0)
  · refine j_iconst (v := 1) hC dX8_law_27 (by decide) ?_
    refine j_goto (tgt := 32) hC dX8_law_28 (by decide) ?_
    exact j_sub [0, 1] rfl (wX8_law_32 hC hG hnl fu M19 x1 1)
set_option linter.unusedVariables false in
set_option maxRecDepth 100000 in
theorem wX8_law {X : JX} (hC : JC X cX8_law RX8 (some .int) 84 2286 0 0) (hG : dmI dmM (XG X)) (hnl : nLof X = 3) (fu : Nat) (M : Mem) : J X (ZN X foI) (FX8_law fu (XD X) M) 0 [(0, .ref (gadr (XG X) (5, 0, 0)))] [] M 0 0 := by
  unfold FX8_law
  refine j_aload_n hC 0 dX8_law_0 rfl ?_
  refine j_iconst (v := 0) hC dX8_law_1 (by decide) ?_
  refine j_callV (nA := 1) (rest := []) hC [.int 0] rfl (fun r hr => mX8_readAll (XL X) (XG X) hG fu (XD X) M 0 r hr) q1583 q1585 qs45 q136 q1586 (dmMo hG rfl) rfl rfl (by decide +kernel) rfl rfl rfl rfl rfl rfl dX8_law_2 (fun v2 => [.int v2]) (fun _ => rfl) (fun v2 M2 => ?_)
  refine j_istore_n hC [(1, .int v2), (0, .ref (gadr (XG X) (5, 0, 0)))] hnl dX8_law_5 rfl rfl ?_
  refine j_aload_n hC 1 dX8_law_6 rfl ?_
  refine j_iload_n hC 0 dX8_law_7 rfl ?_
  refine j_if_ge (tgt := 18) hC dX8_law_8 (by decide) (fun h8 => ?_) (fun h8 => ?_)
  · refine j_iconst (v := (-1)) hC dX8_law_18 (by decide) ?_
    exact j_sub [1, 0] rfl (wX8_law_19 hC hG hnl fu M2 v2 (-1))
  · refine j_aload_n hC 1 dX8_law_11 rfl ?_
    refine j_getI (fk := 12) hC (dmMo hG rfl) rfl rfl in_X8 rfl rfl q1476 rfl dX8_law_12 ?_
    refine j_goto (tgt := 19) hC dX8_law_15 (by decide) ?_
    exact j_sub [1, 0] rfl (wX8_law_19 hC hG hnl fu M2 v2 (M2 (5, 0, 0) 12))
set_option linter.unusedVariables false in
set_option maxRecDepth 100000 in
theorem mX8_law (l : Launch) (Γ : xG) (hG : dmI dmM Γ) (fu : Nat) (D : List LDen) (M : Mem) (r : Int32 × Mem) (hr : FX8_law fu D M = some r) : CN l yX8_law (ws_ yX8_law cX8_law 3 (some .int)) 84 2286 Γ D [.ref (gadr Γ (5, 0, 0))] M (foI r.1) r.2 := by
  refine CN.of (own := RX8) (lv0 := lv_args 0 [.ref (gadr Γ (5, 0, 0))]) (by decide +kernel) rfl (Nat.le_of_ble_eq_true rfl) rfl (fun X e1 e2 e3 e4 hC => ?_) r hr
  subst e1
  subst e2
  exact wX8_law hC hG e4 fu M
