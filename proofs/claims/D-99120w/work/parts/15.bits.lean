/-! Integer.bitCount (printed by gen/gen.py) -/
set_option maxRecDepth 100000
set_option linter.unusedVariables false in
def FJ14_bitCount (fu : Nat) (D : List LDen) (M : Mem) (x0 : Int32) : Option (Int32 × Mem) :=
  lt (x0 - (((x0.toUInt32 >>> ((1 : Int32).toUInt32 &&& Int32.toUInt32 31)).toInt32) &&& 1431655765)) (fun y9 => lt ((y9 &&& 858993459) + (((y9.toUInt32 >>> ((2 : Int32).toUInt32 &&& Int32.toUInt32 31)).toInt32) &&& 858993459)) (fun y23 => lt ((y23 + ((y23.toUInt32 >>> ((4 : Int32).toUInt32 &&& Int32.toUInt32 31)).toInt32)) &&& 252645135) (fun y33 => lt (y33 + ((y33.toUInt32 >>> ((8 : Int32).toUInt32 &&& Int32.toUInt32 31)).toInt32)) (fun y40 => lt (y40 + ((y40.toUInt32 >>> ((16 : Int32).toUInt32 &&& Int32.toUInt32 31)).toInt32)) (fun y47 => some (y47 &&& 63, M))))))
set_option linter.unusedVariables false in
set_option maxRecDepth 100000 in
theorem wJ14_bitCount {X : JX} (hC : JC X cJ14_bitCount RJ14 (some .int) 1 12 0 0) (hG : True) (hnl : nLof X = 1) (fu : Nat) (M : Mem) (x0 : Int32) : J X (ZN X foI) (FJ14_bitCount fu (XD X) M x0) 0 [(0, .int x0)] [] M 0 0 := by
  unfold FJ14_bitCount
  refine j_iload_n hC 0 dJ14_bitCount_0 rfl ?_
  refine j_iload_n hC 0 dJ14_bitCount_1 rfl ?_
  refine j_iconst (v := 1) hC dJ14_bitCount_2 (by decide) ?_
  refine j_iushr hC dJ14_bitCount_3 rfl ?_
  refine j_ldcw (v := 1431655765) hC dJ14_bitCount_4 q687 ?_
  refine j_iand hC dJ14_bitCount_7 ?_
  refine j_isub hC dJ14_bitCount_8 ?_
  refine j_ltT (fun y9 => ?_)
  refine j_istore_n hC [(0, .int y9)] hnl dJ14_bitCount_9 rfl rfl ?_
  refine j_iload_n hC 0 dJ14_bitCount_10 rfl ?_
  refine j_ldcw (v := 858993459) hC dJ14_bitCount_11 q688 ?_
  refine j_iand hC dJ14_bitCount_14 ?_
  refine j_iload_n hC 0 dJ14_bitCount_15 rfl ?_
  refine j_iconst (v := 2) hC dJ14_bitCount_16 (by decide) ?_
  refine j_iushr hC dJ14_bitCount_17 rfl ?_
  refine j_ldcw (v := 858993459) hC dJ14_bitCount_18 q688 ?_
  refine j_iand hC dJ14_bitCount_21 ?_
  refine j_iadd hC dJ14_bitCount_22 ?_
  refine j_ltT (fun y23 => ?_)
  refine j_istore_n hC [(0, .int y23)] hnl dJ14_bitCount_23 rfl rfl ?_
  refine j_iload_n hC 0 dJ14_bitCount_24 rfl ?_
  refine j_iload_n hC 0 dJ14_bitCount_25 rfl ?_
  refine j_iconst (v := 4) hC dJ14_bitCount_26 (by decide) ?_
  refine j_iushr hC dJ14_bitCount_27 rfl ?_
  refine j_iadd hC dJ14_bitCount_28 ?_
  refine j_ldcw (v := 252645135) hC dJ14_bitCount_29 q689 ?_
  refine j_iand hC dJ14_bitCount_32 ?_
  refine j_ltT (fun y33 => ?_)
  refine j_istore_n hC [(0, .int y33)] hnl dJ14_bitCount_33 rfl rfl ?_
  refine j_iload_n hC 0 dJ14_bitCount_34 rfl ?_
  refine j_iload_n hC 0 dJ14_bitCount_35 rfl ?_
  refine j_bipush (v := 8) hC dJ14_bitCount_36 (by decide) ?_
  refine j_iushr hC dJ14_bitCount_38 rfl ?_
  refine j_iadd hC dJ14_bitCount_39 ?_
  refine j_ltT (fun y40 => ?_)
  refine j_istore_n hC [(0, .int y40)] hnl dJ14_bitCount_40 rfl rfl ?_
  refine j_iload_n hC 0 dJ14_bitCount_41 rfl ?_
  refine j_iload_n hC 0 dJ14_bitCount_42 rfl ?_
  refine j_bipush (v := 16) hC dJ14_bitCount_43 (by decide) ?_
  refine j_iushr hC dJ14_bitCount_45 rfl ?_
  refine j_iadd hC dJ14_bitCount_46 ?_
  refine j_ltT (fun y47 => ?_)
  refine j_istore_n hC [(0, .int y47)] hnl dJ14_bitCount_47 rfl rfl ?_
  refine j_iload_n hC 0 dJ14_bitCount_48 rfl ?_
  refine j_bipush (v := 63) hC dJ14_bitCount_49 (by decide) ?_
  refine j_iand hC dJ14_bitCount_51 ?_
  exact j_iret hC dJ14_bitCount_52
set_option linter.unusedVariables false in
set_option maxRecDepth 100000 in
theorem mJ14_bitCount (l : Launch) (Γ : xG) (hG : True) (fu : Nat) (D : List LDen) (M : Mem) (x0 : Int32) (r : Int32 × Mem) (hr : FJ14_bitCount fu D M x0 = some r) : CN l yJ14_bitCount (ws_ yJ14_bitCount cJ14_bitCount 1 (some .int)) 1 12 Γ D [.int x0] M (foI r.1) r.2 := by
  refine CN.of (own := RJ14) (lv0 := lv_args 0 [.int x0]) (by decide +kernel) rfl (Nat.le_of_ble_eq_true rfl) rfl (fun X e1 e2 e3 e4 hC => ?_) r hr
  subst e1
  subst e2
  exact wJ14_bitCount hC hG e4 fu M x0
