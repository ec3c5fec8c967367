/-! Reader, the court: pure programs and walks (printed by gen/gen.py) -/
set_option maxRecDepth 100000
set_option linter.unusedVariables false in
def FX2_begins (fu : Nat) (D : List LDen) (M : Mem) (x1 : Int32) : Option (Int32 × Mem) :=
  lt (up M (4, 0, 8) 7 x1) (fun M2 => lt (up M2 (4, 0, 8) 8 0) (fun M7 => lt (up M7 (4, 0, 8) 9 0) (fun M12 => some (0, M12))))
set_option linter.unusedVariables false in
def FX2_sign_66 (fu : Nat) (D : List LDen) (M : Mem) (t0 : Int32) : Option (Int32 × Mem) :=
  some (t0, M)
set_option linter.unusedVariables false in
def FX2_sign_38 (fu : Nat) (D : List LDen) (M : Mem) : Option (Int32 × Mem) :=
  if (M (4, 0, 8) 7) ≤ (M (4, 0, 8) 8) then FX2_sign_66 fu D M (-1) else gd (M (4, 0, 8) 8) 400 (FX2_sign_66 fu D M ((M (4, 0, 9) ((M (4, 0, 8) 8).toNatClampNeg)) &&& 255))
set_option linter.unusedVariables false in
def GX2_sign_0 (fu : Nat) (D : List LDen) (kn0 : Mem → Option (Int32 × Mem)) (M : Mem) : Option (Int32 × Mem) :=
  if (M (4, 0, 8) 7) ≤ (M (4, 0, 8) 8) then FX2_sign_38 fu D M else gd (M (4, 0, 8) 8) 400 (if (M (4, 0, 9) ((M (4, 0, 8) 8).toNatClampNeg)) = 32 then lt (up M (4, 0, 8) 8 ((M (4, 0, 8) 8) + 1)) (fun M32 => kn0 (M32)) else FX2_sign_38 fu D M)
set_option linter.unusedVariables false in
def FX2_sign_0 (fu : Nat) (D : List LDen) (M : Mem) : Option (Int32 × Mem) := lp (fun kn z => GX2_sign_0 fu D kn z) fu M
set_option linter.unusedVariables false in
def FX2_sign (fu : Nat) (D : List LDen) (M : Mem) : Option (Int32 × Mem) :=
  FX2_sign_0 fu D M
set_option linter.unusedVariables false in
def FX2_fail (fu : Nat) (D : List LDen) (M : Mem) (x1 : Int32) : Option TR :=
  lt (up M (4, 0, 13) 6 x1) (fun M5 => some (6, 0, M5))
set_option linter.unusedVariables false in
def FX2_more_92 (fu : Nat) (D : List LDen) (M : Mem) (x3 : Int32) : Option TR :=
  some (0, x3 &&& 1, M)
set_option linter.unusedVariables false in
def FX2_more_73 (fu : Nat) (D : List LDen) (M : Mem) (x1 x2 x3 t0 : Int32) : Option TR :=
  if x3 = 0 then FX2_more_92 fu D M x3 else if x1 = x2 then bx (FX2_fail fu D M (M (4, 0, 8) 8)) (fun _ M89 => FX2_more_92 fu D M89 x3) else FX2_more_92 fu D M x3
set_option linter.unusedVariables false in
def FX2_more_61 (fu : Nat) (D : List LDen) (M : Mem) (x1 x2 x3 : Int32) : Option TR :=
  if x3 = 0 then FX2_more_73 fu D M x1 x2 x3 (-1) else bd (FX2_sign fu D M) (fun v66 M66 => FX2_more_73 fu D M66 x1 x2 x3 v66)
set_option linter.unusedVariables false in
def FX2_more_42 (fu : Nat) (D : List LDen) (M : Mem) (x1 x2 t0 : Int32) : Option TR :=
  if t0 = 0 then FX2_more_61 fu D M x1 x2 t0 else if x1 ≤ 0 then FX2_more_61 fu D M x1 x2 t0 else lt (up M (4, 0, 8) 8 ((M (4, 0, 8) 8) + 1)) (fun M58 => FX2_more_61 fu D M58 x1 x2 t0)
set_option linter.unusedVariables false in
def FX2_more_29 (fu : Nat) (D : List LDen) (M : Mem) (x1 x2 : Int32) : Option TR :=
  bd (FX2_sign fu D M) (fun v30 M30 => if v30 = (-1) then FX2_more_42 fu D M30 x1 x2 0 else FX2_more_42 fu D M30 x1 x2 1)
set_option linter.unusedVariables false in
def FX2_more (fu : Nat) (D : List LDen) (M : Mem) (x1 x2 : Int32) : Option TR :=
  if x1 ≤ 0 then FX2_more_29 fu D M x1 x2 else bd (FX2_sign fu D M) (fun v5 M5 => if v5 = (-1) then FX2_more_29 fu D M5 x1 x2 else bd (FX2_sign fu D M5) (fun v13 M13 => if v13 = 59 then FX2_more_29 fu D M13 x1 x2 else bx (FX2_fail fu D M13 (M13 (4, 0, 8) 8)) (fun _ M26 => FX2_more_29 fu D M26 x1 x2)))
set_option linter.unusedVariables false in
def FX2_takes_127 (fu : Nat) (D : List LDen) (q : Nat) (M : Mem) (x4 : Int32) : Option (Int32 × Mem) :=
  some (x4 &&& 1, M)
set_option linter.unusedVariables false in
def FX2_takes_117 (fu : Nat) (D : List LDen) (q : Nat) (M : Mem) (x3 x4 : Int32) : Option (Int32 × Mem) :=
  if x4 = 0 then FX2_takes_127 fu D q M x4 else lt (up M (4, 0, 8) 8 x3) (fun M124 => FX2_takes_127 fu D q M124 x4)
set_option linter.unusedVariables false in
def FX2_takes_109 (fu : Nat) (D : List LDen) (q : Nat) (kn69 : Mem × Int32 × Int32 × Int32 → Option (Int32 × Mem)) (M : Mem) (x3 x5 t0 : Int32) : Option (Int32 × Mem) :=
  lt (x5 + 1) (fun y111 => kn69 (M, x3, t0, y111))
set_option linter.unusedVariables false in
def GX2_takes_69 (fu : Nat) (D : List LDen) (q : Nat) (kn69 : Mem × Int32 × Int32 × Int32 → Option (Int32 × Mem)) (M : Mem) (x3 x4 x5 : Int32) : Option (Int32 × Mem) :=
  bd (FJ3_length q M) (fun v72 M72 => if v72 ≤ x5 then FX2_takes_117 fu D q M72 x3 x4 else if x4 = 0 then FX2_takes_117 fu D q M72 x3 x4 else gd ((M72 (4, 0, 8) 8) + x5) 400 (bd (FJ3_charAt q M72 x5) (fun v98 M98 => if (M72 (4, 0, 9) (((M72 (4, 0, 8) 8) + x5).toNatClampNeg)) = v98 then FX2_takes_109 fu D q kn69 M98 x3 x5 1 else FX2_takes_109 fu D q kn69 M98 x3 x5 0)))
set_option linter.unusedVariables false in
def FX2_takes_69 (fu : Nat) (D : List LDen) (q : Nat) (M : Mem) (x3 x4 x5 : Int32) : Option (Int32 × Mem) := lp (fun kn z => GX2_takes_69 fu D q kn z.1 z.2.1 z.2.2.1 z.2.2.2) fu (M, x3, x4, x5)
set_option linter.unusedVariables false in
def FX2_takes_64 (fu : Nat) (D : List LDen) (q : Nat) (M : Mem) (x3 t0 : Int32) : Option (Int32 × Mem) :=
  FX2_takes_69 fu D q M x3 t0 0
set_option linter.unusedVariables false in
def FX2_takes_46 (fu : Nat) (D : List LDen) (q : Nat) (M : Mem) (x3 : Int32) : Option (Int32 × Mem) :=
  bd (FJ3_length q M) (fun v53 M53 => if (x3 - (M (4, 0, 8) 8)) = v53 then FX2_takes_64 fu D q M53 x3 1 else FX2_takes_64 fu D q M53 x3 0)
set_option linter.unusedVariables false in
def GX2_takes_10 (fu : Nat) (D : List LDen) (q : Nat) (kn10 : Mem × Int32 → Option (Int32 × Mem)) (M : Mem) (x3 : Int32) : Option (Int32 × Mem) :=
  if (M (4, 0, 8) 7) ≤ x3 then FX2_takes_46 fu D q M x3 else gd x3 400 (if (M (4, 0, 9) x3.toNatClampNeg) < 97 then FX2_takes_46 fu D q M x3 else gd x3 400 (if 122 < (M (4, 0, 9) x3.toNatClampNeg) then FX2_takes_46 fu D q M x3 else lt (x3 + 1) (fun y40 => kn10 (M, y40))))
set_option linter.unusedVariables false in
def FX2_takes_10 (fu : Nat) (D : List LDen) (q : Nat) (M : Mem) (x3 : Int32) : Option (Int32 × Mem) := lp (fun kn z => GX2_takes_10 fu D q kn z.1 z.2) fu (M, x3)
set_option linter.unusedVariables false in
def FX2_takes (fu : Nat) (D : List LDen) (q : Nat) (M : Mem) : Option (Int32 × Mem) :=
  bd (FX2_sign fu D M) (fun v1 M1 => lt (M1 (4, 0, 8) 8) (fun y9 => FX2_takes_10 fu D q M1 y9))
set_option linter.unusedVariables false in
def FX2_expect_16 (fu : Nat) (D : List LDen) (q : Nat) (M : Mem) : Option TR :=
  some (0, 0, M)
set_option linter.unusedVariables false in
def FX2_expect (fu : Nat) (D : List LDen) (q : Nat) (M : Mem) : Option TR :=
  bd (FX2_takes fu D q M) (fun v2 M2 => if v2 = 0 then bx (FX2_fail fu D M2 (M2 (4, 0, 8) 8)) (fun _ M13 => FX2_expect_16 fu D q M13) else FX2_expect_16 fu D q M2)
set_option linter.unusedVariables false in
def FX2_here (fu : Nat) (D : List LDen) (M : Mem) : Option (Int32 × Mem) :=
  bd (FX2_sign fu D M) (fun v1 M1 => some (M1 (4, 0, 8) 8, M1))
set_option linter.unusedVariables false in
def FX2_number_120 (fu : Nat) (D : List LDen) (M : Mem) (x4 : Int32) : Option TR :=
  some (0, x4, M)
set_option linter.unusedVariables false in
def FX2_number_115 (fu : Nat) (D : List LDen) (M : Mem) (x3 x4 : Int32) : Option TR :=
  bx (FX2_fail fu D M x3) (fun _ M117 => FX2_number_120 fu D M117 x4)
set_option linter.unusedVariables false in
def FX2_number_95 (fu : Nat) (D : List LDen) (M : Mem) (x1 x2 x3 x4 : Int32) : Option TR :=
  if (M (4, 0, 8) 8) = x3 then FX2_number_115 fu D M x3 x4 else if x4 < x1 then FX2_number_115 fu D M x3 x4 else if x4 ≤ x2 then FX2_number_120 fu D M x4 else FX2_number_115 fu D M x3 x4
set_option linter.unusedVariables false in
def FX2_number_62 (fu : Nat) (D : List LDen) (kn8 : Mem × Int32 × Int32 × Int32 × Int32 → Option TR) (M : Mem) (x1 x2 x3 x4 : Int32) : Option TR :=
  gd (M (4, 0, 8) 8) 400 (lt (((10 * x4) + (M (4, 0, 9) ((M (4, 0, 8) 8).toNatClampNeg))) - 48) (fun y80 => lt (up M (4, 0, 8) 8 ((M (4, 0, 8) 8) + 1)) (fun M89 => kn8 (M89, x1, x2, x3, y80))))
set_option linter.unusedVariables false in
def GX2_number_8 (fu : Nat) (D : List LDen) (kn8 : Mem × Int32 × Int32 × Int32 × Int32 → Option TR) (M : Mem) (x1 x2 x3 x4 : Int32) : Option TR :=
  if (M (4, 0, 8) 7) ≤ (M (4, 0, 8) 8) then FX2_number_95 fu D M x1 x2 x3 x4 else gd (M (4, 0, 8) 8) 400 (if (M (4, 0, 9) ((M (4, 0, 8) 8).toNatClampNeg)) < 48 then FX2_number_95 fu D M x1 x2 x3 x4 else gd (M (4, 0, 8) 8) 400 (if 57 < (M (4, 0, 9) ((M (4, 0, 8) 8).toNatClampNeg)) then FX2_number_95 fu D M x1 x2 x3 x4 else if ((M (4, 0, 8) 8) - x3) = 3 then bx (FX2_fail fu D M x3) (fun _ M59 => FX2_number_62 fu D kn8 M59 x1 x2 x3 x4) else FX2_number_62 fu D kn8 M x1 x2 x3 x4))
set_option linter.unusedVariables false in
def FX2_number_8 (fu : Nat) (D : List LDen) (M : Mem) (x1 x2 x3 x4 : Int32) : Option TR := lp (fun kn z => GX2_number_8 fu D kn z.1 z.2.1 z.2.2.1 z.2.2.2.1 z.2.2.2.2) fu (M, x1, x2, x3, x4)
set_option linter.unusedVariables false in
def FX2_number (fu : Nat) (D : List LDen) (M : Mem) (x1 x2 : Int32) : Option TR :=
  bd (FX2_here fu D M) (fun v1 M1 => FX2_number_8 fu D M1 x1 x2 v1 0)
set_option linter.unusedVariables false in
def FX2_after (fu : Nat) (D : List LDen) (q : Nat) (M : Mem) (x2 x3 : Int32) : Option TR :=
  bx (FX2_expect fu D q M) (fun _ M2 => bx (FX2_number fu D M2 x2 x3) (fun v8 M8 => some (0, v8, M8)))
set_option linter.unusedVariables false in
def FX2_letters_110 (fu : Nat) (D : List LDen) (M : Mem) (x3 : Int32) : Option TR :=
  some (0, x3, M)
set_option linter.unusedVariables false in
def FX2_letters_101 (fu : Nat) (D : List LDen) (M : Mem) (x2 x3 : Int32) : Option TR :=
  if x3 = 0 then bx (FX2_fail fu D M x2) (fun _ M107 => FX2_letters_110 fu D M107 x3) else FX2_letters_110 fu D M x3
set_option linter.unusedVariables false in
def FX2_letters_81 (fu : Nat) (D : List LDen) (kn7 : Mem × Int32 × Int32 × Int32 → Option TR) (M : Mem) (x1 x2 x3 x4 : Int32) : Option TR :=
  lt (x3 ||| (1 <<< (x4 &&& 31))) (fun y87 => lt (up M (4, 0, 8) 8 ((M (4, 0, 8) 8) + 1)) (fun M95 => kn7 (M95, x1, x2, y87)))
set_option linter.unusedVariables false in
def FX2_letters_76 (fu : Nat) (D : List LDen) (kn7 : Mem × Int32 × Int32 × Int32 → Option TR) (M : Mem) (x1 x2 x3 x4 : Int32) : Option TR :=
  bx (FX2_fail fu D M x2) (fun _ M78 => FX2_letters_81 fu D kn7 M78 x1 x2 x3 x4)
set_option linter.unusedVariables false in
def GX2_letters_7 (fu : Nat) (D : List LDen) (kn7 : Mem × Int32 × Int32 × Int32 → Option TR) (M : Mem) (x1 x2 x3 : Int32) : Option TR :=
  if (M (4, 0, 8) 7) ≤ (M (4, 0, 8) 8) then FX2_letters_101 fu D M x2 x3 else gd (M (4, 0, 8) 8) 400 (if (M (4, 0, 9) ((M (4, 0, 8) 8).toNatClampNeg)) < 97 then FX2_letters_101 fu D M x2 x3 else gd (M (4, 0, 8) 8) 400 (if 122 < (M (4, 0, 9) ((M (4, 0, 8) 8).toNatClampNeg)) then FX2_letters_101 fu D M x2 x3 else gd (M (4, 0, 8) 8) 400 (lt ((M (4, 0, 9) ((M (4, 0, 8) 8).toNatClampNeg)) - 97) (fun y58 => if x1 ≤ y58 then FX2_letters_76 fu D kn7 M x1 x2 x3 y58 else if ((x3 >>> (y58 &&& 31)) &&& 1) = 1 then FX2_letters_76 fu D kn7 M x1 x2 x3 y58 else FX2_letters_81 fu D kn7 M x1 x2 x3 y58))))
set_option linter.unusedVariables false in
def FX2_letters_7 (fu : Nat) (D : List LDen) (M : Mem) (x1 x2 x3 : Int32) : Option TR := lp (fun kn z => GX2_letters_7 fu D kn z.1 z.2.1 z.2.2.1 z.2.2.2) fu (M, x1, x2, x3)
set_option linter.unusedVariables false in
def FX2_letters (fu : Nat) (D : List LDen) (M : Mem) (x1 : Int32) : Option TR :=
  bd (FX2_here fu D M) (fun v1 M1 => FX2_letters_7 fu D M1 x1 v1 0)
set_option linter.unusedVariables false in
def GX2_addBird_87 (fu : Nat) (D : List LDen) (kn87 : Mem × Int32 → Option TR) (M : Mem) (x3 : Int32) : Option TR :=
  if 4 ≤ x3 then lt (up M (0, 2, 0) 7 ((M (0, 2, 0) 7) + 1)) (fun M129 => some (0, 0, M129)) else gd ((6 * x3) + (M (0, 2, 0) 7)) 24 (lt (up M (0, 2, 4) (((6 * x3) + (M (0, 2, 0) 7)).toNatClampNeg) 0) (fun M112 => lt (x3 + 1) (fun y113 => kn87 (M112, y113))))
set_option linter.unusedVariables false in
def FX2_addBird_87 (fu : Nat) (D : List LDen) (M : Mem) (x3 : Int32) : Option TR := lp (fun kn z => GX2_addBird_87 fu D kn z.1 z.2) fu (M, x3)
set_option linter.unusedVariables false in
def FX2_addBird_17 (fu : Nat) (D : List LDen) (M : Mem) : Option TR :=
  gd (M (0, 2, 0) 7) 6 (bx (FX2_after fu D 8 M 0 4) (fun v39 M39 => lt (up M39 (1, 2, ((M (0, 2, 0) 7).toNatClampNeg)) 0 v39) (fun M42 => bx (FX2_after fu D 3 M42 0 3) (fun v51 M51 => lt (up M51 (1, 2, ((M (0, 2, 0) 7).toNatClampNeg)) 1 v51) (fun M54 => bx (FX2_expect fu D 9 M54) (fun _ M60 => bx (FX2_letters fu D M60 6) (fun v67 M67 => lt (up M67 (1, 2, ((M (0, 2, 0) 7).toNatClampNeg)) 2 v67) (fun M70 => bx (FX2_after fu D 10 M70 0 5) (fun v79 M79 => lt (up M79 (1, 2, ((M (0, 2, 0) 7).toNatClampNeg)) 3 v79) (fun M82 => FX2_addBird_87 fu D M82 0))))))))))
set_option linter.unusedVariables false in
def FX2_addBird (fu : Nat) (D : List LDen) (M : Mem) (x1 : Int32) : Option TR :=
  if (M (0, 2, 0) 7) = 6 then bx (FX2_fail fu D M x1) (fun _ M14 => FX2_addBird_17 fu D M14) else FX2_addBird_17 fu D M
set_option linter.unusedVariables false in
def FX2_addCounsel_146 (fu : Nat) (D : List LDen) (M : Mem) : Option TR :=
  lt (up M (0, 2, 0) 8 ((M (0, 2, 0) 8) + 1)) (fun M156 => some (0, 0, M156))
set_option linter.unusedVariables false in
def FX2_addCounsel_141 (fu : Nat) (D : List LDen) (M : Mem) (x2 : Int32) : Option TR :=
  bx (FX2_fail fu D M x2) (fun _ M143 => FX2_addCounsel_146 fu D M143)
set_option linter.unusedVariables false in
def FX2_addCounsel_126 (fu : Nat) (D : List LDen) (M : Mem) (x2 x3 : Int32) : Option TR :=
  if x3 = 0 then FX2_addCounsel_141 fu D M x2 else if (M (0, 2, 0) 7) ≤ x3 then FX2_addCounsel_146 fu D M else FX2_addCounsel_141 fu D M x2
set_option linter.unusedVariables false in
def FX2_addCounsel_78 (fu : Nat) (D : List LDen) (kn23 : Mem × Int32 × Int32 → Option TR) (M : Mem) (x2 x3 : Int32) : Option TR :=
  gd (M (4, 0, 8) 8) 400 (gd ((6 * (M (0, 2, 0) 8)) + x3) 24 (lt (up M (0, 2, 4) (((6 * (M (0, 2, 0) 8)) + x3).toNatClampNeg) ((M (4, 0, 9) ((M (4, 0, 8) 8).toNatClampNeg)) - 48)) (fun M109 => lt (x3 + 1) (fun y110 => lt (up M109 (4, 0, 8) 8 ((M109 (4, 0, 8) 8) + 1)) (fun M120 => kn23 (M120, x2, y110))))))
set_option linter.unusedVariables false in
def GX2_addCounsel_23 (fu : Nat) (D : List LDen) (kn23 : Mem × Int32 × Int32 → Option TR) (M : Mem) (x2 x3 : Int32) : Option TR :=
  if (M (4, 0, 8) 7) ≤ (M (4, 0, 8) 8) then FX2_addCounsel_126 fu D M x2 x3 else gd (M (4, 0, 8) 8) 400 (if (M (4, 0, 9) ((M (4, 0, 8) 8).toNatClampNeg)) < 48 then FX2_addCounsel_126 fu D M x2 x3 else gd (M (4, 0, 8) 8) 400 (if 57 < (M (4, 0, 9) ((M (4, 0, 8) 8).toNatClampNeg)) then FX2_addCounsel_126 fu D M x2 x3 else if x3 = (M (0, 2, 0) 7) then bx (FX2_fail fu D M x2) (fun _ M75 => FX2_addCounsel_78 fu D kn23 M75 x2 x3) else FX2_addCounsel_78 fu D kn23 M x2 x3))
set_option linter.unusedVariables false in
def FX2_addCounsel_23 (fu : Nat) (D : List LDen) (M : Mem) (x2 x3 : Int32) : Option TR := lp (fun kn z => GX2_addCounsel_23 fu D kn z.1 z.2.1 z.2.2) fu (M, x2, x3)
set_option linter.unusedVariables false in
def FX2_addCounsel_16 (fu : Nat) (D : List LDen) (M : Mem) : Option TR :=
  bd (FX2_here fu D M) (fun v17 M17 => FX2_addCounsel_23 fu D M17 v17 0)
set_option linter.unusedVariables false in
def FX2_addCounsel (fu : Nat) (D : List LDen) (M : Mem) (x1 : Int32) : Option TR :=
  if (M (0, 2, 0) 8) = 4 then bx (FX2_fail fu D M x1) (fun _ M13 => FX2_addCounsel_16 fu D M13) else FX2_addCounsel_16 fu D M
set_option linter.unusedVariables false in
def FX2_addCase_90 (fu : Nat) (D : List LDen) (n2 : Nat) (M : Mem) : Option TR :=
  bx (FX2_expect fu D 13 M) (fun _ M93 => bx (FX2_letters fu D M93 (M93 (0, 2, 0) 7)) (fun v105 M105 => lt (up M105 (2, 2, n2) 2 v105) (fun M108 => lt (up M108 (2, 2, n2) 3 0) (fun M113 => lt (up M113 (0, 2, 0) 9 ((M113 (0, 2, 0) 9) + 1)) (fun M126 => some (0, 0, M126))))))
set_option linter.unusedVariables false in
def FX2_addCase_17 (fu : Nat) (D : List LDen) (M : Mem) : Option TR :=
  gd (M (0, 2, 0) 9) 12 (bx (FX2_number fu D M 0 ((M (0, 2, 0) 8) - 1)) (fun v45 M45 => lt (up M45 (2, 2, ((M (0, 2, 0) 9).toNatClampNeg)) 0 v45) (fun M48 => bd (FX2_here fu D M48) (fun v52 M52 => bx (FX2_number fu D M52 0 ((M52 (0, 2, 0) 8) - 1)) (fun v68 M68 => lt (up M68 (2, 2, ((M (0, 2, 0) 9).toNatClampNeg)) 1 v68) (fun M71 => if (M71 (2, 2, ((M (0, 2, 0) 9).toNatClampNeg)) 1) = (M71 (2, 2, ((M (0, 2, 0) 9).toNatClampNeg)) 0) then bx (FX2_fail fu D M71 v52) (fun _ M87 => FX2_addCase_90 fu D ((M (0, 2, 0) 9).toNatClampNeg) M87) else FX2_addCase_90 fu D ((M (0, 2, 0) 9).toNatClampNeg) M71))))))
set_option linter.unusedVariables false in
def FX2_addCase (fu : Nat) (D : List LDen) (M : Mem) (x1 : Int32) : Option TR :=
  if (M (0, 2, 0) 9) = 12 then bx (FX2_fail fu D M x1) (fun _ M14 => FX2_addCase_17 fu D M14) else FX2_addCase_17 fu D M
set_option linter.unusedVariables false in
def FX2_line_232 (fu : Nat) (D : List LDen) (M : Mem) : Option TR :=
  some (0, 0, M)
set_option linter.unusedVariables false in
def FX2_line_208 (fu : Nat) (D : List LDen) (M : Mem) (t0 t1 : Int32) : Option TR :=
  gd t1 13 (lt (up M (0, 2, 5) t1.toNatClampNeg t0) (fun M208 => FX2_line_232 fu D M208))
set_option linter.unusedVariables false in
def FX2_line_180 (fu : Nat) (D : List LDen) (M : Mem) (x2 x3 : Int32) : Option TR :=
  bx (FX2_number fu D M 0 3) (fun v183 M183 => if x3 = 0 then FX2_line_208 fu D M183 v183 x2 else FX2_line_208 fu D M183 (-v183) x2)
set_option linter.unusedVariables false in
def FX2_line (fu : Nat) (D : List LDen) (M : Mem) : Option TR :=
  lt (M (4, 0, 8) 8) (fun y4 => bd (FX2_takes fu D 0 M) (fun v8 M8 => if v8 = 0 then bd (FX2_takes fu D 11 M8) (fun v25 M25 => if v25 = 0 then bd (FX2_takes fu D 12 M25) (fun v42 M42 => if v42 = 0 then bd (FX2_takes fu D 14 M42) (fun v59 M59 => if v59 = 0 then bd (FX2_takes fu D 16 M59) (fun v101 M101 => if v101 = 0 then bd (FX2_takes fu D 18 M101) (fun v149 M149 => if v149 = 0 then bx (FX2_expect fu D 4 M149) (fun _ M215 => bx (FX2_number fu D M215 0 23) (fun v226 M226 => lt (up M226 (0, 2, 0) 16 v226) (fun M229 => FX2_line_232 fu D M229))) else bx (FX2_number fu D M149 0 12) (fun v159 M159 => bd (FX2_takes fu D 19 M159) (fun v166 M166 => if v166 = 0 then bx (FX2_expect fu D 20 M166) (fun _ M177 => FX2_line_180 fu D M177 v159 v166) else FX2_line_180 fu D M166 v159 v166))) else bx (FX2_number fu D M101 0 15) (fun v115 M115 => lt (up M115 (0, 2, 0) 14 v115) (fun M118 => bx (FX2_after fu D 17 M118 (M118 (0, 2, 0) 14) 15) (fun v137 M137 => lt (up M137 (0, 2, 0) 15 v137) (fun M140 => FX2_line_232 fu D M140))))) else bx (FX2_number fu D M59 0 15) (fun v73 M73 => lt (up M73 (0, 2, 0) 12 v73) (fun M76 => bx (FX2_after fu D 15 M76 1 12) (fun v89 M89 => lt (up M89 (0, 2, 0) 13 v89) (fun M92 => FX2_line_232 fu D M92))))) else bx (FX2_addCase fu D M42 y4) (fun _ M50 => FX2_line_232 fu D M50)) else bx (FX2_addCounsel fu D M25 y4) (fun _ M33 => FX2_line_232 fu D M33)) else bx (FX2_addBird fu D M8 y4) (fun _ M16 => FX2_line_232 fu D M16)))
set_option linter.unusedVariables false in
def GX2_court_15 (fu : Nat) (D : List LDen) (o : Nat) (kn15 : Mem × Int32 → Option TR) (M : Mem) (x3 : Int32) : Option TR :=
  bx (FX2_more fu D M x3 14) (fun v19 M19 => if v19 = 0 then some (0, 0, M19) else bx (FX2_line fu D M19) (fun _ M26 => lt (x3 + 1) (fun y29 => kn15 (M26, y29))))
set_option linter.unusedVariables false in
def FX2_court_15 (fu : Nat) (D : List LDen) (o : Nat) (M : Mem) (x3 : Int32) : Option TR := lp (fun kn z => GX2_court_15 fu D o kn z.1 z.2) fu (M, x3)
set_option linter.unusedVariables false in
def FX2_court (fu : Nat) (D : List LDen) (o : Nat) (M : Mem) (x1 : Int32) : Option TR :=
  bd (FX2_begins fu D M x1) (fun _ M2 => bd (FX3_be fu D 2 o M2) (fun _ M10 => FX2_court_15 fu D o M10 0))
set_option linter.unusedVariables false in
def FX2_isFigure_22 (fu : Nat) (D : List LDen) (M : Mem) (t0 : Int32) : Option (Int32 × Mem) :=
  some (t0 &&& 1, M)
set_option linter.unusedVariables false in
def FX2_isFigure_21 (fu : Nat) (D : List LDen) (M : Mem) : Option (Int32 × Mem) :=
  FX2_isFigure_22 fu D M 0
set_option linter.unusedVariables false in
def FX2_isFigure (fu : Nat) (D : List LDen) (M : Mem) : Option (Int32 × Mem) :=
  bd (FX2_sign fu D M) (fun v1 M1 => if v1 < 48 then FX2_isFigure_21 fu D M1 else if 57 < v1 then FX2_isFigure_21 fu D M1 else FX2_isFigure_22 fu D M1 1)
set_option linter.unusedVariables false in
set_option maxRecDepth 100000 in
theorem wX2_begins {X : JX} (hC : JC X cX2_begins RX2 none 1 12 0 0) (hG : dmI dmX (XG X)) (hnl : nLof X = 2) (fu : Nat) (M : Mem) (x1 : Int32) : J X (ZN X foV) (FX2_begins fu (XD X) M x1) 0 [(0, .ref (gadr (XG X) (4, 0, 8))), (1, .int x1)] [] M 0 0 := by
  unfold FX2_begins
  refine j_aload_n hC 0 dX2_begins_0 rfl ?_
  refine j_iload_n hC 1 dX2_begins_1 rfl ?_
  refine j_put (fk := 7) (ty := .int) hC (dmY hG rfl) rfl rfl in_X2 rfl rfl q432 tyX2 tyX2_ok nmX2 rfl rfl (by decide +kernel) rfl rfl dX2_begins_2 ?_
  refine j_lt (fun M2 => ?_)
  refine j_aload_n hC 0 dX2_begins_5 rfl ?_
  refine j_iconst (v := 0) hC dX2_begins_6 (by decide) ?_
  refine j_put (fk := 8) (ty := .int) hC (dmY hG rfl) rfl rfl in_X2 rfl rfl q433 tyX2 tyX2_ok nmX2 rfl rfl (by decide +kernel) rfl rfl dX2_begins_7 ?_
  refine j_lt (fun M7 => ?_)
  refine j_aload_n hC 0 dX2_begins_10 rfl ?_
  refine j_iconst (v := 0) hC dX2_begins_11 (by decide) ?_
  refine j_put (fk := 9) (ty := .int) hC (dmY hG rfl) rfl rfl in_X2 rfl rfl q434 tyX2 tyX2_ok nmX2 rfl rfl (by decide +kernel) rfl rfl dX2_begins_12 ?_
  refine j_lt (fun M12 => ?_)
  exact j_vret hC dX2_begins_15
set_option linter.unusedVariables false in
set_option maxRecDepth 100000 in
theorem mX2_begins (l : Launch) (Γ : xG) (hG : dmI dmX Γ) (fu : Nat) (D : List LDen) (M : Mem) (x1 : Int32) (r : Int32 × Mem) (hr : FX2_begins fu D M x1 = some r) : CN l yX2_begins (ws_ yX2_begins cX2_begins 2 none) 1 12 Γ D [.ref (gadr Γ (4, 0, 8)), .int x1] M (foV r.1) r.2 := by
  refine CN.of (own := RX2) (lv0 := lv_args 0 [.ref (gadr Γ (4, 0, 8)), .int x1]) (by decide +kernel) rfl (Nat.le_of_ble_eq_true rfl) rfl (fun X e1 e2 e3 e4 hC => ?_) r hr
  subst e1
  subst e2
  exact wX2_begins hC hG e4 fu M x1
set_option linter.unusedVariables false in
set_option maxRecDepth 100000 in
theorem wX2_sign_66 {X : JX} (hC : JC X cX2_sign RX2 (some .int) 1 12 0 0) (hG : dmI dmX (XG X)) (hnl : nLof X = 1) (fu : Nat) (M : Mem) (t0 : Int32) : J X (ZN X foI) (FX2_sign_66 fu (XD X) M t0) 66 [] [.int t0] M 0 0 := by
  unfold FX2_sign_66
  exact j_iret hC dX2_sign_66
set_option linter.unusedVariables false in
set_option maxRecDepth 100000 in
theorem wX2_sign_38 {X : JX} (hC : JC X cX2_sign RX2 (some .int) 1 12 0 0) (hG : dmI dmX (XG X)) (hnl : nLof X = 1) (fu : Nat) (M : Mem) : J X (ZN X foI) (FX2_sign_38 fu (XD X) M) 38 [(0, .ref (gadr (XG X) (4, 0, 8)))] [] M 0 0 := by
  unfold FX2_sign_38
  refine j_aload_n hC 0 dX2_sign_38 rfl ?_
  refine j_getI (fk := 8) hC (dmY hG rfl) rfl rfl in_X2 rfl rfl q433 rfl dX2_sign_39 ?_
  refine j_aload_n hC 0 dX2_sign_42 rfl ?_
  refine j_getI (fk := 7) hC (dmY hG rfl) rfl rfl in_X2 rfl rfl q432 rfl dX2_sign_43 ?_
  refine j_icmp_ge (tgt := 65) hC dX2_sign_46 (by decide) (fun h46 => ?_) (fun h46 => ?_)
  · refine j_iconst (v := (-1)) hC dX2_sign_65 (by decide) ?_
    exact j_sub [] rfl (wX2_sign_66 hC hG hnl fu M (-1))
  · refine j_aload_n hC 0 dX2_sign_49 rfl ?_
    refine j_getR (fk := 0) hC (dmY hG rfl) rfl rfl in_X2 rfl rfl q423 rfl dX2_sign_50 ?_
    refine j_aload_n hC 0 dX2_sign_53 rfl ?_
    refine j_getI (fk := 8) hC (dmY hG rfl) rfl rfl in_X2 rfl rfl q433 rfl dX2_sign_54 ?_
    refine j_bald hC (dmY hG rfl) rfl dX2_sign_57 (fun h57 => ?_)
    refine j_sipush (v := 255) hC dX2_sign_58 (by decide) ?_
    refine j_iand hC dX2_sign_61 ?_
    refine j_goto (tgt := 66) hC dX2_sign_62 (by decide) ?_
    exact j_sub [] rfl (wX2_sign_66 hC hG hnl fu M ((M (4, 0, 9) ((M (4, 0, 8) 8).toNatClampNeg)) &&& 255))
set_option linter.unusedVariables false in
set_option maxRecDepth 100000 in
theorem wgX2_sign_0 {X : JX} (hC : JC X cX2_sign RX2 (some .int) 1 12 0 0) (hG : dmI dmX (XG X)) (hnl : nLof X = 1) (fu : Nat) (kn0 : Mem → Option (Int32 × Mem)) (hk0 : ∀ (M : Mem), J X (ZN X foI) (kn0 M) 0 [(0, .ref (gadr (XG X) (4, 0, 8)))] [] M 0 0) (M : Mem) : J X (ZN X foI) (GX2_sign_0 fu (XD X) kn0 M) 0 [(0, .ref (gadr (XG X) (4, 0, 8)))] [] M 0 0 := by
  unfold GX2_sign_0
  refine j_aload_n hC 0 dX2_sign_0 rfl ?_
  refine j_getI (fk := 8) hC (dmY hG rfl) rfl rfl in_X2 rfl rfl q433 rfl dX2_sign_1 ?_
  refine j_aload_n hC 0 dX2_sign_4 rfl ?_
  refine j_getI (fk := 7) hC (dmY hG rfl) rfl rfl in_X2 rfl rfl q432 rfl dX2_sign_5 ?_
  refine j_icmp_ge (tgt := 38) hC dX2_sign_8 (by decide) (fun h8 => ?_) (fun h8 => ?_)
  · exact j_sub [0] rfl (wX2_sign_38 hC hG hnl fu M)
  · refine j_aload_n hC 0 dX2_sign_11 rfl ?_
    refine j_getR (fk := 0) hC (dmY hG rfl) rfl rfl in_X2 rfl rfl q423 rfl dX2_sign_12 ?_
    refine j_aload_n hC 0 dX2_sign_15 rfl ?_
    refine j_getI (fk := 8) hC (dmY hG rfl) rfl rfl in_X2 rfl rfl q433 rfl dX2_sign_16 ?_
    refine j_bald hC (dmY hG rfl) rfl dX2_sign_19 (fun h19 => ?_)
    refine j_bipush (v := 32) hC dX2_sign_20 (by decide) ?_
    refine j_icmp_ne (tgt := 38) hC dX2_sign_22 (by decide) (fun h22 => ?_) (fun h22 => ?_)
    · refine j_aload_n hC 0 dX2_sign_25 rfl ?_
      refine j_dup hC dX2_sign_26 rfl ?_
      refine j_getI (fk := 8) hC (dmY hG rfl) rfl rfl in_X2 rfl rfl q433 rfl dX2_sign_27 ?_
      refine j_iconst (v := 1) hC dX2_sign_30 (by decide) ?_
      refine j_iadd hC dX2_sign_31 ?_
      refine j_put (fk := 8) (ty := .int) hC (dmY hG rfl) rfl rfl in_X2 rfl rfl q433 tyX2 tyX2_ok nmX2 rfl rfl (by decide +kernel) rfl rfl dX2_sign_32 ?_
      refine j_lt (fun M32 => ?_)
      refine j_goto (tgt := 0) hC dX2_sign_35 (by decide) ?_
      exact j_sub [0] rfl (hk0 M32)
    · exact j_sub [0] rfl (wX2_sign_38 hC hG hnl fu M)
set_option linter.unusedVariables false in
set_option maxRecDepth 100000 in
theorem wX2_sign_0 {X : JX} (hC : JC X cX2_sign RX2 (some .int) 1 12 0 0) (hG : dmI dmX (XG X)) (hnl : nLof X = 1) (fu : Nat) (M : Mem) : J X (ZN X foI) (FX2_sign_0 fu (XD X) M) 0 [(0, .ref (gadr (XG X) (4, 0, 8)))] [] M 0 0 := by
  exact j_lp (lvf := fun z => [(0, .ref (gadr (XG X) (4, 0, 8)))]) (Mf := fun z => z) (fun kn hk z => wgX2_sign_0 hC hG hnl fu kn (fun M => hk M) z) fu M
set_option linter.unusedVariables false in
set_option maxRecDepth 100000 in
theorem wX2_sign {X : JX} (hC : JC X cX2_sign RX2 (some .int) 1 12 0 0) (hG : dmI dmX (XG X)) (hnl : nLof X = 1) (fu : Nat) (M : Mem) : J X (ZN X foI) (FX2_sign fu (XD X) M) 0 [(0, .ref (gadr (XG X) (4, 0, 8)))] [] M 0 0 := by
  unfold FX2_sign
  exact j_sub [0] rfl (wX2_sign_0 hC hG hnl fu M)
set_option linter.unusedVariables false in
set_option maxRecDepth 100000 in
theorem mX2_sign (l : Launch) (Γ : xG) (hG : dmI dmX Γ) (fu : Nat) (D : List LDen) (M : Mem) (r : Int32 × Mem) (hr : FX2_sign fu D M = some r) : CN l yX2_sign (ws_ yX2_sign cX2_sign 1 (some .int)) 1 12 Γ D [.ref (gadr Γ (4, 0, 8))] M (foI r.1) r.2 := by
  refine CN.of (own := RX2) (lv0 := lv_args 0 [.ref (gadr Γ (4, 0, 8))]) (by decide +kernel) rfl (Nat.le_of_ble_eq_true rfl) rfl (fun X e1 e2 e3 e4 hC => ?_) r hr
  subst e1
  subst e2
  exact wX2_sign hC hG e4 fu M
set_option linter.unusedVariables false in
set_option maxRecDepth 100000 in
theorem wX2_fail {X : JX} (hC : JC X cX2_fail RX2 none 1 12 0 0) (hT : JT X) (hG : dmI dmX (XG X)) (hnl : nLof X = 2) (fu : Nat) (M : Mem) (x1 : Int32) : J X (ZT X foV 0 0) (FX2_fail fu (XD X) M x1) 0 [(0, .ref (gadr (XG X) (4, 0, 8))), (1, .int x1)] [] M 0 0 := by
  unfold FX2_fail
  refine j_aload_n hC 0 dX2_fail_0 rfl ?_
  refine j_getR (fk := 5) hC (dmY hG rfl) rfl rfl in_X2 rfl rfl q430 rfl dX2_fail_1 ?_
  refine j_iload_n hC 1 dX2_fail_4 rfl ?_
  refine j_putN (fk := 6) (ty := .int) hC (dmY hG rfl) rfl rfl in_X6 rfl rfl q406 tyX6 tyX6_ok nmX6 rfl rfl (by decide +kernel) rfl rfl dX2_fail_5 ?_
  refine j_lt (fun M5 => ?_)
  refine j_aload_n hC 0 dX2_fail_8 rfl ?_
  refine j_getR (fk := 5) hC (dmY hG rfl) rfl rfl in_X2 rfl rfl q430 rfl dX2_fail_9 ?_
  exact j_athrowW hC hT hG rfl rfl dX2_fail_12
set_option linter.unusedVariables false in
set_option maxRecDepth 100000 in
theorem mX2_fail (l : Launch) (hst : l.stackTraces = false) (Γ : xG) (hG : dmI dmX Γ) (fu : Nat) (D : List LDen) (M : Mem) (x1 : Int32) (r : TR) (hr : FX2_fail fu D M x1 = some r) : CT l yX2_fail (ws_ yX2_fail cX2_fail 2 none) 1 12 0 0 Γ D [.ref (gadr Γ (4, 0, 8)), .int x1] M foV r := by
  refine CT.of hst (own := RX2) (lv0 := lv_args 0 [.ref (gadr Γ (4, 0, 8)), .int x1]) (by decide +kernel) rfl (Nat.le_of_ble_eq_true rfl) rfl (fun X e1 e2 e3 e4 hC hT => ?_) r hr
  subst e1
  subst e2
  exact wX2_fail hC hT hG e4 fu M x1
set_option linter.unusedVariables false in
set_option maxRecDepth 100000 in
theorem wX2_more_92 {X : JX} (hC : JC X cX2_more RX2 (some .boolean) 2 33 0 0) (hT : JT X) (hG : dmI dmX (XG X)) (hnl : nLof X = 5) (fu : Nat) (M : Mem) (x3 : Int32) : J X (ZT X foI 0 0) (FX2_more_92 fu (XD X) M x3) 92 [(3, .int x3)] [] M 0 0 := by
  unfold FX2_more_92
  refine j_iload_n hC 0 dX2_more_92 rfl ?_
  exact j_zretT hC rfl rfl rfl dX2_more_93
set_option linter.unusedVariables false in
set_option maxRecDepth 100000 in
theorem wX2_more_73 {X : JX} (hC : JC X cX2_more RX2 (some .boolean) 2 33 0 0) (hT : JT X) (hG : dmI dmX (XG X)) (hnl : nLof X = 5) (fu : Nat) (M : Mem) (x1 x2 x3 t0 : Int32) : J X (ZT X foI 0 0) (FX2_more_73 fu (XD X) M x1 x2 x3 t0) 73 [(0, .ref (gadr (XG X) (4, 0, 8))), (1, .int x1), (2, .int x2), (3, .int x3)] [.int t0] M 0 0 := by
  unfold FX2_more_73
  refine j_istore hC [(4, .int t0), (0, .ref (gadr (XG X) (4, 0, 8))), (1, .int x1), (2, .int x2), (3, .int x3)] hnl dX2_more_73 rfl rfl ?_
  refine j_iload_n hC 4 dX2_more_75 rfl ?_
  refine j_if_eq (tgt := 92) hC dX2_more_76 (by decide) (fun h76 => ?_) (fun h76 => ?_)
  · exact j_sub [4] rfl (wX2_more_92 hC hT hG hnl fu M x3)
  · refine j_iload_n hC 2 dX2_more_79 rfl ?_
    refine j_iload_n hC 3 dX2_more_80 rfl ?_
    refine j_icmp_ne (tgt := 92) hC dX2_more_81 (by decide) (fun h81 => ?_) (fun h81 => ?_)
    · refine j_aload_n hC 1 dX2_more_84 rfl ?_
      refine j_aload_n hC 1 dX2_more_85 rfl ?_
      refine j_getI (fk := 8) hC (dmY hG rfl) rfl rfl in_X2 rfl rfl q433 rfl dX2_more_86 ?_
      refine j_callVT (nA := 1) (rest := []) hC hT [.int (M (4, 0, 8) 8)] rfl (fun r hr => mX2_fail (XL X) (JT.st hT) (XG X) hG fu (XD X) M (M (4, 0, 8) 8) r hr) q763 q765 qs12 q127 q766 (dmY hG rfl) rfl rfl (by decide +kernel) rfl rfl rfl rfl rfl rfl dX2_more_89 (fun _ => []) (fun _ => rfl) (fun v89 M89 => ?_)
      exact j_sub [4] rfl (wX2_more_92 hC hT hG hnl fu M89 x3)
    · exact j_sub [4] rfl (wX2_more_92 hC hT hG hnl fu M x3)
set_option linter.unusedVariables false in
set_option maxRecDepth 100000 in
theorem wX2_more_61 {X : JX} (hC : JC X cX2_more RX2 (some .boolean) 2 33 0 0) (hT : JT X) (hG : dmI dmX (XG X)) (hnl : nLof X = 5) (fu : Nat) (M : Mem) (x1 x2 x3 : Int32) : J X (ZT X foI 0 0) (FX2_more_61 fu (XD X) M x1 x2 x3) 61 [(0, .ref (gadr (XG X) (4, 0, 8))), (1, .int x1), (2, .int x2), (3, .int x3)] [] M 0 0 := by
  unfold FX2_more_61
  refine j_iload_n hC 3 dX2_more_61 rfl ?_
  refine j_if_eq (tgt := 72) hC dX2_more_62 (by decide) (fun h62 => ?_) (fun h62 => ?_)
  · refine j_iconst (v := (-1)) hC dX2_more_72 (by decide) ?_
    exact j_sub [0, 1, 2, 3] rfl (wX2_more_73 hC hT hG hnl fu M x1 x2 x3 (-1))
  · refine j_aload_n hC 0 dX2_more_65 rfl ?_
    refine j_callV (nA := 0) (rest := []) hC [] rfl (fun r hr => mX2_sign (XL X) (XG X) hG fu (XD X) M r hr) q759 q761 qs11 q127 q762 (dmY hG rfl) rfl rfl (by decide +kernel) rfl rfl rfl rfl rfl rfl dX2_more_66 (fun v66 => [.int v66]) (fun _ => rfl) (fun v66 M66 => ?_)
    refine j_goto (tgt := 73) hC dX2_more_69 (by decide) ?_
    exact j_sub [0, 1, 2, 3] rfl (wX2_more_73 hC hT hG hnl fu M66 x1 x2 x3 v66)
set_option linter.unusedVariables false in
set_option maxRecDepth 100000 in
theorem wX2_more_42 {X : JX} (hC : JC X cX2_more RX2 (some .boolean) 2 33 0 0) (hT : JT X) (hG : dmI dmX (XG X)) (hnl : nLof X = 5) (fu : Nat) (M : Mem) (x1 x2 t0 : Int32) : J X (ZT X foI 0 0) (FX2_more_42 fu (XD X) M x1 x2 t0) 42 [(0, .ref (gadr (XG X) (4, 0, 8))), (1, .int x1), (2, .int x2)] [.int t0] M 0 0 := by
  unfold FX2_more_42
  refine j_istore_n hC [(3, .int t0), (0, .ref (gadr (XG X) (4, 0, 8))), (1, .int x1), (2, .int x2)] hnl dX2_more_42 rfl rfl ?_
  refine j_iload_n hC 0 dX2_more_43 rfl ?_
  refine j_if_eq (tgt := 61) hC dX2_more_44 (by decide) (fun h44 => ?_) (fun h44 => ?_)
  · exact j_sub [1, 2, 3, 0] rfl (wX2_more_61 hC hT hG hnl fu M x1 x2 t0)
  · refine j_iload_n hC 2 dX2_more_47 rfl ?_
    refine j_if_le (tgt := 61) hC dX2_more_48 (by decide) (fun h48 => ?_) (fun h48 => ?_)
    · exact j_sub [1, 2, 3, 0] rfl (wX2_more_61 hC hT hG hnl fu M x1 x2 t0)
    · refine j_aload_n hC 1 dX2_more_51 rfl ?_
      refine j_dup hC dX2_more_52 rfl ?_
      refine j_getI (fk := 8) hC (dmY hG rfl) rfl rfl in_X2 rfl rfl q433 rfl dX2_more_53 ?_
      refine j_iconst (v := 1) hC dX2_more_56 (by decide) ?_
      refine j_iadd hC dX2_more_57 ?_
      refine j_put (fk := 8) (ty := .int) hC (dmY hG rfl) rfl rfl in_X2 rfl rfl q433 tyX2 tyX2_ok nmX2 rfl rfl (by decide +kernel) rfl rfl dX2_more_58 ?_
      refine j_lt (fun M58 => ?_)
      exact j_sub [1, 2, 3, 0] rfl (wX2_more_61 hC hT hG hnl fu M58 x1 x2 t0)
set_option linter.unusedVariables false in
set_option maxRecDepth 100000 in
theorem wX2_more_29 {X : JX} (hC : JC X cX2_more RX2 (some .boolean) 2 33 0 0) (hT : JT X) (hG : dmI dmX (XG X)) (hnl : nLof X = 5) (fu : Nat) (M : Mem) (x1 x2 : Int32) : J X (ZT X foI 0 0) (FX2_more_29 fu (XD X) M x1 x2) 29 [(0, .ref (gadr (XG X) (4, 0, 8))), (1, .int x1), (2, .int x2)] [] M 0 0 := by
  unfold FX2_more_29
  refine j_aload_n hC 0 dX2_more_29 rfl ?_
  refine j_callV (nA := 0) (rest := []) hC [] rfl (fun r hr => mX2_sign (XL X) (XG X) hG fu (XD X) M r hr) q759 q761 qs11 q127 q762 (dmY hG rfl) rfl rfl (by decide +kernel) rfl rfl rfl rfl rfl rfl dX2_more_30 (fun v30 => [.int v30]) (fun _ => rfl) (fun v30 M30 => ?_)
  refine j_iconst (v := (-1)) hC dX2_more_33 (by decide) ?_
  refine j_icmp_eq (tgt := 41) hC dX2_more_34 (by decide) (fun h34 => ?_) (fun h34 => ?_)
  · refine j_iconst (v := 0) hC dX2_more_41 (by decide) ?_
    exact j_sub [0, 1, 2] rfl (wX2_more_42 hC hT hG hnl fu M30 x1 x2 0)
  · refine j_iconst (v := 1) hC dX2_more_37 (by decide) ?_
    refine j_goto (tgt := 42) hC dX2_more_38 (by decide) ?_
    exact j_sub [0, 1, 2] rfl (wX2_more_42 hC hT hG hnl fu M30 x1 x2 1)
set_option linter.unusedVariables false in
set_option maxRecDepth 100000 in
theorem wX2_more {X : JX} (hC : JC X cX2_more RX2 (some .boolean) 2 33 0 0) (hT : JT X) (hG : dmI dmX (XG X)) (hnl : nLof X = 5) (fu : Nat) (M : Mem) (x1 x2 : Int32) : J X (ZT X foI 0 0) (FX2_more fu (XD X) M x1 x2) 0 [(0, .ref (gadr (XG X) (4, 0, 8))), (1, .int x1), (2, .int x2)] [] M 0 0 := by
  unfold FX2_more
  refine j_iload_n hC 1 dX2_more_0 rfl ?_
  refine j_if_le (tgt := 29) hC dX2_more_1 (by decide) (fun h1 => ?_) (fun h1 => ?_)
  · exact j_sub [0, 1, 2] rfl (wX2_more_29 hC hT hG hnl fu M x1 x2)
  · refine j_aload_n hC 0 dX2_more_4 rfl ?_
    refine j_callV (nA := 0) (rest := []) hC [] rfl (fun r hr => mX2_sign (XL X) (XG X) hG fu (XD X) M r hr) q759 q761 qs11 q127 q762 (dmY hG rfl) rfl rfl (by decide +kernel) rfl rfl rfl rfl rfl rfl dX2_more_5 (fun v5 => [.int v5]) (fun _ => rfl) (fun v5 M5 => ?_)
    refine j_iconst (v := (-1)) hC dX2_more_8 (by decide) ?_
    refine j_icmp_eq (tgt := 29) hC dX2_more_9 (by decide) (fun h9 => ?_) (fun h9 => ?_)
    · exact j_sub [0, 1, 2] rfl (wX2_more_29 hC hT hG hnl fu M5 x1 x2)
    · refine j_aload_n hC 0 dX2_more_12 rfl ?_
      refine j_callV (nA := 0) (rest := []) hC [] rfl (fun r hr => mX2_sign (XL X) (XG X) hG fu (XD X) M5 r hr) q759 q761 qs11 q127 q762 (dmY hG rfl) rfl rfl (by decide +kernel) rfl rfl rfl rfl rfl rfl dX2_more_13 (fun v13 => [.int v13]) (fun _ => rfl) (fun v13 M13 => ?_)
      refine j_bipush (v := 59) hC dX2_more_16 (by decide) ?_
      refine j_icmp_eq (tgt := 29) hC dX2_more_18 (by decide) (fun h18 => ?_) (fun h18 => ?_)
      · exact j_sub [0, 1, 2] rfl (wX2_more_29 hC hT hG hnl fu M13 x1 x2)
      · refine j_aload_n hC 0 dX2_more_21 rfl ?_
        refine j_aload_n hC 0 dX2_more_22 rfl ?_
        refine j_getI (fk := 8) hC (dmY hG rfl) rfl rfl in_X2 rfl rfl q433 rfl dX2_more_23 ?_
        refine j_callVT (nA := 1) (rest := []) hC hT [.int (M13 (4, 0, 8) 8)] rfl (fun r hr => mX2_fail (XL X) (JT.st hT) (XG X) hG fu (XD X) M13 (M13 (4, 0, 8) 8) r hr) q763 q765 qs12 q127 q766 (dmY hG rfl) rfl rfl (by decide +kernel) rfl rfl rfl rfl rfl rfl dX2_more_26 (fun _ => []) (fun _ => rfl) (fun v26 M26 => ?_)
        exact j_sub [0, 1, 2] rfl (wX2_more_29 hC hT hG hnl fu M26 x1 x2)
set_option linter.unusedVariables false in
set_option maxRecDepth 100000 in
theorem mX2_more (l : Launch) (hst : l.stackTraces = false) (Γ : xG) (hG : dmI dmX Γ) (fu : Nat) (D : List LDen) (M : Mem) (x1 x2 : Int32) (r : TR) (hr : FX2_more fu D M x1 x2 = some r) : CT l yX2_more (ws_ yX2_more cX2_more 5 (some .boolean)) 2 33 0 0 Γ D [.ref (gadr Γ (4, 0, 8)), .int x1, .int x2] M foI r := by
  refine CT.of hst (own := RX2) (lv0 := lv_args 0 [.ref (gadr Γ (4, 0, 8)), .int x1, .int x2]) (by decide +kernel) rfl (Nat.le_of_ble_eq_true rfl) rfl (fun X e1 e2 e3 e4 hC hT => ?_) r hr
  subst e1
  subst e2
  exact wX2_more hC hT hG e4 fu M x1 x2
set_option linter.unusedVariables false in
set_option maxRecDepth 100000 in
theorem wX2_takes_127 {X : JX} (hC : JC X cX2_takes RX2 (some .boolean) 5 141 0 0) (hG : dmI dmX (XG X)) (hnl : nLof X = 6) (fu : Nat) (q : Nat) (hq : q < 27) (M : Mem) (x4 : Int32) : J X (ZN X foI) (FX2_takes_127 fu (XD X) q M x4) 127 [(4, .int x4)] [] M 0 0 := by
  unfold FX2_takes_127
  refine j_iload hC 0 dX2_takes_127 rfl ?_
  exact j_zret hC rfl dX2_takes_129
set_option linter.unusedVariables false in
set_option maxRecDepth 100000 in
theorem wX2_takes_117 {X : JX} (hC : JC X cX2_takes RX2 (some .boolean) 5 141 0 0) (hG : dmI dmX (XG X)) (hnl : nLof X = 6) (fu : Nat) (q : Nat) (hq : q < 27) (M : Mem) (x3 x4 : Int32) : J X (ZN X foI) (FX2_takes_117 fu (XD X) q M x3 x4) 117 [(0, .ref (gadr (XG X) (4, 0, 8))), (3, .int x3), (4, .int x4)] [] M 0 0 := by
  unfold FX2_takes_117
  refine j_iload hC 2 dX2_takes_117 rfl ?_
  refine j_if_eq (tgt := 127) hC dX2_takes_119 (by decide) (fun h119 => ?_) (fun h119 => ?_)
  · exact j_sub [2] rfl (wX2_takes_127 hC hG hnl fu q hq M x4)
  · refine j_aload_n hC 0 dX2_takes_122 rfl ?_
    refine j_iload_n hC 1 dX2_takes_123 rfl ?_
    refine j_put (fk := 8) (ty := .int) hC (dmY hG rfl) rfl rfl in_X2 rfl rfl q433 tyX2 tyX2_ok nmX2 rfl rfl (by decide +kernel) rfl rfl dX2_takes_124 ?_
    refine j_lt (fun M124 => ?_)
    exact j_sub [2] rfl (wX2_takes_127 hC hG hnl fu q hq M124 x4)
set_option linter.unusedVariables false in
set_option maxRecDepth 100000 in
theorem wX2_takes_109 {X : JX} (hC : JC X cX2_takes RX2 (some .boolean) 5 141 0 0) (hG : dmI dmX (XG X)) (hnl : nLof X = 6) (fu : Nat) (q : Nat) (hq : q < 27) (kn69 : Mem × Int32 × Int32 × Int32 → Option (Int32 × Mem)) (hk69 : ∀ (M : Mem) (x3 x4 x5 : Int32), J X (ZN X foI) (kn69 (M, x3, x4, x5)) 69 [(0, .ref (gadr (XG X) (4, 0, 8))), (1, .ref (gadr (XG X) (6, 0, q))), (3, .int x3), (4, .int x4), (5, .int x5)] [] M 0 0) (M : Mem) (x3 x5 t0 : Int32) : J X (ZN X foI) (FX2_takes_109 fu (XD X) q kn69 M x3 x5 t0) 109 [(0, .ref (gadr (XG X) (4, 0, 8))), (1, .ref (gadr (XG X) (6, 0, q))), (3, .int x3), (5, .int x5)] [.int t0] M 0 0 := by
  unfold FX2_takes_109
  refine j_istore hC [(4, .int t0), (0, .ref (gadr (XG X) (4, 0, 8))), (1, .ref (gadr (XG X) (6, 0, q))), (3, .int x3), (5, .int x5)] hnl dX2_takes_109 rfl rfl ?_
  refine j_iincL hC 4 (fun y111 => [(5, .int y111), (4, .int t0), (0, .ref (gadr (XG X) (4, 0, 8))), (1, .ref (gadr (XG X) (6, 0, q))), (3, .int x3)]) hnl dX2_takes_111 rfl (by decide) rfl (fun _ => rfl) (fun y111 => ?_)
  refine j_goto (tgt := 69) hC dX2_takes_114 (by decide) ?_
  exact j_sub [2, 3, 4, 1, 0] rfl (hk69 M x3 t0 y111)
set_option linter.unusedVariables false in
set_option maxRecDepth 100000 in
theorem wgX2_takes_69 {X : JX} (hC : JC X cX2_takes RX2 (some .boolean) 5 141 0 0) (hG : dmI dmX (XG X)) (hnl : nLof X = 6) (fu : Nat) (q : Nat) (hq : q < 27) (kn69 : Mem × Int32 × Int32 × Int32 → Option (Int32 × Mem)) (hk69 : ∀ (M : Mem) (x3 x4 x5 : Int32), J X (ZN X foI) (kn69 (M, x3, x4, x5)) 69 [(0, .ref (gadr (XG X) (4, 0, 8))), (1, .ref (gadr (XG X) (6, 0, q))), (3, .int x3), (4, .int x4), (5, .int x5)] [] M 0 0) (M : Mem) (x3 x4 x5 : Int32) : J X (ZN X foI) (GX2_takes_69 fu (XD X) q kn69 M x3 x4 x5) 69 [(0, .ref (gadr (XG X) (4, 0, 8))), (1, .ref (gadr (XG X) (6, 0, q))), (3, .int x3), (4, .int x4), (5, .int x5)] [] M 0 0 := by
  unfold GX2_takes_69
  refine j_iload hC 4 dX2_takes_69 rfl ?_
  refine j_aload_n hC 1 dX2_takes_71 rfl ?_
  refine j_callStr (nA := 0) hq (rest := [.int x5]) hC [] rfl (fun r hr => mJ3_length (XL X) (XG X) (XD X) q hq M r hr) q775 q776 q777 q138 q778 (by decide +kernel) rfl rfl rfl rfl rfl rfl dX2_takes_72 (fun v72 => [.int v72, .int x5]) (fun _ => rfl) (fun v72 M72 => ?_)
  refine j_icmp_ge (tgt := 117) hC dX2_takes_75 (by decide) (fun h75 => ?_) (fun h75 => ?_)
  · exact j_sub [0, 2, 3] rfl (wX2_takes_117 hC hG hnl fu q hq M72 x3 x4)
  · refine j_iload hC 3 dX2_takes_78 rfl ?_
    refine j_if_eq (tgt := 117) hC dX2_takes_80 (by decide) (fun h80 => ?_) (fun h80 => ?_)
    · exact j_sub [0, 2, 3] rfl (wX2_takes_117 hC hG hnl fu q hq M72 x3 x4)
    · refine j_aload_n hC 0 dX2_takes_83 rfl ?_
      refine j_getR (fk := 0) hC (dmY hG rfl) rfl rfl in_X2 rfl rfl q423 rfl dX2_takes_84 ?_
      refine j_aload_n hC 0 dX2_takes_87 rfl ?_
      refine j_getI (fk := 8) hC (dmY hG rfl) rfl rfl in_X2 rfl rfl q433 rfl dX2_takes_88 ?_
      refine j_iload hC 4 dX2_takes_91 rfl ?_
      refine j_iadd hC dX2_takes_93 ?_
      refine j_bald hC (dmY hG rfl) rfl dX2_takes_94 (fun h94 => ?_)
      refine j_aload_n hC 1 dX2_takes_95 rfl ?_
      refine j_iload hC 4 dX2_takes_96 rfl ?_
      refine j_callStr (nA := 1) hq (rest := [.int (M72 (4, 0, 9) (((M72 (4, 0, 8) 8) + x5).toNatClampNeg))]) hC [.int x5] rfl (fun r hr => mJ3_charAt (XL X) (XG X) (XD X) q hq M72 x5 r hr) q785 q786 q787 q138 q788 (by decide +kernel) rfl rfl rfl rfl rfl rfl dX2_takes_98 (fun v98 => [.int v98, .int (M72 (4, 0, 9) (((M72 (4, 0, 8) 8) + x5).toNatClampNeg))]) (fun _ => rfl) (fun v98 M98 => ?_)
      refine j_icmp_ne (tgt := 108) hC dX2_takes_101 (by decide) (fun h101 => ?_) (fun h101 => ?_)
      · refine j_iconst (v := 1) hC dX2_takes_104 (by decide) ?_
        refine j_goto (tgt := 109) hC dX2_takes_105 (by decide) ?_
        exact j_sub [0, 1, 2, 4] rfl (wX2_takes_109 hC hG hnl fu q hq kn69 hk69 M98 x3 x5 1)
      · refine j_iconst (v := 0) hC dX2_takes_108 (by decide) ?_
        exact j_sub [0, 1, 2, 4] rfl (wX2_takes_109 hC hG hnl fu q hq kn69 hk69 M98 x3 x5 0)
set_option linter.unusedVariables false in
set_option maxRecDepth 100000 in
theorem wX2_takes_69 {X : JX} (hC : JC X cX2_takes RX2 (some .boolean) 5 141 0 0) (hG : dmI dmX (XG X)) (hnl : nLof X = 6) (fu : Nat) (q : Nat) (hq : q < 27) (M : Mem) (x3 x4 x5 : Int32) : J X (ZN X foI) (FX2_takes_69 fu (XD X) q M x3 x4 x5) 69 [(0, .ref (gadr (XG X) (4, 0, 8))), (1, .ref (gadr (XG X) (6, 0, q))), (3, .int x3), (4, .int x4), (5, .int x5)] [] M 0 0 := by
  exact j_lp (lvf := fun z => [(0, .ref (gadr (XG X) (4, 0, 8))), (1, .ref (gadr (XG X) (6, 0, q))), (3, .int (z.2.1)), (4, .int (z.2.2.1)), (5, .int (z.2.2.2))]) (Mf := fun z => z.1) (fun kn hk z => wgX2_takes_69 hC hG hnl fu q hq kn (fun M x3 x4 x5 => hk (M, x3, x4, x5)) z.1 z.2.1 z.2.2.1 z.2.2.2) fu (M, x3, x4, x5)
set_option linter.unusedVariables false in
set_option maxRecDepth 100000 in
theorem wX2_takes_64 {X : JX} (hC : JC X cX2_takes RX2 (some .boolean) 5 141 0 0) (hG : dmI dmX (XG X)) (hnl : nLof X = 6) (fu : Nat) (q : Nat) (hq : q < 27) (M : Mem) (x3 t0 : Int32) : J X (ZN X foI) (FX2_takes_64 fu (XD X) q M x3 t0) 64 [(0, .ref (gadr (XG X) (4, 0, 8))), (1, .ref (gadr (XG X) (6, 0, q))), (3, .int x3)] [.int t0] M 0 0 := by
  unfold FX2_takes_64
  refine j_istore hC [(4, .int t0), (0, .ref (gadr (XG X) (4, 0, 8))), (1, .ref (gadr (XG X) (6, 0, q))), (3, .int x3)] hnl dX2_takes_64 rfl rfl ?_
  refine j_iconst (v := 0) hC dX2_takes_66 (by decide) ?_
  refine j_istore hC [(5, .int 0), (4, .int t0), (0, .ref (gadr (XG X) (4, 0, 8))), (1, .ref (gadr (XG X) (6, 0, q))), (3, .int x3)] hnl dX2_takes_67 rfl rfl ?_
  exact j_sub [2, 3, 4, 1, 0] rfl (wX2_takes_69 hC hG hnl fu q hq M x3 t0 0)
set_option linter.unusedVariables false in
set_option maxRecDepth 100000 in
theorem wX2_takes_46 {X : JX} (hC : JC X cX2_takes RX2 (some .boolean) 5 141 0 0) (hG : dmI dmX (XG X)) (hnl : nLof X = 6) (fu : Nat) (q : Nat) (hq : q < 27) (M : Mem) (x3 : Int32) : J X (ZN X foI) (FX2_takes_46 fu (XD X) q M x3) 46 [(0, .ref (gadr (XG X) (4, 0, 8))), (1, .ref (gadr (XG X) (6, 0, q))), (3, .int x3)] [] M 0 0 := by
  unfold FX2_takes_46
  refine j_iload_n hC 2 dX2_takes_46 rfl ?_
  refine j_aload_n hC 0 dX2_takes_47 rfl ?_
  refine j_getI (fk := 8) hC (dmY hG rfl) rfl rfl in_X2 rfl rfl q433 rfl dX2_takes_48 ?_
  refine j_isub hC dX2_takes_51 ?_
  refine j_aload_n hC 1 dX2_takes_52 rfl ?_
  refine j_callStr (nA := 0) hq (rest := [.int (x3 - (M (4, 0, 8) 8))]) hC [] rfl (fun r hr => mJ3_length (XL X) (XG X) (XD X) q hq M r hr) q775 q776 q777 q138 q778 (by decide +kernel) rfl rfl rfl rfl rfl rfl dX2_takes_53 (fun v53 => [.int v53, .int (x3 - (M (4, 0, 8) 8))]) (fun _ => rfl) (fun v53 M53 => ?_)
  refine j_icmp_ne (tgt := 63) hC dX2_takes_56 (by decide) (fun h56 => ?_) (fun h56 => ?_)
  · refine j_iconst (v := 1) hC dX2_takes_59 (by decide) ?_
    refine j_goto (tgt := 64) hC dX2_takes_60 (by decide) ?_
    exact j_sub [0, 1, 2] rfl (wX2_takes_64 hC hG hnl fu q hq M53 x3 1)
  · refine j_iconst (v := 0) hC dX2_takes_63 (by decide) ?_
    exact j_sub [0, 1, 2] rfl (wX2_takes_64 hC hG hnl fu q hq M53 x3 0)
set_option linter.unusedVariables false in
set_option maxRecDepth 100000 in
theorem wgX2_takes_10 {X : JX} (hC : JC X cX2_takes RX2 (some .boolean) 5 141 0 0) (hG : dmI dmX (XG X)) (hnl : nLof X = 6) (fu : Nat) (q : Nat) (hq : q < 27) (kn10 : Mem × Int32 → Option (Int32 × Mem)) (hk10 : ∀ (M : Mem) (x3 : Int32), J X (ZN X foI) (kn10 (M, x3)) 10 [(0, .ref (gadr (XG X) (4, 0, 8))), (1, .ref (gadr (XG X) (6, 0, q))), (3, .int x3)] [] M 0 0) (M : Mem) (x3 : Int32) : J X (ZN X foI) (GX2_takes_10 fu (XD X) q kn10 M x3) 10 [(0, .ref (gadr (XG X) (4, 0, 8))), (1, .ref (gadr (XG X) (6, 0, q))), (3, .int x3)] [] M 0 0 := by
  unfold GX2_takes_10
  refine j_iload_n hC 2 dX2_takes_10 rfl ?_
  refine j_aload_n hC 0 dX2_takes_11 rfl ?_
  refine j_getI (fk := 7) hC (dmY hG rfl) rfl rfl in_X2 rfl rfl q432 rfl dX2_takes_12 ?_
  refine j_icmp_ge (tgt := 46) hC dX2_takes_15 (by decide) (fun h15 => ?_) (fun h15 => ?_)
  · exact j_sub [0, 1, 2] rfl (wX2_takes_46 hC hG hnl fu q hq M x3)
  · refine j_aload_n hC 0 dX2_takes_18 rfl ?_
    refine j_getR (fk := 0) hC (dmY hG rfl) rfl rfl in_X2 rfl rfl q423 rfl dX2_takes_19 ?_
    refine j_iload_n hC 2 dX2_takes_22 rfl ?_
    refine j_bald hC (dmY hG rfl) rfl dX2_takes_23 (fun h23 => ?_)
    refine j_bipush (v := 97) hC dX2_takes_24 (by decide) ?_
    refine j_icmp_lt (tgt := 46) hC dX2_takes_26 (by decide) (fun h26 => ?_) (fun h26 => ?_)
    · exact j_sub [0, 1, 2] rfl (wX2_takes_46 hC hG hnl fu q hq M x3)
    · refine j_aload_n hC 0 dX2_takes_29 rfl ?_
      refine j_getR (fk := 0) hC (dmY hG rfl) rfl rfl in_X2 rfl rfl q423 rfl dX2_takes_30 ?_
      refine j_iload_n hC 2 dX2_takes_33 rfl ?_
      refine j_bald hC (dmY hG rfl) rfl dX2_takes_34 (fun h34 => ?_)
      refine j_bipush (v := 122) hC dX2_takes_35 (by decide) ?_
      refine j_icmp_gt (tgt := 46) hC dX2_takes_37 (by decide) (fun h37 => ?_) (fun h37 => ?_)
      · exact j_sub [0, 1, 2] rfl (wX2_takes_46 hC hG hnl fu q hq M x3)
      · refine j_iincL hC 2 (fun y40 => [(3, .int y40), (0, .ref (gadr (XG X) (4, 0, 8))), (1, .ref (gadr (XG X) (6, 0, q)))]) hnl dX2_takes_40 rfl (by decide) rfl (fun _ => rfl) (fun y40 => ?_)
        refine j_goto (tgt := 10) hC dX2_takes_43 (by decide) ?_
        exact j_sub [1, 2, 0] rfl (hk10 M y40)
set_option linter.unusedVariables false in
set_option maxRecDepth 100000 in
theorem wX2_takes_10 {X : JX} (hC : JC X cX2_takes RX2 (some .boolean) 5 141 0 0) (hG : dmI dmX (XG X)) (hnl : nLof X = 6) (fu : Nat) (q : Nat) (hq : q < 27) (M : Mem) (x3 : Int32) : J X (ZN X foI) (FX2_takes_10 fu (XD X) q M x3) 10 [(0, .ref (gadr (XG X) (4, 0, 8))), (1, .ref (gadr (XG X) (6, 0, q))), (3, .int x3)] [] M 0 0 := by
  exact j_lp (lvf := fun z => [(0, .ref (gadr (XG X) (4, 0, 8))), (1, .ref (gadr (XG X) (6, 0, q))), (3, .int (z.2))]) (Mf := fun z => z.1) (fun kn hk z => wgX2_takes_10 hC hG hnl fu q hq kn (fun M x3 => hk (M, x3)) z.1 z.2) fu (M, x3)
set_option linter.unusedVariables false in
set_option maxRecDepth 100000 in
theorem wX2_takes {X : JX} (hC : JC X cX2_takes RX2 (some .boolean) 5 141 0 0) (hG : dmI dmX (XG X)) (hnl : nLof X = 6) (fu : Nat) (q : Nat) (hq : q < 27) (M : Mem) : J X (ZN X foI) (FX2_takes fu (XD X) q M) 0 [(0, .ref (gadr (XG X) (4, 0, 8))), (1, .ref (gadr (XG X) (6, 0, q)))] [] M 0 0 := by
  unfold FX2_takes
  refine j_aload_n hC 0 dX2_takes_0 rfl ?_
  refine j_callV (nA := 0) (rest := []) hC [] rfl (fun r hr => mX2_sign (XL X) (XG X) hG fu (XD X) M r hr) q759 q761 qs11 q127 q762 (dmY hG rfl) rfl rfl (by decide +kernel) rfl rfl rfl rfl rfl rfl dX2_takes_1 (fun v1 => [.int v1]) (fun _ => rfl) (fun v1 M1 => ?_)
  refine j_istore_n hC [(2, .int v1), (0, .ref (gadr (XG X) (4, 0, 8))), (1, .ref (gadr (XG X) (6, 0, q)))] hnl dX2_takes_4 rfl rfl ?_
  refine j_aload_n hC 1 dX2_takes_5 rfl ?_
  refine j_getI (fk := 8) hC (dmY hG rfl) rfl rfl in_X2 rfl rfl q433 rfl dX2_takes_6 ?_
  refine j_ltT (fun y9 => ?_)
  refine j_istore_n hC [(3, .int y9), (2, .int v1), (0, .ref (gadr (XG X) (4, 0, 8))), (1, .ref (gadr (XG X) (6, 0, q)))] hnl dX2_takes_9 rfl rfl ?_
  exact j_sub [2, 3, 0] rfl (wX2_takes_10 hC hG hnl fu q hq M1 y9)
set_option linter.unusedVariables false in
set_option maxRecDepth 100000 in
theorem mX2_takes (l : Launch) (Γ : xG) (hG : dmI dmX Γ) (fu : Nat) (D : List LDen) (q : Nat) (hq : q < 27) (M : Mem) (r : Int32 × Mem) (hr : FX2_takes fu D q M = some r) : CN l yX2_takes (ws_ yX2_takes cX2_takes 6 (some .boolean)) 5 141 Γ D [.ref (gadr Γ (4, 0, 8)), .ref (gadr Γ (6, 0, q))] M (foI r.1) r.2 := by
  refine CN.of (own := RX2) (lv0 := lv_args 0 [.ref (gadr Γ (4, 0, 8)), .ref (gadr Γ (6, 0, q))]) (by decide +kernel) rfl (Nat.le_of_ble_eq_true rfl) rfl (fun X e1 e2 e3 e4 hC => ?_) r hr
  subst e1
  subst e2
  exact wX2_takes hC hG e4 fu q hq M
set_option linter.unusedVariables false in
set_option maxRecDepth 100000 in
theorem wX2_expect_16 {X : JX} (hC : JC X cX2_expect RX2 none 6 166 0 0) (hT : JT X) (hG : dmI dmX (XG X)) (hnl : nLof X = 2) (fu : Nat) (q : Nat) (hq : q < 27) (M : Mem) : J X (ZT X foV 0 0) (FX2_expect_16 fu (XD X) q M) 16 [] [] M 0 0 := by
  unfold FX2_expect_16
  exact j_vretT hC rfl rfl dX2_expect_16
set_option linter.unusedVariables false in
set_option maxRecDepth 100000 in
theorem wX2_expect {X : JX} (hC : JC X cX2_expect RX2 none 6 166 0 0) (hT : JT X) (hG : dmI dmX (XG X)) (hnl : nLof X = 2) (fu : Nat) (q : Nat) (hq : q < 27) (M : Mem) : J X (ZT X foV 0 0) (FX2_expect fu (XD X) q M) 0 [(0, .ref (gadr (XG X) (4, 0, 8))), (1, .ref (gadr (XG X) (6, 0, q)))] [] M 0 0 := by
  unfold FX2_expect
  refine j_aload_n hC 0 dX2_expect_0 rfl ?_
  refine j_aload_n hC 1 dX2_expect_1 rfl ?_
  refine j_callV (nA := 1) (rest := []) hC [.ref (gadr (XG X) (6, 0, q))] rfl (fun r hr => mX2_takes (XL X) (XG X) hG fu (XD X) q hq M r hr) q771 q773 qs14 q127 q774 (dmY hG rfl) rfl rfl (by decide +kernel) rfl rfl rfl rfl rfl rfl dX2_expect_2 (fun v2 => [.int v2]) (fun _ => rfl) (fun v2 M2 => ?_)
  refine j_if_ne (tgt := 16) hC dX2_expect_5 (by decide) (fun h5 => ?_) (fun h5 => ?_)
  · refine j_aload_n hC 0 dX2_expect_8 rfl ?_
    refine j_aload_n hC 0 dX2_expect_9 rfl ?_
    refine j_getI (fk := 8) hC (dmY hG rfl) rfl rfl in_X2 rfl rfl q433 rfl dX2_expect_10 ?_
    refine j_callVT (nA := 1) (rest := []) hC hT [.int (M2 (4, 0, 8) 8)] rfl (fun r hr => mX2_fail (XL X) (JT.st hT) (XG X) hG fu (XD X) M2 (M2 (4, 0, 8) 8) r hr) q763 q765 qs12 q127 q766 (dmY hG rfl) rfl rfl (by decide +kernel) rfl rfl rfl rfl rfl rfl dX2_expect_13 (fun _ => []) (fun _ => rfl) (fun v13 M13 => ?_)
    exact j_sub [] rfl (wX2_expect_16 hC hT hG hnl fu q hq M13)
  · exact j_sub [] rfl (wX2_expect_16 hC hT hG hnl fu q hq M2)
set_option linter.unusedVariables false in
set_option maxRecDepth 100000 in
theorem mX2_expect (l : Launch) (hst : l.stackTraces = false) (Γ : xG) (hG : dmI dmX Γ) (fu : Nat) (D : List LDen) (q : Nat) (hq : q < 27) (M : Mem) (r : TR) (hr : FX2_expect fu D q M = some r) : CT l yX2_expect (ws_ yX2_expect cX2_expect 2 none) 6 166 0 0 Γ D [.ref (gadr Γ (4, 0, 8)), .ref (gadr Γ (6, 0, q))] M foV r := by
  refine CT.of hst (own := RX2) (lv0 := lv_args 0 [.ref (gadr Γ (4, 0, 8)), .ref (gadr Γ (6, 0, q))]) (by decide +kernel) rfl (Nat.le_of_ble_eq_true rfl) rfl (fun X e1 e2 e3 e4 hC hT => ?_) r hr
  subst e1
  subst e2
  exact wX2_expect hC hT hG e4 fu q hq M
set_option linter.unusedVariables false in
set_option maxRecDepth 100000 in
theorem wX2_here {X : JX} (hC : JC X cX2_here RX2 (some .int) 2 32 0 0) (hG : dmI dmX (XG X)) (hnl : nLof X = 2) (fu : Nat) (M : Mem) : J X (ZN X foI) (FX2_here fu (XD X) M) 0 [(0, .ref (gadr (XG X) (4, 0, 8)))] [] M 0 0 := by
  unfold FX2_here
  refine j_aload_n hC 0 dX2_here_0 rfl ?_
  refine j_callV (nA := 0) (rest := []) hC [] rfl (fun r hr => mX2_sign (XL X) (XG X) hG fu (XD X) M r hr) q759 q761 qs11 q127 q762 (dmY hG rfl) rfl rfl (by decide +kernel) rfl rfl rfl rfl rfl rfl dX2_here_1 (fun v1 => [.int v1]) (fun _ => rfl) (fun v1 M1 => ?_)
  refine j_istore_n hC [(1, .int v1), (0, .ref (gadr (XG X) (4, 0, 8)))] hnl dX2_here_4 rfl rfl ?_
  refine j_aload_n hC 1 dX2_here_5 rfl ?_
  refine j_getI (fk := 8) hC (dmY hG rfl) rfl rfl in_X2 rfl rfl q433 rfl dX2_here_6 ?_
  exact j_iret hC dX2_here_9
set_option linter.unusedVariables false in
set_option maxRecDepth 100000 in
theorem mX2_here (l : Launch) (Γ : xG) (hG : dmI dmX Γ) (fu : Nat) (D : List LDen) (M : Mem) (r : Int32 × Mem) (hr : FX2_here fu D M = some r) : CN l yX2_here (ws_ yX2_here cX2_here 2 (some .int)) 2 32 Γ D [.ref (gadr Γ (4, 0, 8))] M (foI r.1) r.2 := by
  refine CN.of (own := RX2) (lv0 := lv_args 0 [.ref (gadr Γ (4, 0, 8))]) (by decide +kernel) rfl (Nat.le_of_ble_eq_true rfl) rfl (fun X e1 e2 e3 e4 hC => ?_) r hr
  subst e1
  subst e2
  exact wX2_here hC hG e4 fu M
set_option linter.unusedVariables false in
set_option maxRecDepth 100000 in
theorem wX2_number_120 {X : JX} (hC : JC X cX2_number RX2 (some .int) 3 53 0 0) (hT : JT X) (hG : dmI dmX (XG X)) (hnl : nLof X = 5) (fu : Nat) (M : Mem) (x4 : Int32) : J X (ZT X foI 0 0) (FX2_number_120 fu (XD X) M x4) 120 [(4, .int x4)] [] M 0 0 := by
  unfold FX2_number_120
  refine j_iload hC 0 dX2_number_120 rfl ?_
  exact j_iretT hC rfl rfl dX2_number_122
set_option linter.unusedVariables false in
set_option maxRecDepth 100000 in
theorem wX2_number_115 {X : JX} (hC : JC X cX2_number RX2 (some .int) 3 53 0 0) (hT : JT X) (hG : dmI dmX (XG X)) (hnl : nLof X = 5) (fu : Nat) (M : Mem) (x3 x4 : Int32) : J X (ZT X foI 0 0) (FX2_number_115 fu (XD X) M x3 x4) 115 [(0, .ref (gadr (XG X) (4, 0, 8))), (3, .int x3), (4, .int x4)] [] M 0 0 := by
  unfold FX2_number_115
  refine j_aload_n hC 0 dX2_number_115 rfl ?_
  refine j_iload_n hC 1 dX2_number_116 rfl ?_
  refine j_callVT (nA := 1) (rest := []) hC hT [.int x3] rfl (fun r hr => mX2_fail (XL X) (JT.st hT) (XG X) hG fu (XD X) M x3 r hr) q763 q765 qs12 q127 q766 (dmY hG rfl) rfl rfl (by decide +kernel) rfl rfl rfl rfl rfl rfl dX2_number_117 (fun _ => []) (fun _ => rfl) (fun v117 M117 => ?_)
  exact j_sub [2] rfl (wX2_number_120 hC hT hG hnl fu M117 x4)
set_option linter.unusedVariables false in
set_option maxRecDepth 100000 in
theorem wX2_number_95 {X : JX} (hC : JC X cX2_number RX2 (some .int) 3 53 0 0) (hT : JT X) (hG : dmI dmX (XG X)) (hnl : nLof X = 5) (fu : Nat) (M : Mem) (x1 x2 x3 x4 : Int32) : J X (ZT X foI 0 0) (FX2_number_95 fu (XD X) M x1 x2 x3 x4) 95 [(0, .ref (gadr (XG X) (4, 0, 8))), (1, .int x1), (2, .int x2), (3, .int x3), (4, .int x4)] [] M 0 0 := by
  unfold FX2_number_95
  refine j_aload_n hC 0 dX2_number_95 rfl ?_
  refine j_getI (fk := 8) hC (dmY hG rfl) rfl rfl in_X2 rfl rfl q433 rfl dX2_number_96 ?_
  refine j_iload_n hC 3 dX2_number_99 rfl ?_
  refine j_icmp_eq (tgt := 115) hC dX2_number_100 (by decide) (fun h100 => ?_) (fun h100 => ?_)
  · exact j_sub [0, 3, 4] rfl (wX2_number_115 hC hT hG hnl fu M x3 x4)
  · refine j_iload hC 4 dX2_number_103 rfl ?_
    refine j_iload_n hC 1 dX2_number_105 rfl ?_
    refine j_icmp_lt (tgt := 115) hC dX2_number_106 (by decide) (fun h106 => ?_) (fun h106 => ?_)
    · exact j_sub [0, 3, 4] rfl (wX2_number_115 hC hT hG hnl fu M x3 x4)
    · refine j_iload hC 4 dX2_number_109 rfl ?_
      refine j_iload_n hC 2 dX2_number_111 rfl ?_
      refine j_icmp_le (tgt := 120) hC dX2_number_112 (by decide) (fun h112 => ?_) (fun h112 => ?_)
      · exact j_sub [4] rfl (wX2_number_120 hC hT hG hnl fu M x4)
      · exact j_sub [0, 3, 4] rfl (wX2_number_115 hC hT hG hnl fu M x3 x4)
set_option linter.unusedVariables false in
set_option maxRecDepth 100000 in
theorem wX2_number_62 {X : JX} (hC : JC X cX2_number RX2 (some .int) 3 53 0 0) (hT : JT X) (hG : dmI dmX (XG X)) (hnl : nLof X = 5) (fu : Nat) (kn8 : Mem × Int32 × Int32 × Int32 × Int32 → Option TR) (hk8 : ∀ (M : Mem) (x1 x2 x3 x4 : Int32), J X (ZT X foI 0 0) (kn8 (M, x1, x2, x3, x4)) 8 [(0, .ref (gadr (XG X) (4, 0, 8))), (1, .int x1), (2, .int x2), (3, .int x3), (4, .int x4)] [] M 0 0) (M : Mem) (x1 x2 x3 x4 : Int32) : J X (ZT X foI 0 0) (FX2_number_62 fu (XD X) kn8 M x1 x2 x3 x4) 62 [(0, .ref (gadr (XG X) (4, 0, 8))), (1, .int x1), (2, .int x2), (3, .int x3), (4, .int x4)] [] M 0 0 := by
  unfold FX2_number_62
  refine j_bipush (v := 10) hC dX2_number_62 (by decide) ?_
  refine j_iload hC 4 dX2_number_64 rfl ?_
  refine j_imul hC dX2_number_66 ?_
  refine j_aload_n hC 0 dX2_number_67 rfl ?_
  refine j_getR (fk := 0) hC (dmY hG rfl) rfl rfl in_X2 rfl rfl q423 rfl dX2_number_68 ?_
  refine j_aload_n hC 0 dX2_number_71 rfl ?_
  refine j_getI (fk := 8) hC (dmY hG rfl) rfl rfl in_X2 rfl rfl q433 rfl dX2_number_72 ?_
  refine j_bald hC (dmY hG rfl) rfl dX2_number_75 (fun h75 => ?_)
  refine j_iadd hC dX2_number_76 ?_
  refine j_bipush (v := 48) hC dX2_number_77 (by decide) ?_
  refine j_isub hC dX2_number_79 ?_
  refine j_ltT (fun y80 => ?_)
  refine j_istore hC [(4, .int y80), (0, .ref (gadr (XG X) (4, 0, 8))), (1, .int x1), (2, .int x2), (3, .int x3)] hnl dX2_number_80 rfl rfl ?_
  refine j_aload_n hC 1 dX2_number_82 rfl ?_
  refine j_dup hC dX2_number_83 rfl ?_
  refine j_getI (fk := 8) hC (dmY hG rfl) rfl rfl in_X2 rfl rfl q433 rfl dX2_number_84 ?_
  refine j_iconst (v := 1) hC dX2_number_87 (by decide) ?_
  refine j_iadd hC dX2_number_88 ?_
  refine j_put (fk := 8) (ty := .int) hC (dmY hG rfl) rfl rfl in_X2 rfl rfl q433 tyX2 tyX2_ok nmX2 rfl rfl (by decide +kernel) rfl rfl dX2_number_89 ?_
  refine j_lt (fun M89 => ?_)
  refine j_goto (tgt := 8) hC dX2_number_92 (by decide) ?_
  exact j_sub [1, 2, 3, 4, 0] rfl (hk8 M89 x1 x2 x3 y80)
set_option linter.unusedVariables false in
set_option maxRecDepth 100000 in
theorem wgX2_number_8 {X : JX} (hC : JC X cX2_number RX2 (some .int) 3 53 0 0) (hT : JT X) (hG : dmI dmX (XG X)) (hnl : nLof X = 5) (fu : Nat) (kn8 : Mem × Int32 × Int32 × Int32 × Int32 → Option TR) (hk8 : ∀ (M : Mem) (x1 x2 x3 x4 : Int32), J X (ZT X foI 0 0) (kn8 (M, x1, x2, x3, x4)) 8 [(0, .ref (gadr (XG X) (4, 0, 8))), (1, .int x1), (2, .int x2), (3, .int x3), (4, .int x4)] [] M 0 0) (M : Mem) (x1 x2 x3 x4 : Int32) : J X (ZT X foI 0 0) (GX2_number_8 fu (XD X) kn8 M x1 x2 x3 x4) 8 [(0, .ref (gadr (XG X) (4, 0, 8))), (1, .int x1), (2, .int x2), (3, .int x3), (4, .int x4)] [] M 0 0 := by
  unfold GX2_number_8
  refine j_aload_n hC 0 dX2_number_8 rfl ?_
  refine j_getI (fk := 8) hC (dmY hG rfl) rfl rfl in_X2 rfl rfl q433 rfl dX2_number_9 ?_
  refine j_aload_n hC 0 dX2_number_12 rfl ?_
  refine j_getI (fk := 7) hC (dmY hG rfl) rfl rfl in_X2 rfl rfl q432 rfl dX2_number_13 ?_
  refine j_icmp_ge (tgt := 95) hC dX2_number_16 (by decide) (fun h16 => ?_) (fun h16 => ?_)
  · exact j_sub [0, 1, 2, 3, 4] rfl (wX2_number_95 hC hT hG hnl fu M x1 x2 x3 x4)
  · refine j_aload_n hC 0 dX2_number_19 rfl ?_
    refine j_getR (fk := 0) hC (dmY hG rfl) rfl rfl in_X2 rfl rfl q423 rfl dX2_number_20 ?_
    refine j_aload_n hC 0 dX2_number_23 rfl ?_
    refine j_getI (fk := 8) hC (dmY hG rfl) rfl rfl in_X2 rfl rfl q433 rfl dX2_number_24 ?_
    refine j_bald hC (dmY hG rfl) rfl dX2_number_27 (fun h27 => ?_)
    refine j_bipush (v := 48) hC dX2_number_28 (by decide) ?_
    refine j_icmp_lt (tgt := 95) hC dX2_number_30 (by decide) (fun h30 => ?_) (fun h30 => ?_)
    · exact j_sub [0, 1, 2, 3, 4] rfl (wX2_number_95 hC hT hG hnl fu M x1 x2 x3 x4)
    · refine j_aload_n hC 0 dX2_number_33 rfl ?_
      refine j_getR (fk := 0) hC (dmY hG rfl) rfl rfl in_X2 rfl rfl q423 rfl dX2_number_34 ?_
      refine j_aload_n hC 0 dX2_number_37 rfl ?_
      refine j_getI (fk := 8) hC (dmY hG rfl) rfl rfl in_X2 rfl rfl q433 rfl dX2_number_38 ?_
      refine j_bald hC (dmY hG rfl) rfl dX2_number_41 (fun h41 => ?_)
      refine j_bipush (v := 57) hC dX2_number_42 (by decide) ?_
      refine j_icmp_gt (tgt := 95) hC dX2_number_44 (by decide) (fun h44 => ?_) (fun h44 => ?_)
      · exact j_sub [0, 1, 2, 3, 4] rfl (wX2_number_95 hC hT hG hnl fu M x1 x2 x3 x4)
      · refine j_aload_n hC 0 dX2_number_47 rfl ?_
        refine j_getI (fk := 8) hC (dmY hG rfl) rfl rfl in_X2 rfl rfl q433 rfl dX2_number_48 ?_
        refine j_iload_n hC 3 dX2_number_51 rfl ?_
        refine j_isub hC dX2_number_52 ?_
        refine j_iconst (v := 3) hC dX2_number_53 (by decide) ?_
        refine j_icmp_ne (tgt := 62) hC dX2_number_54 (by decide) (fun h54 => ?_) (fun h54 => ?_)
        · refine j_aload_n hC 0 dX2_number_57 rfl ?_
          refine j_iload_n hC 3 dX2_number_58 rfl ?_
          refine j_callVT (nA := 1) (rest := []) hC hT [.int x3] rfl (fun r hr => mX2_fail (XL X) (JT.st hT) (XG X) hG fu (XD X) M x3 r hr) q763 q765 qs12 q127 q766 (dmY hG rfl) rfl rfl (by decide +kernel) rfl rfl rfl rfl rfl rfl dX2_number_59 (fun _ => []) (fun _ => rfl) (fun v59 M59 => ?_)
          exact j_sub [0, 1, 2, 3, 4] rfl (wX2_number_62 hC hT hG hnl fu kn8 hk8 M59 x1 x2 x3 x4)
        · exact j_sub [0, 1, 2, 3, 4] rfl (wX2_number_62 hC hT hG hnl fu kn8 hk8 M x1 x2 x3 x4)
set_option linter.unusedVariables false in
set_option maxRecDepth 100000 in
theorem wX2_number_8 {X : JX} (hC : JC X cX2_number RX2 (some .int) 3 53 0 0) (hT : JT X) (hG : dmI dmX (XG X)) (hnl : nLof X = 5) (fu : Nat) (M : Mem) (x1 x2 x3 x4 : Int32) : J X (ZT X foI 0 0) (FX2_number_8 fu (XD X) M x1 x2 x3 x4) 8 [(0, .ref (gadr (XG X) (4, 0, 8))), (1, .int x1), (2, .int x2), (3, .int x3), (4, .int x4)] [] M 0 0 := by
  exact j_lp (lvf := fun z => [(0, .ref (gadr (XG X) (4, 0, 8))), (1, .int (z.2.1)), (2, .int (z.2.2.1)), (3, .int (z.2.2.2.1)), (4, .int (z.2.2.2.2))]) (Mf := fun z => z.1) (fun kn hk z => wgX2_number_8 hC hT hG hnl fu kn (fun M x1 x2 x3 x4 => hk (M, x1, x2, x3, x4)) z.1 z.2.1 z.2.2.1 z.2.2.2.1 z.2.2.2.2) fu (M, x1, x2, x3, x4)
set_option linter.unusedVariables false in
set_option maxRecDepth 100000 in
theorem wX2_number {X : JX} (hC : JC X cX2_number RX2 (some .int) 3 53 0 0) (hT : JT X) (hG : dmI dmX (XG X)) (hnl : nLof X = 5) (fu : Nat) (M : Mem) (x1 x2 : Int32) : J X (ZT X foI 0 0) (FX2_number fu (XD X) M x1 x2) 0 [(0, .ref (gadr (XG X) (4, 0, 8))), (1, .int x1), (2, .int x2)] [] M 0 0 := by
  unfold FX2_number
  refine j_aload_n hC 0 dX2_number_0 rfl ?_
  refine j_callV (nA := 0) (rest := []) hC [] rfl (fun r hr => mX2_here (XL X) (XG X) hG fu (XD X) M r hr) q840 q842 qs19 q127 q843 (dmY hG rfl) rfl rfl (by decide +kernel) rfl rfl rfl rfl rfl rfl dX2_number_1 (fun v1 => [.int v1]) (fun _ => rfl) (fun v1 M1 => ?_)
  refine j_istore_n hC [(3, .int v1), (0, .ref (gadr (XG X) (4, 0, 8))), (1, .int x1), (2, .int x2)] hnl dX2_number_4 rfl rfl ?_
  refine j_iconst (v := 0) hC dX2_number_5 (by decide) ?_
  refine j_istore hC [(4, .int 0), (3, .int v1), (0, .ref (gadr (XG X) (4, 0, 8))), (1, .int x1), (2, .int x2)] hnl dX2_number_6 rfl rfl ?_
  exact j_sub [2, 3, 4, 1, 0] rfl (wX2_number_8 hC hT hG hnl fu M1 x1 x2 v1 0)
set_option linter.unusedVariables false in
set_option maxRecDepth 100000 in
theorem mX2_number (l : Launch) (hst : l.stackTraces = false) (Γ : xG) (hG : dmI dmX Γ) (fu : Nat) (D : List LDen) (M : Mem) (x1 x2 : Int32) (r : TR) (hr : FX2_number fu D M x1 x2 = some r) : CT l yX2_number (ws_ yX2_number cX2_number 5 (some .int)) 3 53 0 0 Γ D [.ref (gadr Γ (4, 0, 8)), .int x1, .int x2] M foI r := by
  refine CT.of hst (own := RX2) (lv0 := lv_args 0 [.ref (gadr Γ (4, 0, 8)), .int x1, .int x2]) (by decide +kernel) rfl (Nat.le_of_ble_eq_true rfl) rfl (fun X e1 e2 e3 e4 hC hT => ?_) r hr
  subst e1
  subst e2
  exact wX2_number hC hT hG e4 fu M x1 x2
set_option linter.unusedVariables false in
set_option maxRecDepth 100000 in
theorem wX2_after {X : JX} (hC : JC X cX2_after RX2 (some .int) 7 187 0 0) (hT : JT X) (hG : dmI dmX (XG X)) (hnl : nLof X = 4) (fu : Nat) (q : Nat) (hq : q < 27) (M : Mem) (x2 x3 : Int32) : J X (ZT X foI 0 0) (FX2_after fu (XD X) q M x2 x3) 0 [(0, .ref (gadr (XG X) (4, 0, 8))), (1, .ref (gadr (XG X) (6, 0, q))), (2, .int x2), (3, .int x3)] [] M 0 0 := by
  unfold FX2_after
  refine j_aload_n hC 0 dX2_after_0 rfl ?_
  refine j_aload_n hC 1 dX2_after_1 rfl ?_
  refine j_callVT (nA := 1) (rest := []) hC hT [.ref (gadr (XG X) (6, 0, q))] rfl (fun r hr => mX2_expect (XL X) (JT.st hT) (XG X) hG fu (XD X) q hq M r hr) q832 q834 qs17 q127 q835 (dmY hG rfl) rfl rfl (by decide +kernel) rfl rfl rfl rfl rfl rfl dX2_after_2 (fun _ => []) (fun _ => rfl) (fun v2 M2 => ?_)
  refine j_aload_n hC 0 dX2_after_5 rfl ?_
  refine j_iload_n hC 2 dX2_after_6 rfl ?_
  refine j_iload_n hC 3 dX2_after_7 rfl ?_
  refine j_callVT (nA := 2) (rest := []) hC hT [.int x2, .int x3] rfl (fun r hr => mX2_number (XL X) (JT.st hT) (XG X) hG fu (XD X) M2 x2 x3 r hr) q836 q838 qs18 q127 q839 (dmY hG rfl) rfl rfl (by decide +kernel) rfl rfl rfl rfl rfl rfl dX2_after_8 (fun v8 => [.int v8]) (fun _ => rfl) (fun v8 M8 => ?_)
  exact j_iretT hC rfl rfl dX2_after_11
set_option linter.unusedVariables false in
set_option maxRecDepth 100000 in
theorem mX2_after (l : Launch) (hst : l.stackTraces = false) (Γ : xG) (hG : dmI dmX Γ) (fu : Nat) (D : List LDen) (q : Nat) (hq : q < 27) (M : Mem) (x2 x3 : Int32) (r : TR) (hr : FX2_after fu D q M x2 x3 = some r) : CT l yX2_after (ws_ yX2_after cX2_after 4 (some .int)) 7 187 0 0 Γ D [.ref (gadr Γ (4, 0, 8)), .ref (gadr Γ (6, 0, q)), .int x2, .int x3] M foI r := by
  refine CT.of hst (own := RX2) (lv0 := lv_args 0 [.ref (gadr Γ (4, 0, 8)), .ref (gadr Γ (6, 0, q)), .int x2, .int x3]) (by decide +kernel) rfl (Nat.le_of_ble_eq_true rfl) rfl (fun X e1 e2 e3 e4 hC hT => ?_) r hr
  subst e1
  subst e2
  exact wX2_after hC hT hG e4 fu q hq M x2 x3
set_option linter.unusedVariables false in
set_option maxRecDepth 100000 in
theorem wX2_letters_110 {X : JX} (hC : JC X cX2_letters RX2 (some .int) 3 53 0 0) (hT : JT X) (hG : dmI dmX (XG X)) (hnl : nLof X = 5) (fu : Nat) (M : Mem) (x3 : Int32) : J X (ZT X foI 0 0) (FX2_letters_110 fu (XD X) M x3) 110 [(3, .int x3)] [] M 0 0 := by
  unfold FX2_letters_110
  refine j_iload_n hC 0 dX2_letters_110 rfl ?_
  exact j_iretT hC rfl rfl dX2_letters_111
set_option linter.unusedVariables false in
set_option maxRecDepth 100000 in
theorem wX2_letters_101 {X : JX} (hC : JC X cX2_letters RX2 (some .int) 3 53 0 0) (hT : JT X) (hG : dmI dmX (XG X)) (hnl : nLof X = 5) (fu : Nat) (M : Mem) (x2 x3 : Int32) : J X (ZT X foI 0 0) (FX2_letters_101 fu (XD X) M x2 x3) 101 [(0, .ref (gadr (XG X) (4, 0, 8))), (2, .int x2), (3, .int x3)] [] M 0 0 := by
  unfold FX2_letters_101
  refine j_iload_n hC 2 dX2_letters_101 rfl ?_
  refine j_if_ne (tgt := 110) hC dX2_letters_102 (by decide) (fun h102 => ?_) (fun h102 => ?_)
  · refine j_aload_n hC 0 dX2_letters_105 rfl ?_
    refine j_iload_n hC 1 dX2_letters_106 rfl ?_
    refine j_callVT (nA := 1) (rest := []) hC hT [.int x2] rfl (fun r hr => mX2_fail (XL X) (JT.st hT) (XG X) hG fu (XD X) M x2 r hr) q763 q765 qs12 q127 q766 (dmY hG rfl) rfl rfl (by decide +kernel) rfl rfl rfl rfl rfl rfl dX2_letters_107 (fun _ => []) (fun _ => rfl) (fun v107 M107 => ?_)
    exact j_sub [2] rfl (wX2_letters_110 hC hT hG hnl fu M107 x3)
  · exact j_sub [2] rfl (wX2_letters_110 hC hT hG hnl fu M x3)
set_option linter.unusedVariables false in
set_option maxRecDepth 100000 in
theorem wX2_letters_81 {X : JX} (hC : JC X cX2_letters RX2 (some .int) 3 53 0 0) (hT : JT X) (hG : dmI dmX (XG X)) (hnl : nLof X = 5) (fu : Nat) (kn7 : Mem × Int32 × Int32 × Int32 → Option TR) (hk7 : ∀ (M : Mem) (x1 x2 x3 : Int32), J X (ZT X foI 0 0) (kn7 (M, x1, x2, x3)) 7 [(0, .ref (gadr (XG X) (4, 0, 8))), (1, .int x1), (2, .int x2), (3, .int x3)] [] M 0 0) (M : Mem) (x1 x2 x3 x4 : Int32) : J X (ZT X foI 0 0) (FX2_letters_81 fu (XD X) kn7 M x1 x2 x3 x4) 81 [(0, .ref (gadr (XG X) (4, 0, 8))), (1, .int x1), (2, .int x2), (3, .int x3), (4, .int x4)] [] M 0 0 := by
  unfold FX2_letters_81
  refine j_iload_n hC 3 dX2_letters_81 rfl ?_
  refine j_iconst (v := 1) hC dX2_letters_82 (by decide) ?_
  refine j_iload hC 4 dX2_letters_83 rfl ?_
  refine j_ishl hC dX2_letters_85 ?_
  refine j_ior hC dX2_letters_86 ?_
  refine j_ltT (fun y87 => ?_)
  refine j_istore_n hC [(3, .int y87), (0, .ref (gadr (XG X) (4, 0, 8))), (1, .int x1), (2, .int x2), (4, .int x4)] hnl dX2_letters_87 rfl rfl ?_
  refine j_aload_n hC 1 dX2_letters_88 rfl ?_
  refine j_dup hC dX2_letters_89 rfl ?_
  refine j_getI (fk := 8) hC (dmY hG rfl) rfl rfl in_X2 rfl rfl q433 rfl dX2_letters_90 ?_
  refine j_iconst (v := 1) hC dX2_letters_93 (by decide) ?_
  refine j_iadd hC dX2_letters_94 ?_
  refine j_put (fk := 8) (ty := .int) hC (dmY hG rfl) rfl rfl in_X2 rfl rfl q433 tyX2 tyX2_ok nmX2 rfl rfl (by decide +kernel) rfl rfl dX2_letters_95 ?_
  refine j_lt (fun M95 => ?_)
  refine j_goto (tgt := 7) hC dX2_letters_98 (by decide) ?_
  exact j_sub [1, 2, 3, 0] rfl (hk7 M95 x1 x2 y87)
set_option linter.unusedVariables false in
set_option maxRecDepth 100000 in
theorem wX2_letters_76 {X : JX} (hC : JC X cX2_letters RX2 (some .int) 3 53 0 0) (hT : JT X) (hG : dmI dmX (XG X)) (hnl : nLof X = 5) (fu : Nat) (kn7 : Mem × Int32 × Int32 × Int32 → Option TR) (hk7 : ∀ (M : Mem) (x1 x2 x3 : Int32), J X (ZT X foI 0 0) (kn7 (M, x1, x2, x3)) 7 [(0, .ref (gadr (XG X) (4, 0, 8))), (1, .int x1), (2, .int x2), (3, .int x3)] [] M 0 0) (M : Mem) (x1 x2 x3 x4 : Int32) : J X (ZT X foI 0 0) (FX2_letters_76 fu (XD X) kn7 M x1 x2 x3 x4) 76 [(0, .ref (gadr (XG X) (4, 0, 8))), (1, .int x1), (2, .int x2), (3, .int x3), (4, .int x4)] [] M 0 0 := by
  unfold FX2_letters_76
  refine j_aload_n hC 0 dX2_letters_76 rfl ?_
  refine j_iload_n hC 2 dX2_letters_77 rfl ?_
  refine j_callVT (nA := 1) (rest := []) hC hT [.int x2] rfl (fun r hr => mX2_fail (XL X) (JT.st hT) (XG X) hG fu (XD X) M x2 r hr) q763 q765 qs12 q127 q766 (dmY hG rfl) rfl rfl (by decide +kernel) rfl rfl rfl rfl rfl rfl dX2_letters_78 (fun _ => []) (fun _ => rfl) (fun v78 M78 => ?_)
  exact j_sub [0, 1, 2, 3, 4] rfl (wX2_letters_81 hC hT hG hnl fu kn7 hk7 M78 x1 x2 x3 x4)
set_option linter.unusedVariables false in
set_option maxRecDepth 100000 in
theorem wgX2_letters_7 {X : JX} (hC : JC X cX2_letters RX2 (some .int) 3 53 0 0) (hT : JT X) (hG : dmI dmX (XG X)) (hnl : nLof X = 5) (fu : Nat) (kn7 : Mem × Int32 × Int32 × Int32 → Option TR) (hk7 : ∀ (M : Mem) (x1 x2 x3 : Int32), J X (ZT X foI 0 0) (kn7 (M, x1, x2, x3)) 7 [(0, .ref (gadr (XG X) (4, 0, 8))), (1, .int x1), (2, .int x2), (3, .int x3)] [] M 0 0) (M : Mem) (x1 x2 x3 : Int32) : J X (ZT X foI 0 0) (GX2_letters_7 fu (XD X) kn7 M x1 x2 x3) 7 [(0, .ref (gadr (XG X) (4, 0, 8))), (1, .int x1), (2, .int x2), (3, .int x3)] [] M 0 0 := by
  unfold GX2_letters_7
  refine j_aload_n hC 0 dX2_letters_7 rfl ?_
  refine j_getI (fk := 8) hC (dmY hG rfl) rfl rfl in_X2 rfl rfl q433 rfl dX2_letters_8 ?_
  refine j_aload_n hC 0 dX2_letters_11 rfl ?_
  refine j_getI (fk := 7) hC (dmY hG rfl) rfl rfl in_X2 rfl rfl q432 rfl dX2_letters_12 ?_
  refine j_icmp_ge (tgt := 101) hC dX2_letters_15 (by decide) (fun h15 => ?_) (fun h15 => ?_)
  · exact j_sub [0, 2, 3] rfl (wX2_letters_101 hC hT hG hnl fu M x2 x3)
  · refine j_aload_n hC 0 dX2_letters_18 rfl ?_
    refine j_getR (fk := 0) hC (dmY hG rfl) rfl rfl in_X2 rfl rfl q423 rfl dX2_letters_19 ?_
    refine j_aload_n hC 0 dX2_letters_22 rfl ?_
    refine j_getI (fk := 8) hC (dmY hG rfl) rfl rfl in_X2 rfl rfl q433 rfl dX2_letters_23 ?_
    refine j_bald hC (dmY hG rfl) rfl dX2_letters_26 (fun h26 => ?_)
    refine j_bipush (v := 97) hC dX2_letters_27 (by decide) ?_
    refine j_icmp_lt (tgt := 101) hC dX2_letters_29 (by decide) (fun h29 => ?_) (fun h29 => ?_)
    · exact j_sub [0, 2, 3] rfl (wX2_letters_101 hC hT hG hnl fu M x2 x3)
    · refine j_aload_n hC 0 dX2_letters_32 rfl ?_
      refine j_getR (fk := 0) hC (dmY hG rfl) rfl rfl in_X2 rfl rfl q423 rfl dX2_letters_33 ?_
      refine j_aload_n hC 0 dX2_letters_36 rfl ?_
      refine j_getI (fk := 8) hC (dmY hG rfl) rfl rfl in_X2 rfl rfl q433 rfl dX2_letters_37 ?_
      refine j_bald hC (dmY hG rfl) rfl dX2_letters_40 (fun h40 => ?_)
      refine j_bipush (v := 122) hC dX2_letters_41 (by decide) ?_
      refine j_icmp_gt (tgt := 101) hC dX2_letters_43 (by decide) (fun h43 => ?_) (fun h43 => ?_)
      · exact j_sub [0, 2, 3] rfl (wX2_letters_101 hC hT hG hnl fu M x2 x3)
      · refine j_aload_n hC 0 dX2_letters_46 rfl ?_
        refine j_getR (fk := 0) hC (dmY hG rfl) rfl rfl in_X2 rfl rfl q423 rfl dX2_letters_47 ?_
        refine j_aload_n hC 0 dX2_letters_50 rfl ?_
        refine j_getI (fk := 8) hC (dmY hG rfl) rfl rfl in_X2 rfl rfl q433 rfl dX2_letters_51 ?_
        refine j_bald hC (dmY hG rfl) rfl dX2_letters_54 (fun h54 => ?_)
        refine j_bipush (v := 97) hC dX2_letters_55 (by decide) ?_
        refine j_isub hC dX2_letters_57 ?_
        refine j_ltT (fun y58 => ?_)
        refine j_istore hC [(4, .int y58), (0, .ref (gadr (XG X) (4, 0, 8))), (1, .int x1), (2, .int x2), (3, .int x3)] hnl dX2_letters_58 rfl rfl ?_
        refine j_iload hC 0 dX2_letters_60 rfl ?_
        refine j_iload_n hC 2 dX2_letters_62 rfl ?_
        refine j_icmp_ge (tgt := 76) hC dX2_letters_63 (by decide) (fun h63 => ?_) (fun h63 => ?_)
        · exact j_sub [1, 2, 3, 4, 0] rfl (wX2_letters_76 hC hT hG hnl fu kn7 hk7 M x1 x2 x3 y58)
        · refine j_iload_n hC 4 dX2_letters_66 rfl ?_
          refine j_iload hC 0 dX2_letters_67 rfl ?_
          refine j_ishr hC dX2_letters_69 ?_
          refine j_iconst (v := 1) hC dX2_letters_70 (by decide) ?_
          refine j_iand hC dX2_letters_71 ?_
          refine j_iconst (v := 1) hC dX2_letters_72 (by decide) ?_
          refine j_icmp_ne (tgt := 81) hC dX2_letters_73 (by decide) (fun h73 => ?_) (fun h73 => ?_)
          · exact j_sub [1, 2, 3, 4, 0] rfl (wX2_letters_76 hC hT hG hnl fu kn7 hk7 M x1 x2 x3 y58)
          · exact j_sub [1, 2, 3, 4, 0] rfl (wX2_letters_81 hC hT hG hnl fu kn7 hk7 M x1 x2 x3 y58)
set_option linter.unusedVariables false in
set_option maxRecDepth 100000 in
theorem wX2_letters_7 {X : JX} (hC : JC X cX2_letters RX2 (some .int) 3 53 0 0) (hT : JT X) (hG : dmI dmX (XG X)) (hnl : nLof X = 5) (fu : Nat) (M : Mem) (x1 x2 x3 : Int32) : J X (ZT X foI 0 0) (FX2_letters_7 fu (XD X) M x1 x2 x3) 7 [(0, .ref (gadr (XG X) (4, 0, 8))), (1, .int x1), (2, .int x2), (3, .int x3)] [] M 0 0 := by
  exact j_lp (lvf := fun z => [(0, .ref (gadr (XG X) (4, 0, 8))), (1, .int (z.2.1)), (2, .int (z.2.2.1)), (3, .int (z.2.2.2))]) (Mf := fun z => z.1) (fun kn hk z => wgX2_letters_7 hC hT hG hnl fu kn (fun M x1 x2 x3 => hk (M, x1, x2, x3)) z.1 z.2.1 z.2.2.1 z.2.2.2) fu (M, x1, x2, x3)
set_option linter.unusedVariables false in
set_option maxRecDepth 100000 in
theorem wX2_letters {X : JX} (hC : JC X cX2_letters RX2 (some .int) 3 53 0 0) (hT : JT X) (hG : dmI dmX (XG X)) (hnl : nLof X = 5) (fu : Nat) (M : Mem) (x1 : Int32) : J X (ZT X foI 0 0) (FX2_letters fu (XD X) M x1) 0 [(0, .ref (gadr (XG X) (4, 0, 8))), (1, .int x1)] [] M 0 0 := by
  unfold FX2_letters
  refine j_aload_n hC 0 dX2_letters_0 rfl ?_
  refine j_callV (nA := 0) (rest := []) hC [] rfl (fun r hr => mX2_here (XL X) (XG X) hG fu (XD X) M r hr) q840 q842 qs19 q127 q843 (dmY hG rfl) rfl rfl (by decide +kernel) rfl rfl rfl rfl rfl rfl dX2_letters_1 (fun v1 => [.int v1]) (fun _ => rfl) (fun v1 M1 => ?_)
  refine j_istore_n hC [(2, .int v1), (0, .ref (gadr (XG X) (4, 0, 8))), (1, .int x1)] hnl dX2_letters_4 rfl rfl ?_
  refine j_iconst (v := 0) hC dX2_letters_5 (by decide) ?_
  refine j_istore_n hC [(3, .int 0), (2, .int v1), (0, .ref (gadr (XG X) (4, 0, 8))), (1, .int x1)] hnl dX2_letters_6 rfl rfl ?_
  exact j_sub [2, 3, 1, 0] rfl (wX2_letters_7 hC hT hG hnl fu M1 x1 v1 0)
set_option linter.unusedVariables false in
set_option maxRecDepth 100000 in
theorem mX2_letters (l : Launch) (hst : l.stackTraces = false) (Γ : xG) (hG : dmI dmX Γ) (fu : Nat) (D : List LDen) (M : Mem) (x1 : Int32) (r : TR) (hr : FX2_letters fu D M x1 = some r) : CT l yX2_letters (ws_ yX2_letters cX2_letters 5 (some .int)) 3 53 0 0 Γ D [.ref (gadr Γ (4, 0, 8)), .int x1] M foI r := by
  refine CT.of hst (own := RX2) (lv0 := lv_args 0 [.ref (gadr Γ (4, 0, 8)), .int x1]) (by decide +kernel) rfl (Nat.le_of_ble_eq_true rfl) rfl (fun X e1 e2 e3 e4 hC hT => ?_) r hr
  subst e1
  subst e2
  exact wX2_letters hC hT hG e4 fu M x1
set_option linter.unusedVariables false in
set_option maxRecDepth 100000 in
theorem wgX2_addBird_87 {X : JX} (hC : JC X cX2_addBird RX2 none 8 210 0 0) (hT : JT X) (hG : dmI dmX (XG X)) (hnl : nLof X = 4) (fu : Nat) (kn87 : Mem × Int32 → Option TR) (hk87 : ∀ (M : Mem) (x3 : Int32), J X (ZT X foV 0 0) (kn87 (M, x3)) 87 [(0, .ref (gadr (XG X) (4, 0, 8))), (3, .int x3)] [] M 0 0) (M : Mem) (x3 : Int32) : J X (ZT X foV 0 0) (GX2_addBird_87 fu (XD X) kn87 M x3) 87 [(0, .ref (gadr (XG X) (4, 0, 8))), (3, .int x3)] [] M 0 0 := by
  unfold GX2_addBird_87
  refine j_iload_n hC 1 dX2_addBird_87 rfl ?_
  refine j_iconst (v := 4) hC dX2_addBird_88 (by decide) ?_
  refine j_icmp_ge (tgt := 119) hC dX2_addBird_89 (by decide) (fun h89 => ?_) (fun h89 => ?_)
  · refine j_aload_n hC 0 dX2_addBird_119 rfl ?_
    refine j_getR (fk := 4) hC (dmY hG rfl) rfl rfl in_X2 rfl rfl q429 rfl dX2_addBird_120 ?_
    refine j_dup hC dX2_addBird_123 rfl ?_
    refine j_getNI (fk := 7) hC (dmS hG (by decide) rfl) rfl rfl in_X3 rfl rfl q274 rfl dX2_addBird_124 ?_
    refine j_iconst (v := 1) hC dX2_addBird_127 (by decide) ?_
    refine j_iadd hC dX2_addBird_128 ?_
    refine j_putN (fk := 7) (ty := .int) hC (dmS hG (by decide) rfl) rfl rfl in_X3 rfl rfl q274 tyX3 tyX3_ok nmX3 rfl rfl (by decide +kernel) rfl rfl dX2_addBird_129 ?_
    refine j_lt (fun M129 => ?_)
    exact j_vretT hC rfl rfl dX2_addBird_132
  · refine j_aload_n hC 0 dX2_addBird_92 rfl ?_
    refine j_getR (fk := 4) hC (dmY hG rfl) rfl rfl in_X2 rfl rfl q429 rfl dX2_addBird_93 ?_
    refine j_getNR (fk := 3) hC (dmS hG (by decide) rfl) rfl rfl in_X3 rfl rfl q265 rfl dX2_addBird_96 ?_
    refine j_bipush (v := 6) hC dX2_addBird_99 (by decide) ?_
    refine j_iload_n hC 1 dX2_addBird_101 rfl ?_
    refine j_imul hC dX2_addBird_102 ?_
    refine j_aload_n hC 0 dX2_addBird_103 rfl ?_
    refine j_getR (fk := 4) hC (dmY hG rfl) rfl rfl in_X2 rfl rfl q429 rfl dX2_addBird_104 ?_
    refine j_getNI (fk := 7) hC (dmS hG (by decide) rfl) rfl rfl in_X3 rfl rfl q274 rfl dX2_addBird_107 ?_
    refine j_iadd hC dX2_addBird_110 ?_
    refine j_iconst (v := 0) hC dX2_addBird_111 (by decide) ?_
    refine j_iast hC (dmS hG (by decide) rfl) rfl dX2_addBird_112 (fun h112 => ?_)
    refine j_lt (fun M112 => ?_)
    refine j_iincL hC 1 (fun y113 => [(3, .int y113), (0, .ref (gadr (XG X) (4, 0, 8)))]) hnl dX2_addBird_113 rfl (by decide) rfl (fun _ => rfl) (fun y113 => ?_)
    refine j_goto (tgt := 87) hC dX2_addBird_116 (by decide) ?_
    exact j_sub [1, 0] rfl (hk87 M112 y113)
set_option linter.unusedVariables false in
set_option maxRecDepth 100000 in
theorem wX2_addBird_87 {X : JX} (hC : JC X cX2_addBird RX2 none 8 210 0 0) (hT : JT X) (hG : dmI dmX (XG X)) (hnl : nLof X = 4) (fu : Nat) (M : Mem) (x3 : Int32) : J X (ZT X foV 0 0) (FX2_addBird_87 fu (XD X) M x3) 87 [(0, .ref (gadr (XG X) (4, 0, 8))), (3, .int x3)] [] M 0 0 := by
  exact j_lp (lvf := fun z => [(0, .ref (gadr (XG X) (4, 0, 8))), (3, .int (z.2))]) (Mf := fun z => z.1) (fun kn hk z => wgX2_addBird_87 hC hT hG hnl fu kn (fun M x3 => hk (M, x3)) z.1 z.2) fu (M, x3)
set_option linter.unusedVariables false in
set_option maxRecDepth 100000 in
theorem wX2_addBird_17 {X : JX} (hC : JC X cX2_addBird RX2 none 8 210 0 0) (hT : JT X) (hG : dmI dmX (XG X)) (hnl : nLof X = 4) (fu : Nat) (M : Mem) : J X (ZT X foV 0 0) (FX2_addBird_17 fu (XD X) M) 17 [(0, .ref (gadr (XG X) (4, 0, 8)))] [] M 0 0 := by
  unfold FX2_addBird_17
  refine j_aload_n hC 0 dX2_addBird_17 rfl ?_
  refine j_getR (fk := 4) hC (dmY hG rfl) rfl rfl in_X2 rfl rfl q429 rfl dX2_addBird_18 ?_
  refine j_getNR (fk := 0) hC (dmS hG (by decide) rfl) rfl rfl in_X3 rfl rfl q258 rfl dX2_addBird_21 ?_
  refine j_aload_n hC 0 dX2_addBird_24 rfl ?_
  refine j_getR (fk := 4) hC (dmY hG rfl) rfl rfl in_X2 rfl rfl q429 rfl dX2_addBird_25 ?_
  refine j_getNI (fk := 7) hC (dmS hG (by decide) rfl) rfl rfl in_X3 rfl rfl q274 rfl dX2_addBird_28 ?_
  refine j_aald3 (d := (1, 2, ((M (0, 2, 0) 7).toNatClampNeg))) hC (dmS hG (by decide) rfl) rfl rfl dX2_addBird_31 (fun h31 => ?_)
  refine j_astore_n hC [(2, .ref (gadr (XG X) (1, 2, ((M (0, 2, 0) 7).toNatClampNeg)))), (0, .ref (gadr (XG X) (4, 0, 8)))] hnl dX2_addBird_32 rfl rfl ?_
  refine j_aload_n hC 0 dX2_addBird_33 rfl ?_
  refine j_aload_n hC 1 dX2_addBird_34 rfl ?_
  refine j_ldcS (tx := "falls") (i := 8) hC (by decide) dX2_addBird_35 ?_
  refine j_iconst (v := 0) hC dX2_addBird_37 (by decide) ?_
  refine j_iconst (v := 4) hC dX2_addBird_38 (by decide) ?_
  refine j_callVT (nA := 3) (rest := [.ref (gadr (XG X) (1, 2, ((M (0, 2, 0) 7).toNatClampNeg)))]) hC hT [.ref (gadr (XG X) (6, 0, 8)), .int 0, .int 4] rfl (fun r hr => mX2_after (XL X) (JT.st hT) (XG X) hG fu (XD X) 8 (by decide) M 0 4 r hr) q828 q830 qs16 q127 q831 (dmY hG rfl) rfl rfl (by decide +kernel) rfl rfl rfl rfl rfl rfl dX2_addBird_39 (fun v39 => [.int v39, .ref (gadr (XG X) (1, 2, ((M (0, 2, 0) 7).toNatClampNeg)))]) (fun _ => rfl) (fun v39 M39 => ?_)
  refine j_putN (fk := 0) (ty := .int) hC (dmB hG (by decide) (vin_lt h31)) rfl rfl in_X4 rfl rfl q202 tyX4 tyX4_ok nmX4 rfl rfl (by decide +kernel) rfl rfl dX2_addBird_42 ?_
  refine j_lt (fun M42 => ?_)
  refine j_aload_n hC 0 dX2_addBird_45 rfl ?_
  refine j_aload_n hC 1 dX2_addBird_46 rfl ?_
  refine j_ldcS (tx := "light") (i := 3) hC (by decide) dX2_addBird_47 ?_
  refine j_iconst (v := 0) hC dX2_addBird_49 (by decide) ?_
  refine j_iconst (v := 3) hC dX2_addBird_50 (by decide) ?_
  refine j_callVT (nA := 3) (rest := [.ref (gadr (XG X) (1, 2, ((M (0, 2, 0) 7).toNatClampNeg)))]) hC hT [.ref (gadr (XG X) (6, 0, 3)), .int 0, .int 3] rfl (fun r hr => mX2_after (XL X) (JT.st hT) (XG X) hG fu (XD X) 3 (by decide) M42 0 3 r hr) q828 q830 qs16 q127 q831 (dmY hG rfl) rfl rfl (by decide +kernel) rfl rfl rfl rfl rfl rfl dX2_addBird_51 (fun v51 => [.int v51, .ref (gadr (XG X) (1, 2, ((M (0, 2, 0) 7).toNatClampNeg)))]) (fun _ => rfl) (fun v51 M51 => ?_)
  refine j_putN (fk := 1) (ty := .int) hC (dmB hG (by decide) (vin_lt h31)) rfl rfl in_X4 rfl rfl q207 tyX4 tyX4_ok nmX4 rfl rfl (by decide +kernel) rfl rfl dX2_addBird_54 ?_
  refine j_lt (fun M54 => ?_)
  refine j_aload_n hC 1 dX2_addBird_57 rfl ?_
  refine j_ldcS (tx := "songs") (i := 9) hC (by decide) dX2_addBird_58 ?_
  refine j_callVT (nA := 1) (rest := []) hC hT [.ref (gadr (XG X) (6, 0, 9))] rfl (fun r hr => mX2_expect (XL X) (JT.st hT) (XG X) hG fu (XD X) 9 (by decide) M54 r hr) q832 q834 qs17 q127 q835 (dmY hG rfl) rfl rfl (by decide +kernel) rfl rfl rfl rfl rfl rfl dX2_addBird_60 (fun _ => []) (fun _ => rfl) (fun v60 M60 => ?_)
  refine j_aload_n hC 0 dX2_addBird_63 rfl ?_
  refine j_aload_n hC 1 dX2_addBird_64 rfl ?_
  refine j_bipush (v := 6) hC dX2_addBird_65 (by decide) ?_
  refine j_callVT (nA := 1) (rest := [.ref (gadr (XG X) (1, 2, ((M (0, 2, 0) 7).toNatClampNeg)))]) hC hT [.int 6] rfl (fun r hr => mX2_letters (XL X) (JT.st hT) (XG X) hG fu (XD X) M60 6 r hr) q845 q847 qs20 q127 q848 (dmY hG rfl) rfl rfl (by decide +kernel) rfl rfl rfl rfl rfl rfl dX2_addBird_67 (fun v67 => [.int v67, .ref (gadr (XG X) (1, 2, ((M (0, 2, 0) 7).toNatClampNeg)))]) (fun _ => rfl) (fun v67 M67 => ?_)
  refine j_putN (fk := 2) (ty := .int) hC (dmB hG (by decide) (vin_lt h31)) rfl rfl in_X4 rfl rfl q210 tyX4 tyX4_ok nmX4 rfl rfl (by decide +kernel) rfl rfl dX2_addBird_70 ?_
  refine j_lt (fun M70 => ?_)
  refine j_aload_n hC 0 dX2_addBird_73 rfl ?_
  refine j_aload_n hC 1 dX2_addBird_74 rfl ?_
  refine j_ldcS (tx := "moults") (i := 10) hC (by decide) dX2_addBird_75 ?_
  refine j_iconst (v := 0) hC dX2_addBird_77 (by decide) ?_
  refine j_iconst (v := 5) hC dX2_addBird_78 (by decide) ?_
  refine j_callVT (nA := 3) (rest := [.ref (gadr (XG X) (1, 2, ((M (0, 2, 0) 7).toNatClampNeg)))]) hC hT [.ref (gadr (XG X) (6, 0, 10)), .int 0, .int 5] rfl (fun r hr => mX2_after (XL X) (JT.st hT) (XG X) hG fu (XD X) 10 (by decide) M70 0 5 r hr) q828 q830 qs16 q127 q831 (dmY hG rfl) rfl rfl (by decide +kernel) rfl rfl rfl rfl rfl rfl dX2_addBird_79 (fun v79 => [.int v79, .ref (gadr (XG X) (1, 2, ((M (0, 2, 0) 7).toNatClampNeg)))]) (fun _ => rfl) (fun v79 M79 => ?_)
  refine j_putN (fk := 3) (ty := .int) hC (dmB hG (by decide) (vin_lt h31)) rfl rfl in_X4 rfl rfl q213 tyX4 tyX4_ok nmX4 rfl rfl (by decide +kernel) rfl rfl dX2_addBird_82 ?_
  refine j_lt (fun M82 => ?_)
  refine j_iconst (v := 0) hC dX2_addBird_85 (by decide) ?_
  refine j_istore_n hC [(3, .int 0), (2, .ref (gadr (XG X) (1, 2, ((M (0, 2, 0) 7).toNatClampNeg)))), (0, .ref (gadr (XG X) (4, 0, 8)))] hnl dX2_addBird_86 rfl rfl ?_
  exact j_sub [2, 0] rfl (wX2_addBird_87 hC hT hG hnl fu M82 0)
set_option linter.unusedVariables false in
set_option maxRecDepth 100000 in
theorem wX2_addBird {X : JX} (hC : JC X cX2_addBird RX2 none 8 210 0 0) (hT : JT X) (hG : dmI dmX (XG X)) (hnl : nLof X = 4) (fu : Nat) (M : Mem) (x1 : Int32) : J X (ZT X foV 0 0) (FX2_addBird fu (XD X) M x1) 0 [(0, .ref (gadr (XG X) (4, 0, 8))), (1, .int x1)] [] M 0 0 := by
  unfold FX2_addBird
  refine j_aload_n hC 0 dX2_addBird_0 rfl ?_
  refine j_getR (fk := 4) hC (dmY hG rfl) rfl rfl in_X2 rfl rfl q429 rfl dX2_addBird_1 ?_
  refine j_getNI (fk := 7) hC (dmS hG (by decide) rfl) rfl rfl in_X3 rfl rfl q274 rfl dX2_addBird_4 ?_
  refine j_bipush (v := 6) hC dX2_addBird_7 (by decide) ?_
  refine j_icmp_ne (tgt := 17) hC dX2_addBird_9 (by decide) (fun h9 => ?_) (fun h9 => ?_)
  · refine j_aload_n hC 0 dX2_addBird_12 rfl ?_
    refine j_iload_n hC 1 dX2_addBird_13 rfl ?_
    refine j_callVT (nA := 1) (rest := []) hC hT [.int x1] rfl (fun r hr => mX2_fail (XL X) (JT.st hT) (XG X) hG fu (XD X) M x1 r hr) q763 q765 qs12 q127 q766 (dmY hG rfl) rfl rfl (by decide +kernel) rfl rfl rfl rfl rfl rfl dX2_addBird_14 (fun _ => []) (fun _ => rfl) (fun v14 M14 => ?_)
    exact j_sub [0] rfl (wX2_addBird_17 hC hT hG hnl fu M14)
  · exact j_sub [0] rfl (wX2_addBird_17 hC hT hG hnl fu M)
set_option linter.unusedVariables false in
set_option maxRecDepth 100000 in
theorem mX2_addBird (l : Launch) (hst : l.stackTraces = false) (Γ : xG) (hG : dmI dmX Γ) (fu : Nat) (D : List LDen) (M : Mem) (x1 : Int32) (r : TR) (hr : FX2_addBird fu D M x1 = some r) : CT l yX2_addBird (ws_ yX2_addBird cX2_addBird 4 none) 8 210 0 0 Γ D [.ref (gadr Γ (4, 0, 8)), .int x1] M foV r := by
  refine CT.of hst (own := RX2) (lv0 := lv_args 0 [.ref (gadr Γ (4, 0, 8)), .int x1]) (by decide +kernel) rfl (Nat.le_of_ble_eq_true rfl) rfl (fun X e1 e2 e3 e4 hC hT => ?_) r hr
  subst e1
  subst e2
  exact wX2_addBird hC hT hG e4 fu M x1
set_option linter.unusedVariables false in
set_option maxRecDepth 100000 in
theorem wX2_addCounsel_146 {X : JX} (hC : JC X cX2_addCounsel RX2 none 3 53 0 0) (hT : JT X) (hG : dmI dmX (XG X)) (hnl : nLof X = 4) (fu : Nat) (M : Mem) : J X (ZT X foV 0 0) (FX2_addCounsel_146 fu (XD X) M) 146 [(0, .ref (gadr (XG X) (4, 0, 8)))] [] M 0 0 := by
  unfold FX2_addCounsel_146
  refine j_aload_n hC 0 dX2_addCounsel_146 rfl ?_
  refine j_getR (fk := 4) hC (dmY hG rfl) rfl rfl in_X2 rfl rfl q429 rfl dX2_addCounsel_147 ?_
  refine j_dup hC dX2_addCounsel_150 rfl ?_
  refine j_getNI (fk := 8) hC (dmS hG (by decide) rfl) rfl rfl in_X3 rfl rfl q277 rfl dX2_addCounsel_151 ?_
  refine j_iconst (v := 1) hC dX2_addCounsel_154 (by decide) ?_
  refine j_iadd hC dX2_addCounsel_155 ?_
  refine j_putN (fk := 8) (ty := .int) hC (dmS hG (by decide) rfl) rfl rfl in_X3 rfl rfl q277 tyX3 tyX3_ok nmX3 rfl rfl (by decide +kernel) rfl rfl dX2_addCounsel_156 ?_
  refine j_lt (fun M156 => ?_)
  exact j_vretT hC rfl rfl dX2_addCounsel_159
set_option linter.unusedVariables false in
set_option maxRecDepth 100000 in
theorem wX2_addCounsel_141 {X : JX} (hC : JC X cX2_addCounsel RX2 none 3 53 0 0) (hT : JT X) (hG : dmI dmX (XG X)) (hnl : nLof X = 4) (fu : Nat) (M : Mem) (x2 : Int32) : J X (ZT X foV 0 0) (FX2_addCounsel_141 fu (XD X) M x2) 141 [(0, .ref (gadr (XG X) (4, 0, 8))), (2, .int x2)] [] M 0 0 := by
  unfold FX2_addCounsel_141
  refine j_aload_n hC 0 dX2_addCounsel_141 rfl ?_
  refine j_iload_n hC 1 dX2_addCounsel_142 rfl ?_
  refine j_callVT (nA := 1) (rest := []) hC hT [.int x2] rfl (fun r hr => mX2_fail (XL X) (JT.st hT) (XG X) hG fu (XD X) M x2 r hr) q763 q765 qs12 q127 q766 (dmY hG rfl) rfl rfl (by decide +kernel) rfl rfl rfl rfl rfl rfl dX2_addCounsel_143 (fun _ => []) (fun _ => rfl) (fun v143 M143 => ?_)
  exact j_sub [0] rfl (wX2_addCounsel_146 hC hT hG hnl fu M143)
set_option linter.unusedVariables false in
set_option maxRecDepth 100000 in
theorem wX2_addCounsel_126 {X : JX} (hC : JC X cX2_addCounsel RX2 none 3 53 0 0) (hT : JT X) (hG : dmI dmX (XG X)) (hnl : nLof X = 4) (fu : Nat) (M : Mem) (x2 x3 : Int32) : J X (ZT X foV 0 0) (FX2_addCounsel_126 fu (XD X) M x2 x3) 126 [(0, .ref (gadr (XG X) (4, 0, 8))), (2, .int x2), (3, .int x3)] [] M 0 0 := by
  unfold FX2_addCounsel_126
  refine j_iload_n hC 2 dX2_addCounsel_126 rfl ?_
  refine j_if_eq (tgt := 141) hC dX2_addCounsel_127 (by decide) (fun h127 => ?_) (fun h127 => ?_)
  · exact j_sub [0, 1] rfl (wX2_addCounsel_141 hC hT hG hnl fu M x2)
  · refine j_iload_n hC 2 dX2_addCounsel_130 rfl ?_
    refine j_aload_n hC 0 dX2_addCounsel_131 rfl ?_
    refine j_getR (fk := 4) hC (dmY hG rfl) rfl rfl in_X2 rfl rfl q429 rfl dX2_addCounsel_132 ?_
    refine j_getNI (fk := 7) hC (dmS hG (by decide) rfl) rfl rfl in_X3 rfl rfl q274 rfl dX2_addCounsel_135 ?_
    refine j_icmp_ge (tgt := 146) hC dX2_addCounsel_138 (by decide) (fun h138 => ?_) (fun h138 => ?_)
    · exact j_sub [0] rfl (wX2_addCounsel_146 hC hT hG hnl fu M)
    · exact j_sub [0, 1] rfl (wX2_addCounsel_141 hC hT hG hnl fu M x2)
set_option linter.unusedVariables false in
set_option maxRecDepth 100000 in
theorem wX2_addCounsel_78 {X : JX} (hC : JC X cX2_addCounsel RX2 none 3 53 0 0) (hT : JT X) (hG : dmI dmX (XG X)) (hnl : nLof X = 4) (fu : Nat) (kn23 : Mem × Int32 × Int32 → Option TR) (hk23 : ∀ (M : Mem) (x2 x3 : Int32), J X (ZT X foV 0 0) (kn23 (M, x2, x3)) 23 [(0, .ref (gadr (XG X) (4, 0, 8))), (2, .int x2), (3, .int x3)] [] M 0 0) (M : Mem) (x2 x3 : Int32) : J X (ZT X foV 0 0) (FX2_addCounsel_78 fu (XD X) kn23 M x2 x3) 78 [(0, .ref (gadr (XG X) (4, 0, 8))), (2, .int x2), (3, .int x3)] [] M 0 0 := by
  unfold FX2_addCounsel_78
  refine j_aload_n hC 0 dX2_addCounsel_78 rfl ?_
  refine j_getR (fk := 4) hC (dmY hG rfl) rfl rfl in_X2 rfl rfl q429 rfl dX2_addCounsel_79 ?_
  refine j_getNR (fk := 3) hC (dmS hG (by decide) rfl) rfl rfl in_X3 rfl rfl q265 rfl dX2_addCounsel_82 ?_
  refine j_bipush (v := 6) hC dX2_addCounsel_85 (by decide) ?_
  refine j_aload_n hC 0 dX2_addCounsel_87 rfl ?_
  refine j_getR (fk := 4) hC (dmY hG rfl) rfl rfl in_X2 rfl rfl q429 rfl dX2_addCounsel_88 ?_
  refine j_getNI (fk := 8) hC (dmS hG (by decide) rfl) rfl rfl in_X3 rfl rfl q277 rfl dX2_addCounsel_91 ?_
  refine j_imul hC dX2_addCounsel_94 ?_
  refine j_iload_n hC 2 dX2_addCounsel_95 rfl ?_
  refine j_iadd hC dX2_addCounsel_96 ?_
  refine j_aload_n hC 0 dX2_addCounsel_97 rfl ?_
  refine j_getR (fk := 0) hC (dmY hG rfl) rfl rfl in_X2 rfl rfl q423 rfl dX2_addCounsel_98 ?_
  refine j_aload_n hC 0 dX2_addCounsel_101 rfl ?_
  refine j_getI (fk := 8) hC (dmY hG rfl) rfl rfl in_X2 rfl rfl q433 rfl dX2_addCounsel_102 ?_
  refine j_bald hC (dmY hG rfl) rfl dX2_addCounsel_105 (fun h105 => ?_)
  refine j_bipush (v := 48) hC dX2_addCounsel_106 (by decide) ?_
  refine j_isub hC dX2_addCounsel_108 ?_
  refine j_iast hC (dmS hG (by decide) rfl) rfl dX2_addCounsel_109 (fun h109 => ?_)
  refine j_lt (fun M109 => ?_)
  refine j_iincL hC 2 (fun y110 => [(3, .int y110), (0, .ref (gadr (XG X) (4, 0, 8))), (2, .int x2)]) hnl dX2_addCounsel_110 rfl (by decide) rfl (fun _ => rfl) (fun y110 => ?_)
  refine j_aload_n hC 1 dX2_addCounsel_113 rfl ?_
  refine j_dup hC dX2_addCounsel_114 rfl ?_
  refine j_getI (fk := 8) hC (dmY hG rfl) rfl rfl in_X2 rfl rfl q433 rfl dX2_addCounsel_115 ?_
  refine j_iconst (v := 1) hC dX2_addCounsel_118 (by decide) ?_
  refine j_iadd hC dX2_addCounsel_119 ?_
  refine j_put (fk := 8) (ty := .int) hC (dmY hG rfl) rfl rfl in_X2 rfl rfl q433 tyX2 tyX2_ok nmX2 rfl rfl (by decide +kernel) rfl rfl dX2_addCounsel_120 ?_
  refine j_lt (fun M120 => ?_)
  refine j_goto (tgt := 23) hC dX2_addCounsel_123 (by decide) ?_
  exact j_sub [1, 2, 0] rfl (hk23 M120 x2 y110)
set_option linter.unusedVariables false in
set_option maxRecDepth 100000 in
theorem wgX2_addCounsel_23 {X : JX} (hC : JC X cX2_addCounsel RX2 none 3 53 0 0) (hT : JT X) (hG : dmI dmX (XG X)) (hnl : nLof X = 4) (fu : Nat) (kn23 : Mem × Int32 × Int32 → Option TR) (hk23 : ∀ (M : Mem) (x2 x3 : Int32), J X (ZT X foV 0 0) (kn23 (M, x2, x3)) 23 [(0, .ref (gadr (XG X) (4, 0, 8))), (2, .int x2), (3, .int x3)] [] M 0 0) (M : Mem) (x2 x3 : Int32) : J X (ZT X foV 0 0) (GX2_addCounsel_23 fu (XD X) kn23 M x2 x3) 23 [(0, .ref (gadr (XG X) (4, 0, 8))), (2, .int x2), (3, .int x3)] [] M 0 0 := by
  unfold GX2_addCounsel_23
  refine j_aload_n hC 0 dX2_addCounsel_23 rfl ?_
  refine j_getI (fk := 8) hC (dmY hG rfl) rfl rfl in_X2 rfl rfl q433 rfl dX2_addCounsel_24 ?_
  refine j_aload_n hC 0 dX2_addCounsel_27 rfl ?_
  refine j_getI (fk := 7) hC (dmY hG rfl) rfl rfl in_X2 rfl rfl q432 rfl dX2_addCounsel_28 ?_
  refine j_icmp_ge (tgt := 126) hC dX2_addCounsel_31 (by decide) (fun h31 => ?_) (fun h31 => ?_)
  · exact j_sub [0, 1, 2] rfl (wX2_addCounsel_126 hC hT hG hnl fu M x2 x3)
  · refine j_aload_n hC 0 dX2_addCounsel_34 rfl ?_
    refine j_getR (fk := 0) hC (dmY hG rfl) rfl rfl in_X2 rfl rfl q423 rfl dX2_addCounsel_35 ?_
    refine j_aload_n hC 0 dX2_addCounsel_38 rfl ?_
    refine j_getI (fk := 8) hC (dmY hG rfl) rfl rfl in_X2 rfl rfl q433 rfl dX2_addCounsel_39 ?_
    refine j_bald hC (dmY hG rfl) rfl dX2_addCounsel_42 (fun h42 => ?_)
    refine j_bipush (v := 48) hC dX2_addCounsel_43 (by decide) ?_
    refine j_icmp_lt (tgt := 126) hC dX2_addCounsel_45 (by decide) (fun h45 => ?_) (fun h45 => ?_)
    · exact j_sub [0, 1, 2] rfl (wX2_addCounsel_126 hC hT hG hnl fu M x2 x3)
    · refine j_aload_n hC 0 dX2_addCounsel_48 rfl ?_
      refine j_getR (fk := 0) hC (dmY hG rfl) rfl rfl in_X2 rfl rfl q423 rfl dX2_addCounsel_49 ?_
      refine j_aload_n hC 0 dX2_addCounsel_52 rfl ?_
      refine j_getI (fk := 8) hC (dmY hG rfl) rfl rfl in_X2 rfl rfl q433 rfl dX2_addCounsel_53 ?_
      refine j_bald hC (dmY hG rfl) rfl dX2_addCounsel_56 (fun h56 => ?_)
      refine j_bipush (v := 57) hC dX2_addCounsel_57 (by decide) ?_
      refine j_icmp_gt (tgt := 126) hC dX2_addCounsel_59 (by decide) (fun h59 => ?_) (fun h59 => ?_)
      · exact j_sub [0, 1, 2] rfl (wX2_addCounsel_126 hC hT hG hnl fu M x2 x3)
      · refine j_iload_n hC 2 dX2_addCounsel_62 rfl ?_
        refine j_aload_n hC 0 dX2_addCounsel_63 rfl ?_
        refine j_getR (fk := 4) hC (dmY hG rfl) rfl rfl in_X2 rfl rfl q429 rfl dX2_addCounsel_64 ?_
        refine j_getNI (fk := 7) hC (dmS hG (by decide) rfl) rfl rfl in_X3 rfl rfl q274 rfl dX2_addCounsel_67 ?_
        refine j_icmp_ne (tgt := 78) hC dX2_addCounsel_70 (by decide) (fun h70 => ?_) (fun h70 => ?_)
        · refine j_aload_n hC 0 dX2_addCounsel_73 rfl ?_
          refine j_iload_n hC 1 dX2_addCounsel_74 rfl ?_
          refine j_callVT (nA := 1) (rest := []) hC hT [.int x2] rfl (fun r hr => mX2_fail (XL X) (JT.st hT) (XG X) hG fu (XD X) M x2 r hr) q763 q765 qs12 q127 q766 (dmY hG rfl) rfl rfl (by decide +kernel) rfl rfl rfl rfl rfl rfl dX2_addCounsel_75 (fun _ => []) (fun _ => rfl) (fun v75 M75 => ?_)
          exact j_sub [0, 1, 2] rfl (wX2_addCounsel_78 hC hT hG hnl fu kn23 hk23 M75 x2 x3)
        · exact j_sub [0, 1, 2] rfl (wX2_addCounsel_78 hC hT hG hnl fu kn23 hk23 M x2 x3)
set_option linter.unusedVariables false in
set_option maxRecDepth 100000 in
theorem wX2_addCounsel_23 {X : JX} (hC : JC X cX2_addCounsel RX2 none 3 53 0 0) (hT : JT X) (hG : dmI dmX (XG X)) (hnl : nLof X = 4) (fu : Nat) (M : Mem) (x2 x3 : Int32) : J X (ZT X foV 0 0) (FX2_addCounsel_23 fu (XD X) M x2 x3) 23 [(0, .ref (gadr (XG X) (4, 0, 8))), (2, .int x2), (3, .int x3)] [] M 0 0 := by
  exact j_lp (lvf := fun z => [(0, .ref (gadr (XG X) (4, 0, 8))), (2, .int (z.2.1)), (3, .int (z.2.2))]) (Mf := fun z => z.1) (fun kn hk z => wgX2_addCounsel_23 hC hT hG hnl fu kn (fun M x2 x3 => hk (M, x2, x3)) z.1 z.2.1 z.2.2) fu (M, x2, x3)
set_option linter.unusedVariables false in
set_option maxRecDepth 100000 in
theorem wX2_addCounsel_16 {X : JX} (hC : JC X cX2_addCounsel RX2 none 3 53 0 0) (hT : JT X) (hG : dmI dmX (XG X)) (hnl : nLof X = 4) (fu : Nat) (M : Mem) : J X (ZT X foV 0 0) (FX2_addCounsel_16 fu (XD X) M) 16 [(0, .ref (gadr (XG X) (4, 0, 8)))] [] M 0 0 := by
  unfold FX2_addCounsel_16
  refine j_aload_n hC 0 dX2_addCounsel_16 rfl ?_
  refine j_callV (nA := 0) (rest := []) hC [] rfl (fun r hr => mX2_here (XL X) (XG X) hG fu (XD X) M r hr) q840 q842 qs19 q127 q843 (dmY hG rfl) rfl rfl (by decide +kernel) rfl rfl rfl rfl rfl rfl dX2_addCounsel_17 (fun v17 => [.int v17]) (fun _ => rfl) (fun v17 M17 => ?_)
  refine j_istore_n hC [(2, .int v17), (0, .ref (gadr (XG X) (4, 0, 8)))] hnl dX2_addCounsel_20 rfl rfl ?_
  refine j_iconst (v := 0) hC dX2_addCounsel_21 (by decide) ?_
  refine j_istore_n hC [(3, .int 0), (2, .int v17), (0, .ref (gadr (XG X) (4, 0, 8)))] hnl dX2_addCounsel_22 rfl rfl ?_
  exact j_sub [2, 1, 0] rfl (wX2_addCounsel_23 hC hT hG hnl fu M17 v17 0)
set_option linter.unusedVariables false in
set_option maxRecDepth 100000 in
theorem wX2_addCounsel {X : JX} (hC : JC X cX2_addCounsel RX2 none 3 53 0 0) (hT : JT X) (hG : dmI dmX (XG X)) (hnl : nLof X = 4) (fu : Nat) (M : Mem) (x1 : Int32) : J X (ZT X foV 0 0) (FX2_addCounsel fu (XD X) M x1) 0 [(0, .ref (gadr (XG X) (4, 0, 8))), (1, .int x1)] [] M 0 0 := by
  unfold FX2_addCounsel
  refine j_aload_n hC 0 dX2_addCounsel_0 rfl ?_
  refine j_getR (fk := 4) hC (dmY hG rfl) rfl rfl in_X2 rfl rfl q429 rfl dX2_addCounsel_1 ?_
  refine j_getNI (fk := 8) hC (dmS hG (by decide) rfl) rfl rfl in_X3 rfl rfl q277 rfl dX2_addCounsel_4 ?_
  refine j_iconst (v := 4) hC dX2_addCounsel_7 (by decide) ?_
  refine j_icmp_ne (tgt := 16) hC dX2_addCounsel_8 (by decide) (fun h8 => ?_) (fun h8 => ?_)
  · refine j_aload_n hC 0 dX2_addCounsel_11 rfl ?_
    refine j_iload_n hC 1 dX2_addCounsel_12 rfl ?_
    refine j_callVT (nA := 1) (rest := []) hC hT [.int x1] rfl (fun r hr => mX2_fail (XL X) (JT.st hT) (XG X) hG fu (XD X) M x1 r hr) q763 q765 qs12 q127 q766 (dmY hG rfl) rfl rfl (by decide +kernel) rfl rfl rfl rfl rfl rfl dX2_addCounsel_13 (fun _ => []) (fun _ => rfl) (fun v13 M13 => ?_)
    exact j_sub [0] rfl (wX2_addCounsel_16 hC hT hG hnl fu M13)
  · exact j_sub [0] rfl (wX2_addCounsel_16 hC hT hG hnl fu M)
set_option linter.unusedVariables false in
set_option maxRecDepth 100000 in
theorem mX2_addCounsel (l : Launch) (hst : l.stackTraces = false) (Γ : xG) (hG : dmI dmX Γ) (fu : Nat) (D : List LDen) (M : Mem) (x1 : Int32) (r : TR) (hr : FX2_addCounsel fu D M x1 = some r) : CT l yX2_addCounsel (ws_ yX2_addCounsel cX2_addCounsel 4 none) 3 53 0 0 Γ D [.ref (gadr Γ (4, 0, 8)), .int x1] M foV r := by
  refine CT.of hst (own := RX2) (lv0 := lv_args 0 [.ref (gadr Γ (4, 0, 8)), .int x1]) (by decide +kernel) rfl (Nat.le_of_ble_eq_true rfl) rfl (fun X e1 e2 e3 e4 hC hT => ?_) r hr
  subst e1
  subst e2
  exact wX2_addCounsel hC hT hG e4 fu M x1
set_option linter.unusedVariables false in
set_option maxRecDepth 100000 in
theorem wX2_addCase_90 {X : JX} (hC : JC X cX2_addCase RX2 none 7 187 0 0) (hT : JT X) (hG : dmI dmX (XG X)) (hnl : nLof X = 4) (fu : Nat) (n2 : Nat) (hn2 : n2 < 12) (M : Mem) : J X (ZT X foV 0 0) (FX2_addCase_90 fu (XD X) n2 M) 90 [(0, .ref (gadr (XG X) (4, 0, 8))), (2, .ref (gadr (XG X) (2, 2, n2)))] [] M 0 0 := by
  unfold FX2_addCase_90
  refine j_aload_n hC 0 dX2_addCase_90 rfl ?_
  refine j_ldcS (tx := "present") (i := 13) hC (by decide) dX2_addCase_91 ?_
  refine j_callVT (nA := 1) (rest := []) hC hT [.ref (gadr (XG X) (6, 0, 13))] rfl (fun r hr => mX2_expect (XL X) (JT.st hT) (XG X) hG fu (XD X) 13 (by decide) M r hr) q832 q834 qs17 q127 q835 (dmY hG rfl) rfl rfl (by decide +kernel) rfl rfl rfl rfl rfl rfl dX2_addCase_93 (fun _ => []) (fun _ => rfl) (fun v93 M93 => ?_)
  refine j_aload_n hC 1 dX2_addCase_96 rfl ?_
  refine j_aload_n hC 0 dX2_addCase_97 rfl ?_
  refine j_aload_n hC 0 dX2_addCase_98 rfl ?_
  refine j_getR (fk := 4) hC (dmY hG rfl) rfl rfl in_X2 rfl rfl q429 rfl dX2_addCase_99 ?_
  refine j_getNI (fk := 7) hC (dmS hG (by decide) rfl) rfl rfl in_X3 rfl rfl q274 rfl dX2_addCase_102 ?_
  refine j_callVT (nA := 1) (rest := [.ref (gadr (XG X) (2, 2, n2))]) hC hT [.int (M93 (0, 2, 0) 7)] rfl (fun r hr => mX2_letters (XL X) (JT.st hT) (XG X) hG fu (XD X) M93 (M93 (0, 2, 0) 7) r hr) q845 q847 qs20 q127 q848 (dmY hG rfl) rfl rfl (by decide +kernel) rfl rfl rfl rfl rfl rfl dX2_addCase_105 (fun v105 => [.int v105, .ref (gadr (XG X) (2, 2, n2))]) (fun _ => rfl) (fun v105 M105 => ?_)
  refine j_putN (fk := 2) (ty := .int) hC (dmC hG (by decide) hn2) rfl rfl in_X5 rfl rfl q241 tyX5 tyX5_ok nmX5 rfl rfl (by decide +kernel) rfl rfl dX2_addCase_108 ?_
  refine j_lt (fun M108 => ?_)
  refine j_aload_n hC 1 dX2_addCase_111 rfl ?_
  refine j_iconst (v := 0) hC dX2_addCase_112 (by decide) ?_
  refine j_putN (fk := 3) (ty := .int) hC (dmC hG (by decide) hn2) rfl rfl in_X5 rfl rfl q244 tyX5 tyX5_ok nmX5 rfl rfl (by decide +kernel) rfl rfl dX2_addCase_113 ?_
  refine j_lt (fun M113 => ?_)
  refine j_aload_n hC 0 dX2_addCase_116 rfl ?_
  refine j_getR (fk := 4) hC (dmY hG rfl) rfl rfl in_X2 rfl rfl q429 rfl dX2_addCase_117 ?_
  refine j_dup hC dX2_addCase_120 rfl ?_
  refine j_getNI (fk := 9) hC (dmS hG (by decide) rfl) rfl rfl in_X3 rfl rfl q280 rfl dX2_addCase_121 ?_
  refine j_iconst (v := 1) hC dX2_addCase_124 (by decide) ?_
  refine j_iadd hC dX2_addCase_125 ?_
  refine j_putN (fk := 9) (ty := .int) hC (dmS hG (by decide) rfl) rfl rfl in_X3 rfl rfl q280 tyX3 tyX3_ok nmX3 rfl rfl (by decide +kernel) rfl rfl dX2_addCase_126 ?_
  refine j_lt (fun M126 => ?_)
  exact j_vretT hC rfl rfl dX2_addCase_129
set_option linter.unusedVariables false in
set_option maxRecDepth 100000 in
theorem wX2_addCase_17 {X : JX} (hC : JC X cX2_addCase RX2 none 7 187 0 0) (hT : JT X) (hG : dmI dmX (XG X)) (hnl : nLof X = 4) (fu : Nat) (M : Mem) : J X (ZT X foV 0 0) (FX2_addCase_17 fu (XD X) M) 17 [(0, .ref (gadr (XG X) (4, 0, 8)))] [] M 0 0 := by
  unfold FX2_addCase_17
  refine j_aload_n hC 0 dX2_addCase_17 rfl ?_
  refine j_getR (fk := 4) hC (dmY hG rfl) rfl rfl in_X2 rfl rfl q429 rfl dX2_addCase_18 ?_
  refine j_getNR (fk := 1) hC (dmS hG (by decide) rfl) rfl rfl in_X3 rfl rfl q261 rfl dX2_addCase_21 ?_
  refine j_aload_n hC 0 dX2_addCase_24 rfl ?_
  refine j_getR (fk := 4) hC (dmY hG rfl) rfl rfl in_X2 rfl rfl q429 rfl dX2_addCase_25 ?_
  refine j_getNI (fk := 9) hC (dmS hG (by decide) rfl) rfl rfl in_X3 rfl rfl q280 rfl dX2_addCase_28 ?_
  refine j_aald4 (d := (2, 2, ((M (0, 2, 0) 9).toNatClampNeg))) hC (dmS hG (by decide) rfl) rfl rfl dX2_addCase_31 (fun h31 => ?_)
  refine j_astore_n hC [(2, .ref (gadr (XG X) (2, 2, ((M (0, 2, 0) 9).toNatClampNeg)))), (0, .ref (gadr (XG X) (4, 0, 8)))] hnl dX2_addCase_32 rfl rfl ?_
  refine j_aload_n hC 0 dX2_addCase_33 rfl ?_
  refine j_aload_n hC 1 dX2_addCase_34 rfl ?_
  refine j_iconst (v := 0) hC dX2_addCase_35 (by decide) ?_
  refine j_aload_n hC 1 dX2_addCase_36 rfl ?_
  refine j_getR (fk := 4) hC (dmY hG rfl) rfl rfl in_X2 rfl rfl q429 rfl dX2_addCase_37 ?_
  refine j_getNI (fk := 8) hC (dmS hG (by decide) rfl) rfl rfl in_X3 rfl rfl q277 rfl dX2_addCase_40 ?_
  refine j_iconst (v := 1) hC dX2_addCase_43 (by decide) ?_
  refine j_isub hC dX2_addCase_44 ?_
  refine j_callVT (nA := 2) (rest := [.ref (gadr (XG X) (2, 2, ((M (0, 2, 0) 9).toNatClampNeg)))]) hC hT [.int 0, .int ((M (0, 2, 0) 8) - 1)] rfl (fun r hr => mX2_number (XL X) (JT.st hT) (XG X) hG fu (XD X) M 0 ((M (0, 2, 0) 8) - 1) r hr) q836 q838 qs18 q127 q839 (dmY hG rfl) rfl rfl (by decide +kernel) rfl rfl rfl rfl rfl rfl dX2_addCase_45 (fun v45 => [.int v45, .ref (gadr (XG X) (2, 2, ((M (0, 2, 0) 9).toNatClampNeg)))]) (fun _ => rfl) (fun v45 M45 => ?_)
  refine j_putN (fk := 0) (ty := .int) hC (dmC hG (by decide) (vin_lt h31)) rfl rfl in_X5 rfl rfl q233 tyX5 tyX5_ok nmX5 rfl rfl (by decide +kernel) rfl rfl dX2_addCase_48 ?_
  refine j_lt (fun M48 => ?_)
  refine j_aload_n hC 1 dX2_addCase_51 rfl ?_
  refine j_callV (nA := 0) (rest := []) hC [] rfl (fun r hr => mX2_here (XL X) (XG X) hG fu (XD X) M48 r hr) q840 q842 qs19 q127 q843 (dmY hG rfl) rfl rfl (by decide +kernel) rfl rfl rfl rfl rfl rfl dX2_addCase_52 (fun v52 => [.int v52]) (fun _ => rfl) (fun v52 M52 => ?_)
  refine j_istore_n hC [(3, .int v52), (2, .ref (gadr (XG X) (2, 2, ((M (0, 2, 0) 9).toNatClampNeg)))), (0, .ref (gadr (XG X) (4, 0, 8)))] hnl dX2_addCase_55 rfl rfl ?_
  refine j_aload_n hC 1 dX2_addCase_56 rfl ?_
  refine j_aload_n hC 2 dX2_addCase_57 rfl ?_
  refine j_iconst (v := 0) hC dX2_addCase_58 (by decide) ?_
  refine j_aload_n hC 2 dX2_addCase_59 rfl ?_
  refine j_getR (fk := 4) hC (dmY hG rfl) rfl rfl in_X2 rfl rfl q429 rfl dX2_addCase_60 ?_
  refine j_getNI (fk := 8) hC (dmS hG (by decide) rfl) rfl rfl in_X3 rfl rfl q277 rfl dX2_addCase_63 ?_
  refine j_iconst (v := 1) hC dX2_addCase_66 (by decide) ?_
  refine j_isub hC dX2_addCase_67 ?_
  refine j_callVT (nA := 2) (rest := [.ref (gadr (XG X) (2, 2, ((M (0, 2, 0) 9).toNatClampNeg)))]) hC hT [.int 0, .int ((M52 (0, 2, 0) 8) - 1)] rfl (fun r hr => mX2_number (XL X) (JT.st hT) (XG X) hG fu (XD X) M52 0 ((M52 (0, 2, 0) 8) - 1) r hr) q836 q838 qs18 q127 q839 (dmY hG rfl) rfl rfl (by decide +kernel) rfl rfl rfl rfl rfl rfl dX2_addCase_68 (fun v68 => [.int v68, .ref (gadr (XG X) (2, 2, ((M (0, 2, 0) 9).toNatClampNeg)))]) (fun _ => rfl) (fun v68 M68 => ?_)
  refine j_putN (fk := 1) (ty := .int) hC (dmC hG (by decide) (vin_lt h31)) rfl rfl in_X5 rfl rfl q237 tyX5 tyX5_ok nmX5 rfl rfl (by decide +kernel) rfl rfl dX2_addCase_71 ?_
  refine j_lt (fun M71 => ?_)
  refine j_aload_n hC 1 dX2_addCase_74 rfl ?_
  refine j_getNI (fk := 1) hC (dmC hG (by decide) (vin_lt h31)) rfl rfl in_X5 rfl rfl q237 rfl dX2_addCase_75 ?_
  refine j_aload_n hC 1 dX2_addCase_78 rfl ?_
  refine j_getNI (fk := 0) hC (dmC hG (by decide) (vin_lt h31)) rfl rfl in_X5 rfl rfl q233 rfl dX2_addCase_79 ?_
  refine j_icmp_ne (tgt := 90) hC dX2_addCase_82 (by decide) (fun h82 => ?_) (fun h82 => ?_)
  · refine j_aload_n hC 2 dX2_addCase_85 rfl ?_
    refine j_iload_n hC 0 dX2_addCase_86 rfl ?_
    refine j_callVT (nA := 1) (rest := []) hC hT [.int v52] rfl (fun r hr => mX2_fail (XL X) (JT.st hT) (XG X) hG fu (XD X) M71 v52 r hr) q763 q765 qs12 q127 q766 (dmY hG rfl) rfl rfl (by decide +kernel) rfl rfl rfl rfl rfl rfl dX2_addCase_87 (fun _ => []) (fun _ => rfl) (fun v87 M87 => ?_)
    exact j_sub [2, 1] rfl (wX2_addCase_90 hC hT hG hnl fu ((M (0, 2, 0) 9).toNatClampNeg) (vin_lt h31) M87)
  · exact j_sub [2, 1] rfl (wX2_addCase_90 hC hT hG hnl fu ((M (0, 2, 0) 9).toNatClampNeg) (vin_lt h31) M71)
set_option linter.unusedVariables false in
set_option maxRecDepth 100000 in
theorem wX2_addCase {X : JX} (hC : JC X cX2_addCase RX2 none 7 187 0 0) (hT : JT X) (hG : dmI dmX (XG X)) (hnl : nLof X = 4) (fu : Nat) (M : Mem) (x1 : Int32) : J X (ZT X foV 0 0) (FX2_addCase fu (XD X) M x1) 0 [(0, .ref (gadr (XG X) (4, 0, 8))), (1, .int x1)] [] M 0 0 := by
  unfold FX2_addCase
  refine j_aload_n hC 0 dX2_addCase_0 rfl ?_
  refine j_getR (fk := 4) hC (dmY hG rfl) rfl rfl in_X2 rfl rfl q429 rfl dX2_addCase_1 ?_
  refine j_getNI (fk := 9) hC (dmS hG (by decide) rfl) rfl rfl in_X3 rfl rfl q280 rfl dX2_addCase_4 ?_
  refine j_bipush (v := 12) hC dX2_addCase_7 (by decide) ?_
  refine j_icmp_ne (tgt := 17) hC dX2_addCase_9 (by decide) (fun h9 => ?_) (fun h9 => ?_)
  · refine j_aload_n hC 0 dX2_addCase_12 rfl ?_
    refine j_iload_n hC 1 dX2_addCase_13 rfl ?_
    refine j_callVT (nA := 1) (rest := []) hC hT [.int x1] rfl (fun r hr => mX2_fail (XL X) (JT.st hT) (XG X) hG fu (XD X) M x1 r hr) q763 q765 qs12 q127 q766 (dmY hG rfl) rfl rfl (by decide +kernel) rfl rfl rfl rfl rfl rfl dX2_addCase_14 (fun _ => []) (fun _ => rfl) (fun v14 M14 => ?_)
    exact j_sub [0] rfl (wX2_addCase_17 hC hT hG hnl fu M14)
  · exact j_sub [0] rfl (wX2_addCase_17 hC hT hG hnl fu M)
set_option linter.unusedVariables false in
set_option maxRecDepth 100000 in
theorem mX2_addCase (l : Launch) (hst : l.stackTraces = false) (Γ : xG) (hG : dmI dmX Γ) (fu : Nat) (D : List LDen) (M : Mem) (x1 : Int32) (r : TR) (hr : FX2_addCase fu D M x1 = some r) : CT l yX2_addCase (ws_ yX2_addCase cX2_addCase 4 none) 7 187 0 0 Γ D [.ref (gadr Γ (4, 0, 8)), .int x1] M foV r := by
  refine CT.of hst (own := RX2) (lv0 := lv_args 0 [.ref (gadr Γ (4, 0, 8)), .int x1]) (by decide +kernel) rfl (Nat.le_of_ble_eq_true rfl) rfl (fun X e1 e2 e3 e4 hC hT => ?_) r hr
  subst e1
  subst e2
  exact wX2_addCase hC hT hG e4 fu M x1
set_option linter.unusedVariables false in
set_option maxRecDepth 100000 in
theorem wX2_line_232 {X : JX} (hC : JC X cX2_line RX2 none 9 233 0 0) (hT : JT X) (hG : dmI dmX (XG X)) (hnl : nLof X = 5) (fu : Nat) (M : Mem) : J X (ZT X foV 0 0) (FX2_line_232 fu (XD X) M) 232 [] [] M 0 0 := by
  unfold FX2_line_232
  exact j_vretT hC rfl rfl dX2_line_232
set_option linter.unusedVariables false in
set_option maxRecDepth 100000 in
theorem wX2_line_208 {X : JX} (hC : JC X cX2_line RX2 none 9 233 0 0) (hT : JT X) (hG : dmI dmX (XG X)) (hnl : nLof X = 5) (fu : Nat) (M : Mem) (t0 t1 : Int32) : J X (ZT X foV 0 0) (FX2_line_208 fu (XD X) M t0 t1) 208 [] [.int t0, .int t1, .ref (gadr (XG X) (0, 2, 5))] M 0 0 := by
  unfold FX2_line_208
  refine j_iast hC (dmS hG (by decide) rfl) rfl dX2_line_208 (fun h208 => ?_)
  refine j_lt (fun M208 => ?_)
  refine j_goto (tgt := 232) hC dX2_line_209 (by decide) ?_
  exact j_sub [] rfl (wX2_line_232 hC hT hG hnl fu M208)
set_option linter.unusedVariables false in
set_option maxRecDepth 100000 in
theorem wX2_line_180 {X : JX} (hC : JC X cX2_line RX2 none 9 233 0 0) (hT : JT X) (hG : dmI dmX (XG X)) (hnl : nLof X = 5) (fu : Nat) (M : Mem) (x2 x3 : Int32) : J X (ZT X foV 0 0) (FX2_line_180 fu (XD X) M x2 x3) 180 [(0, .ref (gadr (XG X) (4, 0, 8))), (2, .int x2), (3, .int x3)] [] M 0 0 := by
  unfold FX2_line_180
  refine j_aload_n hC 0 dX2_line_180 rfl ?_
  refine j_iconst (v := 0) hC dX2_line_181 (by decide) ?_
  refine j_iconst (v := 3) hC dX2_line_182 (by decide) ?_
  refine j_callVT (nA := 2) (rest := []) hC hT [.int 0, .int 3] rfl (fun r hr => mX2_number (XL X) (JT.st hT) (XG X) hG fu (XD X) M 0 3 r hr) q836 q838 qs18 q127 q839 (dmY hG rfl) rfl rfl (by decide +kernel) rfl rfl rfl rfl rfl rfl dX2_line_183 (fun v183 => [.int v183]) (fun _ => rfl) (fun v183 M183 => ?_)
  refine j_istore hC [(4, .int v183), (0, .ref (gadr (XG X) (4, 0, 8))), (2, .int x2), (3, .int x3)] hnl dX2_line_186 rfl rfl ?_
  refine j_aload_n hC 1 dX2_line_188 rfl ?_
  refine j_getR (fk := 4) hC (dmY hG rfl) rfl rfl in_X2 rfl rfl q429 rfl dX2_line_189 ?_
  refine j_getNR (fk := 4) hC (dmS hG (by decide) rfl) rfl rfl in_X3 rfl rfl q268 rfl dX2_line_192 ?_
  refine j_iload_n hC 2 dX2_line_195 rfl ?_
  refine j_iload_n hC 3 dX2_line_196 rfl ?_
  refine j_if_eq (tgt := 206) hC dX2_line_197 (by decide) (fun h197 => ?_) (fun h197 => ?_)
  · refine j_iload hC 0 dX2_line_206 rfl ?_
    exact j_sub [] rfl (wX2_line_208 hC hT hG hnl fu M183 v183 x2)
  · refine j_iload hC 0 dX2_line_200 rfl ?_
    refine j_ineg hC dX2_line_202 ?_
    refine j_goto (tgt := 208) hC dX2_line_203 (by decide) ?_
    exact j_sub [] rfl (wX2_line_208 hC hT hG hnl fu M183 (-v183) x2)
set_option linter.unusedVariables false in
set_option maxRecDepth 100000 in
theorem wX2_line {X : JX} (hC : JC X cX2_line RX2 none 9 233 0 0) (hT : JT X) (hG : dmI dmX (XG X)) (hnl : nLof X = 5) (fu : Nat) (M : Mem) : J X (ZT X foV 0 0) (FX2_line fu (XD X) M) 0 [(0, .ref (gadr (XG X) (4, 0, 8)))] [] M 0 0 := by
  unfold FX2_line
  refine j_aload_n hC 0 dX2_line_0 rfl ?_
  refine j_getI (fk := 8) hC (dmY hG rfl) rfl rfl in_X2 rfl rfl q433 rfl dX2_line_1 ?_
  refine j_ltT (fun y4 => ?_)
  refine j_istore_n hC [(1, .int y4), (0, .ref (gadr (XG X) (4, 0, 8)))] hnl dX2_line_4 rfl rfl ?_
  refine j_aload_n hC 1 dX2_line_5 rfl ?_
  refine j_ldcS (tx := "bird") (i := 0) hC (by decide) dX2_line_6 ?_
  refine j_callV (nA := 1) (rest := []) hC [.ref (gadr (XG X) (6, 0, 0))] rfl (fun r hr => mX2_takes (XL X) (XG X) hG fu (XD X) 0 (by decide) M r hr) q771 q773 qs14 q127 q774 (dmY hG rfl) rfl rfl (by decide +kernel) rfl rfl rfl rfl rfl rfl dX2_line_8 (fun v8 => [.int v8]) (fun _ => rfl) (fun v8 M8 => ?_)
  refine j_if_eq (tgt := 22) hC dX2_line_11 (by decide) (fun h11 => ?_) (fun h11 => ?_)
  · refine j_aload_n hC 1 dX2_line_22 rfl ?_
    refine j_ldcS (tx := "counsel") (i := 11) hC (by decide) dX2_line_23 ?_
    refine j_callV (nA := 1) (rest := []) hC [.ref (gadr (XG X) (6, 0, 11))] rfl (fun r hr => mX2_takes (XL X) (XG X) hG fu (XD X) 11 (by decide) M8 r hr) q771 q773 qs14 q127 q774 (dmY hG rfl) rfl rfl (by decide +kernel) rfl rfl rfl rfl rfl rfl dX2_line_25 (fun v25 => [.int v25]) (fun _ => rfl) (fun v25 M25 => ?_)
    refine j_if_eq (tgt := 39) hC dX2_line_28 (by decide) (fun h28 => ?_) (fun h28 => ?_)
    · refine j_aload_n hC 1 dX2_line_39 rfl ?_
      refine j_ldcS (tx := "case") (i := 12) hC (by decide) dX2_line_40 ?_
      refine j_callV (nA := 1) (rest := []) hC [.ref (gadr (XG X) (6, 0, 12))] rfl (fun r hr => mX2_takes (XL X) (XG X) hG fu (XD X) 12 (by decide) M25 r hr) q771 q773 qs14 q127 q774 (dmY hG rfl) rfl rfl (by decide +kernel) rfl rfl rfl rfl rfl rfl dX2_line_42 (fun v42 => [.int v42]) (fun _ => rfl) (fun v42 M42 => ?_)
      refine j_if_eq (tgt := 56) hC dX2_line_45 (by decide) (fun h45 => ?_) (fun h45 => ?_)
      · refine j_aload_n hC 1 dX2_line_56 rfl ?_
        refine j_ldcS (tx := "tower") (i := 14) hC (by decide) dX2_line_57 ?_
        refine j_callV (nA := 1) (rest := []) hC [.ref (gadr (XG X) (6, 0, 14))] rfl (fun r hr => mX2_takes (XL X) (XG X) hG fu (XD X) 14 (by decide) M42 r hr) q771 q773 qs14 q127 q774 (dmY hG rfl) rfl rfl (by decide +kernel) rfl rfl rfl rfl rfl rfl dX2_line_59 (fun v59 => [.int v59]) (fun _ => rfl) (fun v59 M59 => ?_)
        refine j_if_eq (tgt := 98) hC dX2_line_62 (by decide) (fun h62 => ?_) (fun h62 => ?_)
        · refine j_aload_n hC 1 dX2_line_98 rfl ?_
          refine j_ldcS (tx := "yard") (i := 16) hC (by decide) dX2_line_99 ?_
          refine j_callV (nA := 1) (rest := []) hC [.ref (gadr (XG X) (6, 0, 16))] rfl (fun r hr => mX2_takes (XL X) (XG X) hG fu (XD X) 16 (by decide) M59 r hr) q771 q773 qs14 q127 q774 (dmY hG rfl) rfl rfl (by decide +kernel) rfl rfl rfl rfl rfl rfl dX2_line_101 (fun v101 => [.int v101]) (fun _ => rfl) (fun v101 M101 => ?_)
          refine j_if_eq (tgt := 146) hC dX2_line_104 (by decide) (fun h104 => ?_) (fun h104 => ?_)
          · refine j_aload_n hC 1 dX2_line_146 rfl ?_
            refine j_ldcS (tx := "wind") (i := 18) hC (by decide) dX2_line_147 ?_
            refine j_callV (nA := 1) (rest := []) hC [.ref (gadr (XG X) (6, 0, 18))] rfl (fun r hr => mX2_takes (XL X) (XG X) hG fu (XD X) 18 (by decide) M101 r hr) q771 q773 qs14 q127 q774 (dmY hG rfl) rfl rfl (by decide +kernel) rfl rfl rfl rfl rfl rfl dX2_line_149 (fun v149 => [.int v149]) (fun _ => rfl) (fun v149 M149 => ?_)
            refine j_if_eq (tgt := 212) hC dX2_line_152 (by decide) (fun h152 => ?_) (fun h152 => ?_)
            · refine j_aload_n hC 1 dX2_line_212 rfl ?_
              refine j_ldcS (tx := "hour") (i := 4) hC (by decide) dX2_line_213 ?_
              refine j_callVT (nA := 1) (rest := []) hC hT [.ref (gadr (XG X) (6, 0, 4))] rfl (fun r hr => mX2_expect (XL X) (JT.st hT) (XG X) hG fu (XD X) 4 (by decide) M149 r hr) q832 q834 qs17 q127 q835 (dmY hG rfl) rfl rfl (by decide +kernel) rfl rfl rfl rfl rfl rfl dX2_line_215 (fun _ => []) (fun _ => rfl) (fun v215 M215 => ?_)
              refine j_aload_n hC 1 dX2_line_218 rfl ?_
              refine j_getR (fk := 4) hC (dmY hG rfl) rfl rfl in_X2 rfl rfl q429 rfl dX2_line_219 ?_
              refine j_aload_n hC 1 dX2_line_222 rfl ?_
              refine j_iconst (v := 0) hC dX2_line_223 (by decide) ?_
              refine j_bipush (v := 23) hC dX2_line_224 (by decide) ?_
              refine j_callVT (nA := 2) (rest := [.ref (gadr (XG X) (0, 2, 0))]) hC hT [.int 0, .int 23] rfl (fun r hr => mX2_number (XL X) (JT.st hT) (XG X) hG fu (XD X) M215 0 23 r hr) q836 q838 qs18 q127 q839 (dmY hG rfl) rfl rfl (by decide +kernel) rfl rfl rfl rfl rfl rfl dX2_line_226 (fun v226 => [.int v226, .ref (gadr (XG X) (0, 2, 0))]) (fun _ => rfl) (fun v226 M226 => ?_)
              refine j_putN (fk := 16) (ty := .int) hC (dmS hG (by decide) rfl) rfl rfl in_X3 rfl rfl q300 tyX3 tyX3_ok nmX3 rfl rfl (by decide +kernel) rfl rfl dX2_line_229 ?_
              refine j_lt (fun M229 => ?_)
              exact j_sub [] rfl (wX2_line_232 hC hT hG hnl fu M229)
            · refine j_aload_n hC 1 dX2_line_155 rfl ?_
              refine j_iconst (v := 0) hC dX2_line_156 (by decide) ?_
              refine j_bipush (v := 12) hC dX2_line_157 (by decide) ?_
              refine j_callVT (nA := 2) (rest := []) hC hT [.int 0, .int 12] rfl (fun r hr => mX2_number (XL X) (JT.st hT) (XG X) hG fu (XD X) M149 0 12 r hr) q836 q838 qs18 q127 q839 (dmY hG rfl) rfl rfl (by decide +kernel) rfl rfl rfl rfl rfl rfl dX2_line_159 (fun v159 => [.int v159]) (fun _ => rfl) (fun v159 M159 => ?_)
              refine j_istore_n hC [(2, .int v159), (1, .int y4), (0, .ref (gadr (XG X) (4, 0, 8)))] hnl dX2_line_162 rfl rfl ?_
              refine j_aload_n hC 2 dX2_line_163 rfl ?_
              refine j_ldcS (tx := "west") (i := 19) hC (by decide) dX2_line_164 ?_
              refine j_callV (nA := 1) (rest := []) hC [.ref (gadr (XG X) (6, 0, 19))] rfl (fun r hr => mX2_takes (XL X) (XG X) hG fu (XD X) 19 (by decide) M159 r hr) q771 q773 qs14 q127 q774 (dmY hG rfl) rfl rfl (by decide +kernel) rfl rfl rfl rfl rfl rfl dX2_line_166 (fun v166 => [.int v166]) (fun _ => rfl) (fun v166 M166 => ?_)
              refine j_istore_n hC [(3, .int v166), (2, .int v159), (1, .int y4), (0, .ref (gadr (XG X) (4, 0, 8)))] hnl dX2_line_169 rfl rfl ?_
              refine j_iload_n hC 0 dX2_line_170 rfl ?_
              refine j_if_ne (tgt := 180) hC dX2_line_171 (by decide) (fun h171 => ?_) (fun h171 => ?_)
              · refine j_aload_n hC 3 dX2_line_174 rfl ?_
                refine j_ldcS (tx := "east") (i := 20) hC (by decide) dX2_line_175 ?_
                refine j_callVT (nA := 1) (rest := []) hC hT [.ref (gadr (XG X) (6, 0, 20))] rfl (fun r hr => mX2_expect (XL X) (JT.st hT) (XG X) hG fu (XD X) 20 (by decide) M166 r hr) q832 q834 qs17 q127 q835 (dmY hG rfl) rfl rfl (by decide +kernel) rfl rfl rfl rfl rfl rfl dX2_line_177 (fun _ => []) (fun _ => rfl) (fun v177 M177 => ?_)
                exact j_sub [3, 1, 0] rfl (wX2_line_180 hC hT hG hnl fu M177 v159 v166)
              · exact j_sub [3, 1, 0] rfl (wX2_line_180 hC hT hG hnl fu M166 v159 v166)
          · refine j_aload_n hC 1 dX2_line_107 rfl ?_
            refine j_getR (fk := 4) hC (dmY hG rfl) rfl rfl in_X2 rfl rfl q429 rfl dX2_line_108 ?_
            refine j_aload_n hC 1 dX2_line_111 rfl ?_
            refine j_iconst (v := 0) hC dX2_line_112 (by decide) ?_
            refine j_bipush (v := 15) hC dX2_line_113 (by decide) ?_
            refine j_callVT (nA := 2) (rest := [.ref (gadr (XG X) (0, 2, 0))]) hC hT [.int 0, .int 15] rfl (fun r hr => mX2_number (XL X) (JT.st hT) (XG X) hG fu (XD X) M101 0 15 r hr) q836 q838 qs18 q127 q839 (dmY hG rfl) rfl rfl (by decide +kernel) rfl rfl rfl rfl rfl rfl dX2_line_115 (fun v115 => [.int v115, .ref (gadr (XG X) (0, 2, 0))]) (fun _ => rfl) (fun v115 M115 => ?_)
            refine j_putN (fk := 14) (ty := .int) hC (dmS hG (by decide) rfl) rfl rfl in_X3 rfl rfl q294 tyX3 tyX3_ok nmX3 rfl rfl (by decide +kernel) rfl rfl dX2_line_118 ?_
            refine j_lt (fun M118 => ?_)
            refine j_aload_n hC 1 dX2_line_121 rfl ?_
            refine j_getR (fk := 4) hC (dmY hG rfl) rfl rfl in_X2 rfl rfl q429 rfl dX2_line_122 ?_
            refine j_aload_n hC 1 dX2_line_125 rfl ?_
            refine j_ldcS (tx := "to") (i := 17) hC (by decide) dX2_line_126 ?_
            refine j_aload_n hC 1 dX2_line_128 rfl ?_
            refine j_getR (fk := 4) hC (dmY hG rfl) rfl rfl in_X2 rfl rfl q429 rfl dX2_line_129 ?_
            refine j_getNI (fk := 14) hC (dmS hG (by decide) rfl) rfl rfl in_X3 rfl rfl q294 rfl dX2_line_132 ?_
            refine j_bipush (v := 15) hC dX2_line_135 (by decide) ?_
            refine j_callVT (nA := 3) (rest := [.ref (gadr (XG X) (0, 2, 0))]) hC hT [.ref (gadr (XG X) (6, 0, 17)), .int (M118 (0, 2, 0) 14), .int 15] rfl (fun r hr => mX2_after (XL X) (JT.st hT) (XG X) hG fu (XD X) 17 (by decide) M118 (M118 (0, 2, 0) 14) 15 r hr) q828 q830 qs16 q127 q831 (dmY hG rfl) rfl rfl (by decide +kernel) rfl rfl rfl rfl rfl rfl dX2_line_137 (fun v137 => [.int v137, .ref (gadr (XG X) (0, 2, 0))]) (fun _ => rfl) (fun v137 M137 => ?_)
            refine j_putN (fk := 15) (ty := .int) hC (dmS hG (by decide) rfl) rfl rfl in_X3 rfl rfl q297 tyX3 tyX3_ok nmX3 rfl rfl (by decide +kernel) rfl rfl dX2_line_140 ?_
            refine j_lt (fun M140 => ?_)
            refine j_goto (tgt := 232) hC dX2_line_143 (by decide) ?_
            exact j_sub [] rfl (wX2_line_232 hC hT hG hnl fu M140)
        · refine j_aload_n hC 1 dX2_line_65 rfl ?_
          refine j_getR (fk := 4) hC (dmY hG rfl) rfl rfl in_X2 rfl rfl q429 rfl dX2_line_66 ?_
          refine j_aload_n hC 1 dX2_line_69 rfl ?_
          refine j_iconst (v := 0) hC dX2_line_70 (by decide) ?_
          refine j_bipush (v := 15) hC dX2_line_71 (by decide) ?_
          refine j_callVT (nA := 2) (rest := [.ref (gadr (XG X) (0, 2, 0))]) hC hT [.int 0, .int 15] rfl (fun r hr => mX2_number (XL X) (JT.st hT) (XG X) hG fu (XD X) M59 0 15 r hr) q836 q838 qs18 q127 q839 (dmY hG rfl) rfl rfl (by decide +kernel) rfl rfl rfl rfl rfl rfl dX2_line_73 (fun v73 => [.int v73, .ref (gadr (XG X) (0, 2, 0))]) (fun _ => rfl) (fun v73 M73 => ?_)
          refine j_putN (fk := 12) (ty := .int) hC (dmS hG (by decide) rfl) rfl rfl in_X3 rfl rfl q287 tyX3 tyX3_ok nmX3 rfl rfl (by decide +kernel) rfl rfl dX2_line_76 ?_
          refine j_lt (fun M76 => ?_)
          refine j_aload_n hC 1 dX2_line_79 rfl ?_
          refine j_getR (fk := 4) hC (dmY hG rfl) rfl rfl in_X2 rfl rfl q429 rfl dX2_line_80 ?_
          refine j_aload_n hC 1 dX2_line_83 rfl ?_
          refine j_ldcS (tx := "top") (i := 15) hC (by decide) dX2_line_84 ?_
          refine j_iconst (v := 1) hC dX2_line_86 (by decide) ?_
          refine j_bipush (v := 12) hC dX2_line_87 (by decide) ?_
          refine j_callVT (nA := 3) (rest := [.ref (gadr (XG X) (0, 2, 0))]) hC hT [.ref (gadr (XG X) (6, 0, 15)), .int 1, .int 12] rfl (fun r hr => mX2_after (XL X) (JT.st hT) (XG X) hG fu (XD X) 15 (by decide) M76 1 12 r hr) q828 q830 qs16 q127 q831 (dmY hG rfl) rfl rfl (by decide +kernel) rfl rfl rfl rfl rfl rfl dX2_line_89 (fun v89 => [.int v89, .ref (gadr (XG X) (0, 2, 0))]) (fun _ => rfl) (fun v89 M89 => ?_)
          refine j_putN (fk := 13) (ty := .int) hC (dmS hG (by decide) rfl) rfl rfl in_X3 rfl rfl q291 tyX3 tyX3_ok nmX3 rfl rfl (by decide +kernel) rfl rfl dX2_line_92 ?_
          refine j_lt (fun M92 => ?_)
          refine j_goto (tgt := 232) hC dX2_line_95 (by decide) ?_
          exact j_sub [] rfl (wX2_line_232 hC hT hG hnl fu M92)
      · refine j_aload_n hC 1 dX2_line_48 rfl ?_
        refine j_iload_n hC 0 dX2_line_49 rfl ?_
        refine j_callVT (nA := 1) (rest := []) hC hT [.int y4] rfl (fun r hr => mX2_addCase (XL X) (JT.st hT) (XG X) hG fu (XD X) M42 y4 r hr) q856 q858 qs22 q127 q859 (dmY hG rfl) rfl rfl (by decide +kernel) rfl rfl rfl rfl rfl rfl dX2_line_50 (fun _ => []) (fun _ => rfl) (fun v50 M50 => ?_)
        refine j_goto (tgt := 232) hC dX2_line_53 (by decide) ?_
        exact j_sub [] rfl (wX2_line_232 hC hT hG hnl fu M50)
    · refine j_aload_n hC 1 dX2_line_31 rfl ?_
      refine j_iload_n hC 0 dX2_line_32 rfl ?_
      refine j_callVT (nA := 1) (rest := []) hC hT [.int y4] rfl (fun r hr => mX2_addCounsel (XL X) (JT.st hT) (XG X) hG fu (XD X) M25 y4 r hr) q851 q853 qs21 q127 q854 (dmY hG rfl) rfl rfl (by decide +kernel) rfl rfl rfl rfl rfl rfl dX2_line_33 (fun _ => []) (fun _ => rfl) (fun v33 M33 => ?_)
      refine j_goto (tgt := 232) hC dX2_line_36 (by decide) ?_
      exact j_sub [] rfl (wX2_line_232 hC hT hG hnl fu M33)
  · refine j_aload_n hC 1 dX2_line_14 rfl ?_
    refine j_iload_n hC 0 dX2_line_15 rfl ?_
    refine j_callVT (nA := 1) (rest := []) hC hT [.int y4] rfl (fun r hr => mX2_addBird (XL X) (JT.st hT) (XG X) hG fu (XD X) M8 y4 r hr) q823 q825 qs15 q127 q826 (dmY hG rfl) rfl rfl (by decide +kernel) rfl rfl rfl rfl rfl rfl dX2_line_16 (fun _ => []) (fun _ => rfl) (fun v16 M16 => ?_)
    refine j_goto (tgt := 232) hC dX2_line_19 (by decide) ?_
    exact j_sub [] rfl (wX2_line_232 hC hT hG hnl fu M16)
set_option linter.unusedVariables false in
set_option maxRecDepth 100000 in
theorem mX2_line (l : Launch) (hst : l.stackTraces = false) (Γ : xG) (hG : dmI dmX Γ) (fu : Nat) (D : List LDen) (M : Mem) (r : TR) (hr : FX2_line fu D M = some r) : CT l yX2_line (ws_ yX2_line cX2_line 5 none) 9 233 0 0 Γ D [.ref (gadr Γ (4, 0, 8))] M foV r := by
  refine CT.of hst (own := RX2) (lv0 := lv_args 0 [.ref (gadr Γ (4, 0, 8))]) (by decide +kernel) rfl (Nat.le_of_ble_eq_true rfl) rfl (fun X e1 e2 e3 e4 hC hT => ?_) r hr
  subst e1
  subst e2
  exact wX2_line hC hT hG e4 fu M
set_option linter.unusedVariables false in
set_option maxRecDepth 100000 in
theorem wgX2_court_15 {X : JX} (hC : JC X cX2_court RX2 (some (.object "FeatherYard$State")) 10 257 0 0) (hT : JT X) (hG : dmI dmX (XG X)) (hnl : nLof X = 4) (fu : Nat) (o : Nat) (ho : o < 15) (kn15 : Mem × Int32 → Option TR) (hk15 : ∀ (M : Mem) (x3 : Int32), J X (ZT X (fun _ => some (.ref (gadr (XG X) (0, 2, 0)))) 0 0) (kn15 (M, x3)) 15 [(0, .ref (gadr (XG X) (4, 0, 8))), (3, .int x3)] [] M 0 0) (M : Mem) (x3 : Int32) : J X (ZT X (fun _ => some (.ref (gadr (XG X) (0, 2, 0)))) 0 0) (GX2_court_15 fu (XD X) o kn15 M x3) 15 [(0, .ref (gadr (XG X) (4, 0, 8))), (3, .int x3)] [] M 0 0 := by
  unfold GX2_court_15
  refine j_aload_n hC 0 dX2_court_15 rfl ?_
  refine j_iload_n hC 1 dX2_court_16 rfl ?_
  refine j_bipush (v := 14) hC dX2_court_17 (by decide) ?_
  refine j_callVT (nA := 2) (rest := []) hC hT [.int x3, .int 14] rfl (fun r hr => mX2_more (XL X) (JT.st hT) (XG X) hG fu (XD X) M x3 14 r hr) q755 q757 qs10 q127 q758 (dmY hG rfl) rfl rfl (by decide +kernel) rfl rfl rfl rfl rfl rfl dX2_court_19 (fun v19 => [.int v19]) (fun _ => rfl) (fun v19 M19 => ?_)
  refine j_if_eq (tgt := 35) hC dX2_court_22 (by decide) (fun h22 => ?_) (fun h22 => ?_)
  · refine j_aload_n hC 0 dX2_court_35 rfl ?_
    refine j_getR (fk := 4) hC (dmY hG rfl) rfl rfl in_X2 rfl rfl q429 rfl dX2_court_36 ?_
    exact j_aretT hC rfl rfl rfl dX2_court_39
  · refine j_aload_n hC 0 dX2_court_25 rfl ?_
    refine j_callVT (nA := 0) (rest := []) hC hT [] rfl (fun r hr => mX2_line (XL X) (JT.st hT) (XG X) hG fu (XD X) M19 r hr) q767 q769 qs13 q127 q770 (dmY hG rfl) rfl rfl (by decide +kernel) rfl rfl rfl rfl rfl rfl dX2_court_26 (fun _ => []) (fun _ => rfl) (fun v26 M26 => ?_)
    refine j_iincL hC 1 (fun y29 => [(3, .int y29), (0, .ref (gadr (XG X) (4, 0, 8)))]) hnl dX2_court_29 rfl (by decide) rfl (fun _ => rfl) (fun y29 => ?_)
    refine j_goto (tgt := 15) hC dX2_court_32 (by decide) ?_
    exact j_sub [1, 0] rfl (hk15 M26 y29)
set_option linter.unusedVariables false in
set_option maxRecDepth 100000 in
theorem wX2_court_15 {X : JX} (hC : JC X cX2_court RX2 (some (.object "FeatherYard$State")) 10 257 0 0) (hT : JT X) (hG : dmI dmX (XG X)) (hnl : nLof X = 4) (fu : Nat) (o : Nat) (ho : o < 15) (M : Mem) (x3 : Int32) : J X (ZT X (fun _ => some (.ref (gadr (XG X) (0, 2, 0)))) 0 0) (FX2_court_15 fu (XD X) o M x3) 15 [(0, .ref (gadr (XG X) (4, 0, 8))), (3, .int x3)] [] M 0 0 := by
  exact j_lp (lvf := fun z => [(0, .ref (gadr (XG X) (4, 0, 8))), (3, .int (z.2))]) (Mf := fun z => z.1) (fun kn hk z => wgX2_court_15 hC hT hG hnl fu o ho kn (fun M x3 => hk (M, x3)) z.1 z.2) fu (M, x3)
set_option linter.unusedVariables false in
set_option maxRecDepth 100000 in
theorem wX2_court {X : JX} (hC : JC X cX2_court RX2 (some (.object "FeatherYard$State")) 10 257 0 0) (hT : JT X) (hG : dmI dmX (XG X)) (hnl : nLof X = 4) (fu : Nat) (o : Nat) (ho : o < 15) (M : Mem) (x1 : Int32) : J X (ZT X (fun _ => some (.ref (gadr (XG X) (0, 2, 0)))) 0 0) (FX2_court fu (XD X) o M x1) 0 [(0, .ref (gadr (XG X) (4, 0, 8))), (1, .int x1), (2, .ref (gadr (XG X) (0, o, 0)))] [] M 0 0 := by
  unfold FX2_court
  refine j_aload_n hC 0 dX2_court_0 rfl ?_
  refine j_iload_n hC 1 dX2_court_1 rfl ?_
  refine j_callV (nA := 1) (rest := []) hC [.int x1] rfl (fun r hr => mX2_begins (XL X) (XG X) hG fu (XD X) M x1 r hr) q750 q752 qs9 q127 q753 (dmY hG rfl) rfl rfl (by decide +kernel) rfl rfl rfl rfl rfl rfl dX2_court_2 (fun _ => []) (fun _ => rfl) (fun v2 M2 => ?_)
  refine j_aload_n hC 0 dX2_court_5 rfl ?_
  refine j_getR (fk := 4) hC (dmY hG rfl) rfl rfl in_X2 rfl rfl q429 rfl dX2_court_6 ?_
  refine j_aload_n hC 2 dX2_court_9 rfl ?_
  refine j_callV (nA := 1) (rest := []) hC [.ref (gadr (XG X) (0, o, 0))] rfl (fun r hr => mX3_be (XL X) (XG X) hG fu (XD X) 2 (by decide) o ho M2 r hr) q754 q699 q700 q128 q701 (dmS hG (by decide) rfl) rfl rfl (by decide +kernel) rfl rfl rfl rfl rfl rfl dX2_court_10 (fun _ => []) (fun _ => rfl) (fun v10 M10 => ?_)
  refine j_iconst (v := 0) hC dX2_court_13 (by decide) ?_
  refine j_istore_n hC [(3, .int 0), (0, .ref (gadr (XG X) (4, 0, 8))), (1, .int x1), (2, .ref (gadr (XG X) (0, o, 0)))] hnl dX2_court_14 rfl rfl ?_
  exact j_sub [1, 0] rfl (wX2_court_15 hC hT hG hnl fu o ho M10 0)
set_option linter.unusedVariables false in
set_option maxRecDepth 100000 in
theorem mX2_court (l : Launch) (hst : l.stackTraces = false) (Γ : xG) (hG : dmI dmX Γ) (fu : Nat) (D : List LDen) (o : Nat) (ho : o < 15) (M : Mem) (x1 : Int32) (r : TR) (hr : FX2_court fu D o M x1 = some r) : CT l yX2_court (ws_ yX2_court cX2_court 4 (some (.object "FeatherYard$State"))) 10 257 0 0 Γ D [.ref (gadr Γ (4, 0, 8)), .int x1, .ref (gadr Γ (0, o, 0))] M (fun _ => some (.ref (gadr Γ (0, 2, 0)))) r := by
  refine CT.of hst (own := RX2) (lv0 := lv_args 0 [.ref (gadr Γ (4, 0, 8)), .int x1, .ref (gadr Γ (0, o, 0))]) (by decide +kernel) rfl (Nat.le_of_ble_eq_true rfl) rfl (fun X e1 e2 e3 e4 hC hT => ?_) r hr
  subst e1
  subst e2
  exact wX2_court hC hT hG e4 fu o ho M x1
set_option linter.unusedVariables false in
set_option maxRecDepth 100000 in
theorem wX2_isFigure_22 {X : JX} (hC : JC X cX2_isFigure RX2 (some .boolean) 2 32 0 0) (hG : dmI dmX (XG X)) (hnl : nLof X = 2) (fu : Nat) (M : Mem) (t0 : Int32) : J X (ZN X foI) (FX2_isFigure_22 fu (XD X) M t0) 22 [] [.int t0] M 0 0 := by
  unfold FX2_isFigure_22
  exact j_zret hC rfl dX2_isFigure_22
set_option linter.unusedVariables false in
set_option maxRecDepth 100000 in
theorem wX2_isFigure_21 {X : JX} (hC : JC X cX2_isFigure RX2 (some .boolean) 2 32 0 0) (hG : dmI dmX (XG X)) (hnl : nLof X = 2) (fu : Nat) (M : Mem) : J X (ZN X foI) (FX2_isFigure_21 fu (XD X) M) 21 [] [] M 0 0 := by
  unfold FX2_isFigure_21
  refine j_iconst (v := 0) hC dX2_isFigure_21 (by decide) ?_
  exact j_sub [] rfl (wX2_isFigure_22 hC hG hnl fu M 0)
set_option linter.unusedVariables false in
set_option maxRecDepth 100000 in
theorem wX2_isFigure {X : JX} (hC : JC X cX2_isFigure RX2 (some .boolean) 2 32 0 0) (hG : dmI dmX (XG X)) (hnl : nLof X = 2) (fu : Nat) (M : Mem) : J X (ZN X foI) (FX2_isFigure fu (XD X) M) 0 [(0, .ref (gadr (XG X) (4, 0, 8)))] [] M 0 0 := by
  unfold FX2_isFigure
  refine j_aload_n hC 0 dX2_isFigure_0 rfl ?_
  refine j_callV (nA := 0) (rest := []) hC [] rfl (fun r hr => mX2_sign (XL X) (XG X) hG fu (XD X) M r hr) q759 q761 qs11 q127 q762 (dmY hG rfl) rfl rfl (by decide +kernel) rfl rfl rfl rfl rfl rfl dX2_isFigure_1 (fun v1 => [.int v1]) (fun _ => rfl) (fun v1 M1 => ?_)
  refine j_istore_n hC [(1, .int v1), (0, .ref (gadr (XG X) (4, 0, 8)))] hnl dX2_isFigure_4 rfl rfl ?_
  refine j_iload_n hC 0 dX2_isFigure_5 rfl ?_
  refine j_bipush (v := 48) hC dX2_isFigure_6 (by decide) ?_
  refine j_icmp_lt (tgt := 21) hC dX2_isFigure_8 (by decide) (fun h8 => ?_) (fun h8 => ?_)
  · exact j_sub [] rfl (wX2_isFigure_21 hC hG hnl fu M1)
  · refine j_iload_n hC 0 dX2_isFigure_11 rfl ?_
    refine j_bipush (v := 57) hC dX2_isFigure_12 (by decide) ?_
    refine j_icmp_gt (tgt := 21) hC dX2_isFigure_14 (by decide) (fun h14 => ?_) (fun h14 => ?_)
    · exact j_sub [] rfl (wX2_isFigure_21 hC hG hnl fu M1)
    · refine j_iconst (v := 1) hC dX2_isFigure_17 (by decide) ?_
      refine j_goto (tgt := 22) hC dX2_isFigure_18 (by decide) ?_
      exact j_sub [] rfl (wX2_isFigure_22 hC hG hnl fu M1 1)
set_option linter.unusedVariables false in
set_option maxRecDepth 100000 in
theorem mX2_isFigure (l : Launch) (Γ : xG) (hG : dmI dmX Γ) (fu : Nat) (D : List LDen) (M : Mem) (r : Int32 × Mem) (hr : FX2_isFigure fu D M = some r) : CN l yX2_isFigure (ws_ yX2_isFigure cX2_isFigure 2 (some .boolean)) 2 32 Γ D [.ref (gadr Γ (4, 0, 8))] M (foI r.1) r.2 := by
  refine CN.of (own := RX2) (lv0 := lv_args 0 [.ref (gadr Γ (4, 0, 8))]) (by decide +kernel) rfl (Nat.le_of_ble_eq_true rfl) rfl (fun X e1 e2 e3 e4 hC => ?_) r hr
  subst e1
  subst e2
  exact wX2_isFigure hC hG e4 fu M
