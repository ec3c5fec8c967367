/-! the model: pure programs (printed by gen/gen.py) -/
set_option maxRecDepth 100000
set_option linter.unusedVariables false in
def FX8_thrown (fu : Nat) (D : List LDen) (M : Mem) : Option (Int32 × Mem) :=
  some (M (5, 0, 0) 0, M)
set_option linter.unusedVariables false in
def GX8_image_7 (fu : Nat) (D : List LDen) (kn7 : Mem × Int32 → Option (Int32 × Mem)) (M : Mem) (x1 : Int32) : Option (Int32 × Mem) :=
  if 1331 ≤ x1 then lt (up M (5, 0, 0) 6 1) (fun M34 => some (0, M34)) else gd x1 2180 (gd x1 1331 (lt (up M (5, 0, 2) x1.toNatClampNeg (M (5, 0, 1) x1.toNatClampNeg)) (fun M25 => lt (x1 + 1) (fun y26 => kn7 (M25, y26)))))
set_option linter.unusedVariables false in
def FX8_image_7 (fu : Nat) (D : List LDen) (M : Mem) (x1 : Int32) : Option (Int32 × Mem) := lp (fun kn z => GX8_image_7 fu D kn z.1 z.2) fu (M, x1)
set_option linter.unusedVariables false in
def FX8_image (fu : Nat) (D : List LDen) (M : Mem) : Option (Int32 × Mem) :=
  lt (up M (5, 0, 0) 0 0) (fun M2 => FX8_image_7 fu D M2 0)
set_option linter.unusedVariables false in
def GX8_back_16 (fu : Nat) (D : List LDen) (kn16 : Mem × Int32 → Option (Int32 × Mem)) (M : Mem) (x1 : Int32) : Option (Int32 × Mem) :=
  if 1331 ≤ x1 then lt (up M (5, 0, 0) 7 0) (fun M43 => some (1, M43)) else gd x1 1331 (gd x1 2180 (lt (up M (5, 0, 1) x1.toNatClampNeg (M (5, 0, 2) x1.toNatClampNeg)) (fun M34 => lt (x1 + 1) (fun y35 => kn16 (M34, y35)))))
set_option linter.unusedVariables false in
def FX8_back_16 (fu : Nat) (D : List LDen) (M : Mem) (x1 : Int32) : Option (Int32 × Mem) := lp (fun kn z => GX8_back_16 fu D kn z.1 z.2) fu (M, x1)
set_option linter.unusedVariables false in
def FX8_back (fu : Nat) (D : List LDen) (M : Mem) : Option (Int32 × Mem) :=
  lt (up M (5, 0, 0) 0 0) (fun M2 => if (M2 (5, 0, 0) 6) = 0 then some (0, M2) else FX8_back_16 fu D M2 0)
set_option linter.unusedVariables false in
def GX8_undo_26 (fu : Nat) (D : List LDen) (kn26 : Mem × Int32 → Option (Int32 × Mem)) (M : Mem) (x1 : Int32) : Option (Int32 × Mem) :=
  if 482 ≤ x1 then some (1, M) else gd ((482 * (M (5, 0, 0) 7)) + x1) 5784 (gd x1 2180 (lt (up M (5, 0, 1) x1.toNatClampNeg (M (5, 0, 5) (((482 * (M (5, 0, 0) 7)) + x1).toNatClampNeg))) (fun M53 => lt (x1 + 1) (fun y54 => kn26 (M53, y54)))))
set_option linter.unusedVariables false in
def FX8_undo_26 (fu : Nat) (D : List LDen) (M : Mem) (x1 : Int32) : Option (Int32 × Mem) := lp (fun kn z => GX8_undo_26 fu D kn z.1 z.2) fu (M, x1)
set_option linter.unusedVariables false in
def FX8_undo (fu : Nat) (D : List LDen) (M : Mem) : Option (Int32 × Mem) :=
  lt (up M (5, 0, 0) 0 0) (fun M2 => if (M2 (5, 0, 0) 7) = 0 then some (0, M2) else lt (up M2 (5, 0, 0) 7 ((M2 (5, 0, 0) 7) - 1)) (fun M21 => FX8_undo_26 fu D M21 0))
set_option linter.unusedVariables false in
def GX8_feed_60 (fu : Nat) (D : List LDen) (kn60 : Mem × Int32 → Option (Int32 × Mem)) (M : Mem) (x6 : Int32) : Option (Int32 × Mem) :=
  if 20 ≤ x6 then lt (up M (5, 0, 0) 9 ((M (5, 0, 0) 9) + 20)) (fun M114 => some (M114 (5, 0, 0) 9, M114)) else gd (x6 / 4) 5 (gd ((M (5, 0, 0) 9) + x6) 400 (lt (up M (5, 0, 6) (((M (5, 0, 0) 9) + x6).toNatClampNeg) (vp_nar .byte (((M (5, 0, 7) ((x6 / 4).toNatClampNeg)) >>> ((24 - (8 * (rm x6 4))) &&& 31)).toInt8.toInt32))) (fun M99 => lt (x6 + 1) (fun y100 => kn60 (M99, y100)))))
set_option linter.unusedVariables false in
def FX8_feed_60 (fu : Nat) (D : List LDen) (M : Mem) (x6 : Int32) : Option (Int32 × Mem) := lp (fun kn z => GX8_feed_60 fu D kn z.1 z.2) fu (M, x6)
set_option linter.unusedVariables false in
def FX8_feed (fu : Nat) (D : List LDen) (M : Mem) (x1 x2 x3 x4 x5 : Int32) : Option (Int32 × Mem) :=
  lt (up M (5, 0, 0) 0 0) (fun M2 => if ((M2 (5, 0, 0) 9) + 20) ≤ 400 then gd 0 5 (lt (up M2 (5, 0, 7) 0 x1) (fun M26 => gd 1 5 (lt (up M26 (5, 0, 7) 1 x2) (fun M33 => gd 2 5 (lt (up M33 (5, 0, 7) 2 x3) (fun M40 => gd 3 5 (lt (up M40 (5, 0, 7) 3 x4) (fun M48 => gd 4 5 (lt (up M48 (5, 0, 7) 4 x5) (fun M56 => FX8_feed_60 fu D M56 0)))))))))) else some ((-1), M2))
set_option linter.unusedVariables false in
def FX8_end_17 (fu : Nat) (D : List LDen) (M : Mem) : Option (Int32 × Mem) :=
  some (0, M)
set_option linter.unusedVariables false in
def FX8_end (fu : Nat) (D : List LDen) (M : Mem) (x1 : Int32) : Option (Int32 × Mem) :=
  lt (up M (5, 0, 0) 0 0) (fun M2 => if x1 < 0 then FX8_end_17 fu D M2 else if x1 ≤ (M2 (5, 0, 0) 9) then lt (up M2 (5, 0, 0) 9 x1) (fun M21 => some (1, M21)) else FX8_end_17 fu D M2)
set_option linter.unusedVariables false in
def FX8_fault (fu : Nat) (D : List LDen) (M : Mem) : Option (Int32 × Mem) :=
  lt (up M (5, 0, 0) 0 0) (fun M2 => some (M2 (5, 0, 0) 14, M2))
set_option linter.unusedVariables false in
def FX8_uses (fu : Nat) (D : List LDen) (M : Mem) : Option (Int32 × Mem) :=
  lt (up M (5, 0, 0) 0 0) (fun M2 => lt (up M2 (5, 0, 0) 11 (M2 (5, 0, 0) 9)) (fun M10 => lt (up M10 (5, 0, 0) 9 0) (fun M15 => lt (up M15 (5, 0, 0) 10 0) (fun M20 => some (0, M20)))))
set_option linter.unusedVariables false in
def FX8_isAt_42 (fu : Nat) (D : List LDen) (M : Mem) (t0 : Int32) : Option (Int32 × Mem) :=
  some (t0 &&& 1, M)
set_option linter.unusedVariables false in
def FX8_isAt_41 (fu : Nat) (D : List LDen) (M : Mem) : Option (Int32 × Mem) :=
  FX8_isAt_42 fu D M 0
set_option linter.unusedVariables false in
def FX8_isAt (fu : Nat) (D : List LDen) (M : Mem) (x1 x2 : Int32) : Option (Int32 × Mem) :=
  if (M (5, 0, 0) 11) ≤ (M (5, 0, 0) 10) then FX8_isAt_41 fu D M else gd (M (5, 0, 0) 10) 400 (if (M (5, 0, 6) ((M (5, 0, 0) 10).toNatClampNeg)) < x1 then FX8_isAt_41 fu D M else gd (M (5, 0, 0) 10) 400 (if x2 < (M (5, 0, 6) ((M (5, 0, 0) 10).toNatClampNeg)) then FX8_isAt_41 fu D M else FX8_isAt_42 fu D M 1))
set_option linter.unusedVariables false in
def GX8_blanks_0 (fu : Nat) (D : List LDen) (kn0 : Mem → Option (Int32 × Mem)) (M : Mem) : Option (Int32 × Mem) :=
  bd (FX8_isAt fu D M 32 32) (fun v5 M5 => if v5 = 0 then lt (up M5 (5, 0, 0) 12 (M5 (5, 0, 0) 10)) (fun M29 => some (0, M29)) else lt (up M5 (5, 0, 0) 10 ((M5 (5, 0, 0) 10) + 1)) (fun M18 => kn0 (M18)))
set_option linter.unusedVariables false in
def FX8_blanks_0 (fu : Nat) (D : List LDen) (M : Mem) : Option (Int32 × Mem) := lp (fun kn z => GX8_blanks_0 fu D kn z) fu M
set_option linter.unusedVariables false in
def FX8_blanks (fu : Nat) (D : List LDen) (M : Mem) : Option (Int32 × Mem) :=
  FX8_blanks_0 fu D M
set_option linter.unusedVariables false in
def GX8_letters_4 (fu : Nat) (D : List LDen) (kn4 : Mem → Option (Int32 × Mem)) (M : Mem) : Option (Int32 × Mem) :=
  bd (FX8_isAt fu D M 97 122) (fun v9 M9 => if v9 = 0 then some (0, M9) else lt (up M9 (5, 0, 0) 10 ((M9 (5, 0, 0) 10) + 1)) (fun M22 => kn4 (M22)))
set_option linter.unusedVariables false in
def FX8_letters_4 (fu : Nat) (D : List LDen) (M : Mem) : Option (Int32 × Mem) := lp (fun kn z => GX8_letters_4 fu D kn z) fu M
set_option linter.unusedVariables false in
def FX8_letters (fu : Nat) (D : List LDen) (M : Mem) : Option (Int32 × Mem) :=
  bd (FX8_blanks fu D M) (fun _ M1 => FX8_letters_4 fu D M1)
set_option linter.unusedVariables false in
def FX8_isWord_67 (fu : Nat) (D : List LDen) (q : Nat) (M : Mem) (x2 : Int32) : Option (Int32 × Mem) :=
  some (x2 &&& 1, M)
set_option linter.unusedVariables false in
def FX8_isWord_60 (fu : Nat) (D : List LDen) (q : Nat) (kn24 : Mem × Int32 × Int32 → Option (Int32 × Mem)) (M : Mem) (x3 t0 : Int32) : Option (Int32 × Mem) :=
  lt (x3 + 1) (fun y61 => kn24 (M, t0, y61))
set_option linter.unusedVariables false in
def GX8_isWord_24 (fu : Nat) (D : List LDen) (q : Nat) (kn24 : Mem × Int32 × Int32 → Option (Int32 × Mem)) (M : Mem) (x2 x3 : Int32) : Option (Int32 × Mem) :=
  if x2 = 0 then FX8_isWord_67 fu D q M x2 else bd (FJ3_length q M) (fun v30 M30 => if v30 ≤ x3 then FX8_isWord_67 fu D q M30 x2 else gd ((M30 (5, 0, 0) 12) + x3) 400 (bd (FJ3_charAt q M30 x3) (fun v49 M49 => if (M30 (5, 0, 6) (((M30 (5, 0, 0) 12) + x3).toNatClampNeg)) = v49 then FX8_isWord_60 fu D q kn24 M49 x3 1 else FX8_isWord_60 fu D q kn24 M49 x3 0)))
set_option linter.unusedVariables false in
def FX8_isWord_24 (fu : Nat) (D : List LDen) (q : Nat) (M : Mem) (x2 x3 : Int32) : Option (Int32 × Mem) := lp (fun kn z => GX8_isWord_24 fu D q kn z.1 z.2.1 z.2.2) fu (M, x2, x3)
set_option linter.unusedVariables false in
def FX8_isWord_21 (fu : Nat) (D : List LDen) (q : Nat) (M : Mem) (t0 : Int32) : Option (Int32 × Mem) :=
  FX8_isWord_24 fu D q M t0 0
set_option linter.unusedVariables false in
def FX8_isWord (fu : Nat) (D : List LDen) (q : Nat) (M : Mem) : Option (Int32 × Mem) :=
  bd (FJ3_length q M) (fun v10 M10 => if ((M (5, 0, 0) 10) - (M (5, 0, 0) 12)) = v10 then FX8_isWord_21 fu D q M10 1 else FX8_isWord_21 fu D q M10 0)
set_option linter.unusedVariables false in
def FX8_birds (fu : Nat) (D : List LDen) (M : Mem) : Option (Int32 × Mem) :=
  gd 0 2180 (some (M (5, 0, 1) 0, M))
set_option linter.unusedVariables false in
def FX8_number_104 (fu : Nat) (D : List LDen) (M : Mem) (t0 : Int32) : Option (Int32 × Mem) :=
  some (t0, M)
set_option linter.unusedVariables false in
def FX8_number_99 (fu : Nat) (D : List LDen) (M : Mem) : Option (Int32 × Mem) :=
  FX8_number_104 fu D M (-1)
set_option linter.unusedVariables false in
def FX8_number_51 (fu : Nat) (D : List LDen) (kn6 : Mem × Int32 × Int32 × Int32 → Option (Int32 × Mem)) (M : Mem) (x1 x2 t0 : Int32) : Option (Int32 × Mem) :=
  lt (up M (5, 0, 0) 10 ((M (5, 0, 0) 10) + 1)) (fun M59 => kn6 (M59, x1, x2, t0))
set_option linter.unusedVariables false in
def GX8_number_6 (fu : Nat) (D : List LDen) (kn6 : Mem × Int32 × Int32 × Int32 → Option (Int32 × Mem)) (M : Mem) (x1 x2 x3 : Int32) : Option (Int32 × Mem) :=
  bd (FX8_isAt fu D M 48 57) (fun v11 M11 => if v11 = 0 then if (M11 (5, 0, 0) 10) = (M11 (5, 0, 0) 12) then FX8_number_99 fu D M11 else if 3 < ((M11 (5, 0, 0) 10) - (M11 (5, 0, 0) 12)) then FX8_number_99 fu D M11 else if x3 < x1 then FX8_number_99 fu D M11 else if x3 ≤ x2 then FX8_number_104 fu D M11 x3 else FX8_number_99 fu D M11 else if 3 ≤ ((M11 (5, 0, 0) 10) - (M11 (5, 0, 0) 12)) then FX8_number_51 fu D kn6 M11 x1 x2 x3 else gd (M11 (5, 0, 0) 10) 400 (FX8_number_51 fu D kn6 M11 x1 x2 (((10 * x3) + (M11 (5, 0, 6) ((M11 (5, 0, 0) 10).toNatClampNeg))) - 48)))
set_option linter.unusedVariables false in
def FX8_number_6 (fu : Nat) (D : List LDen) (M : Mem) (x1 x2 x3 : Int32) : Option (Int32 × Mem) := lp (fun kn z => GX8_number_6 fu D kn z.1 z.2.1 z.2.2.1 z.2.2.2) fu (M, x1, x2, x3)
set_option linter.unusedVariables false in
def FX8_number (fu : Nat) (D : List LDen) (M : Mem) (x1 x2 : Int32) : Option (Int32 × Mem) :=
  bd (FX8_blanks fu D M) (fun _ M1 => FX8_number_6 fu D M1 x1 x2 0)
set_option linter.unusedVariables false in
def FX8_after_22 (fu : Nat) (D : List LDen) (q : Nat) (M : Mem) (t0 : Int32) : Option (Int32 × Mem) :=
  some (t0, M)
set_option linter.unusedVariables false in
def FX8_after (fu : Nat) (D : List LDen) (q : Nat) (M : Mem) (x2 x3 : Int32) : Option (Int32 × Mem) :=
  bd (FX8_letters fu D M) (fun _ M1 => bd (FX8_isWord fu D q M1) (fun v6 M6 => if v6 = 0 then FX8_after_22 fu D q M6 (-1) else bd (FX8_number fu D M6 x2 x3) (fun v15 M15 => FX8_after_22 fu D q M15 v15)))
set_option linter.unusedVariables false in
def FX8_in_15 (fu : Nat) (D : List LDen) (M : Mem) (t0 : Int32) : Option (Int32 × Mem) :=
  some (t0 &&& 1, M)
set_option linter.unusedVariables false in
def FX8_in_14 (fu : Nat) (D : List LDen) (M : Mem) : Option (Int32 × Mem) :=
  FX8_in_15 fu D M 0
set_option linter.unusedVariables false in
def FX8_in (fu : Nat) (D : List LDen) (M : Mem) (x0 x1 x2 : Int32) : Option (Int32 × Mem) :=
  if x0 < x1 then FX8_in_14 fu D M else if x2 < x0 then FX8_in_14 fu D M else FX8_in_15 fu D M 1
set_option linter.unusedVariables false in
def FX8_has_14 (fu : Nat) (D : List LDen) (M : Mem) (t0 : Int32) : Option (Int32 × Mem) :=
  some (t0 &&& 1, M)
set_option linter.unusedVariables false in
def FX8_has (fu : Nat) (D : List LDen) (M : Mem) (x0 x1 : Int32) : Option (Int32 × Mem) :=
  if ((x0 >>> (x1 &&& 31)) &&& 1) = 1 then FX8_has_14 fu D M 1 else FX8_has_14 fu D M 0
set_option linter.unusedVariables false in
def FX8_lettersTold_111 (fu : Nat) (D : List LDen) (M : Mem) (t0 : Int32) : Option (Int32 × Mem) :=
  some (t0, M)
set_option linter.unusedVariables false in
def FX8_lettersTold_102 (fu : Nat) (D : List LDen) (M : Mem) (x2 x3 : Int32) : Option (Int32 × Mem) :=
  if x3 = 0 then FX8_lettersTold_111 fu D M (-1) else FX8_lettersTold_111 fu D M x2
set_option linter.unusedVariables false in
def FX8_lettersTold_94 (fu : Nat) (D : List LDen) (kn29 : Mem × Int32 × Int32 × Int32 × Int32 → Option (Int32 × Mem)) (M : Mem) (x1 x3 x4 t0 t1 : Int32) : Option (Int32 × Mem) :=
  lt (t1 ||| t0) (fun y95 => lt (x4 + 1) (fun y96 => kn29 (M, x1, y95, x3, y96)))
set_option linter.unusedVariables false in
def FX8_lettersTold_80 (fu : Nat) (D : List LDen) (kn29 : Mem × Int32 × Int32 × Int32 × Int32 → Option (Int32 × Mem)) (M : Mem) (x1 x2 x4 x5 t0 : Int32) : Option (Int32 × Mem) :=
  if t0 = 0 then FX8_lettersTold_94 fu D kn29 M x1 t0 x4 0 x2 else FX8_lettersTold_94 fu D kn29 M x1 t0 x4 (1 <<< (x5 &&& 31)) x2
set_option linter.unusedVariables false in
def FX8_lettersTold_79 (fu : Nat) (D : List LDen) (kn29 : Mem × Int32 × Int32 × Int32 × Int32 → Option (Int32 × Mem)) (M : Mem) (x1 x2 x4 x5 : Int32) : Option (Int32 × Mem) :=
  FX8_lettersTold_80 fu D kn29 M x1 x2 x4 x5 0
set_option linter.unusedVariables false in
def GX8_lettersTold_29 (fu : Nat) (D : List LDen) (kn29 : Mem × Int32 × Int32 × Int32 × Int32 → Option (Int32 × Mem)) (M : Mem) (x1 x2 x3 x4 : Int32) : Option (Int32 × Mem) :=
  if (M (5, 0, 0) 10) ≤ x4 then FX8_lettersTold_102 fu D M x2 x3 else if x3 = 0 then FX8_lettersTold_102 fu D M x2 x3 else gd x4 400 (lt ((M (5, 0, 6) x4.toNatClampNeg) - 97) (fun y52 => bd (FX8_in fu D M y52 0 (x1 - 1)) (fun v60 M60 => if v60 = 0 then FX8_lettersTold_79 fu D kn29 M60 x1 x2 x4 y52 else bd (FX8_has fu D M60 x2 y52) (fun v69 M69 => if v69 = 0 then FX8_lettersTold_80 fu D kn29 M69 x1 x2 x4 y52 1 else FX8_lettersTold_79 fu D kn29 M69 x1 x2 x4 y52))))
set_option linter.unusedVariables false in
def FX8_lettersTold_29 (fu : Nat) (D : List LDen) (M : Mem) (x1 x2 x3 x4 : Int32) : Option (Int32 × Mem) := lp (fun kn z => GX8_lettersTold_29 fu D kn z.1 z.2.1 z.2.2.1 z.2.2.2.1 z.2.2.2.2) fu (M, x1, x2, x3, x4)
set_option linter.unusedVariables false in
def FX8_lettersTold_22 (fu : Nat) (D : List LDen) (M : Mem) (x1 x2 t0 : Int32) : Option (Int32 × Mem) :=
  lt (M (5, 0, 0) 12) (fun y27 => FX8_lettersTold_29 fu D M x1 x2 t0 y27)
set_option linter.unusedVariables false in
def FX8_lettersTold (fu : Nat) (D : List LDen) (M : Mem) (x1 : Int32) : Option (Int32 × Mem) :=
  bd (FX8_letters fu D M) (fun _ M1 => if (M1 (5, 0, 0) 10) ≤ (M1 (5, 0, 0) 12) then FX8_lettersTold_22 fu D M1 x1 0 0 else FX8_lettersTold_22 fu D M1 x1 0 1)
set_option linter.unusedVariables false in
def FX8_stockAt (fu : Nat) (D : List LDen) (M : Mem) (x0 x1 : Int32) : Option (Int32 × Mem) :=
  some ((50 + (6 * x0)) + x1, M)
set_option linter.unusedVariables false in
def GX8_readBird_164 (fu : Nat) (D : List LDen) (kn164 : Mem × Int32 × Int32 → Option (Int32 × Mem)) (M : Mem) (x1 x7 : Int32) : Option (Int32 × Mem) :=
  if 4 ≤ x7 then gd 0 2180 (gd 0 2180 (lt (up M (5, 0, 1) 0 ((M (5, 0, 1) 0) + 1)) (fun M197 => some (1, M197)))) else bd (FX8_stockAt fu D M x7 x1) (fun v177 M177 => gd v177 2180 (lt (up M177 (5, 0, 1) v177.toNatClampNeg 0) (fun M181 => lt (x7 + 1) (fun y182 => kn164 (M181, x1, y182)))))
set_option linter.unusedVariables false in
def FX8_readBird_164 (fu : Nat) (D : List LDen) (M : Mem) (x1 x7 : Int32) : Option (Int32 × Mem) := lp (fun kn z => GX8_readBird_164 fu D kn z.1 z.2.1 z.2.2) fu (M, x1, x7)
set_option linter.unusedVariables false in
def FX8_readBird_102 (fu : Nat) (D : List LDen) (M : Mem) (x1 x2 x3 x4 t0 : Int32) : Option (Int32 × Mem) :=
  if 0 ≤ t0 then lt (26 + (4 * x1)) (fun y117 => gd (y117 + 0) 2180 (lt (up M (5, 0, 1) ((y117 + 0).toNatClampNeg) x2) (fun M128 => gd (y117 + 1) 2180 (lt (up M128 (5, 0, 1) ((y117 + 1).toNatClampNeg) x3) (fun M138 => gd (y117 + 2) 2180 (lt (up M138 (5, 0, 1) ((y117 + 2).toNatClampNeg) x4) (fun M149 => gd (y117 + 3) 2180 (lt (up M149 (5, 0, 1) ((y117 + 3).toNatClampNeg) t0) (fun M160 => FX8_readBird_164 fu D M160 x1 0))))))))) else some (0, M)
set_option linter.unusedVariables false in
def FX8_readBird_83 (fu : Nat) (D : List LDen) (M : Mem) (x1 x2 x3 t0 : Int32) : Option (Int32 × Mem) :=
  if 0 ≤ t0 then bd (FX8_after fu D 10 M 0 5) (fun v99 M99 => FX8_readBird_102 fu D M99 x1 x2 x3 t0 v99) else FX8_readBird_102 fu D M x1 x2 x3 t0 (-1)
set_option linter.unusedVariables false in
def FX8_readBird_53 (fu : Nat) (D : List LDen) (M : Mem) (x1 x2 t0 : Int32) : Option (Int32 × Mem) :=
  if 0 ≤ t0 then bd (FX8_letters fu D M) (fun _ M61 => bd (FX8_isWord fu D 9 M61) (fun v67 M67 => if v67 = 0 then FX8_readBird_83 fu D M67 x1 x2 t0 (-1) else bd (FX8_lettersTold fu D M67 6) (fun v76 M76 => FX8_readBird_83 fu D M76 x1 x2 t0 v76))) else some (0, M)
set_option linter.unusedVariables false in
def FX8_readBird_36 (fu : Nat) (D : List LDen) (M : Mem) (x1 t0 : Int32) : Option (Int32 × Mem) :=
  if 0 ≤ t0 then bd (FX8_after fu D 3 M 0 3) (fun v50 M50 => FX8_readBird_53 fu D M50 x1 t0 v50) else FX8_readBird_53 fu D M x1 t0 (-1)
set_option linter.unusedVariables false in
def FX8_readBird (fu : Nat) (D : List LDen) (M : Mem) : Option (Int32 × Mem) :=
  bd (FX8_birds fu D M) (fun v1 M1 => if v1 = 6 then some (0, M1) else bd (FX8_letters fu D M1) (fun _ M14 => bd (FX8_isWord fu D 8 M14) (fun v20 M20 => if v20 = 0 then FX8_readBird_36 fu D M20 v1 (-1) else bd (FX8_number fu D M20 0 4) (fun v29 M29 => FX8_readBird_36 fu D M29 v1 v29))))
set_option linter.unusedVariables false in
def FX8_counsel (fu : Nat) (D : List LDen) (M : Mem) : Option (Int32 × Mem) :=
  gd 1 2180 (some (M (5, 0, 1) 1, M))
set_option linter.unusedVariables false in
def FX8_readCounsel_87 (fu : Nat) (D : List LDen) (M : Mem) : Option (Int32 × Mem) :=
  some (0, M)
set_option linter.unusedVariables false in
def FX8_readCounsel_59 (fu : Nat) (D : List LDen) (kn18 : Mem × Int32 × Int32 → Option (Int32 × Mem)) (M : Mem) (x1 x2 : Int32) : Option (Int32 × Mem) :=
  lt (x2 + 1) (fun y59 => lt (up M (5, 0, 0) 10 ((M (5, 0, 0) 10) + 1)) (fun M69 => kn18 (M69, x1, y59)))
set_option linter.unusedVariables false in
def GX8_readCounsel_18 (fu : Nat) (D : List LDen) (kn18 : Mem × Int32 × Int32 → Option (Int32 × Mem)) (M : Mem) (x1 x2 : Int32) : Option (Int32 × Mem) :=
  bd (FX8_isAt fu D M 48 57) (fun v23 M23 => if v23 = 0 then if x2 = 0 then FX8_readCounsel_87 fu D M23 else bd (FX8_birds fu D M23) (fun v81 M81 => if x2 = v81 then gd 1 2180 (gd 1 2180 (lt (up M81 (5, 0, 1) 1 ((M81 (5, 0, 1) 1) + 1)) (fun M98 => some (1, M98)))) else FX8_readCounsel_87 fu D M81) else bd (FX8_birds fu D M23) (fun v31 M31 => if v31 ≤ x2 then FX8_readCounsel_59 fu D kn18 M31 x1 x2 else bd (FX8_stockAt fu D M31 x1 x2) (fun v43 M43 => gd (M43 (5, 0, 0) 10) 400 (gd v43 2180 (lt (up M43 (5, 0, 1) v43.toNatClampNeg ((M43 (5, 0, 6) ((M43 (5, 0, 0) 10).toNatClampNeg)) - 48)) (fun M58 => FX8_readCounsel_59 fu D kn18 M58 x1 x2))))))
set_option linter.unusedVariables false in
def FX8_readCounsel_18 (fu : Nat) (D : List LDen) (M : Mem) (x1 x2 : Int32) : Option (Int32 × Mem) := lp (fun kn z => GX8_readCounsel_18 fu D kn z.1 z.2.1 z.2.2) fu (M, x1, x2)
set_option linter.unusedVariables false in
def FX8_readCounsel (fu : Nat) (D : List LDen) (M : Mem) : Option (Int32 × Mem) :=
  bd (FX8_counsel fu D M) (fun v1 M1 => if v1 = 4 then some (0, M1) else bd (FX8_blanks fu D M1) (fun _ M13 => FX8_readCounsel_18 fu D M13 v1 0))
set_option linter.unusedVariables false in
def FX8_cases (fu : Nat) (D : List LDen) (M : Mem) : Option (Int32 × Mem) :=
  gd 2 2180 (some (M (5, 0, 1) 2, M))
set_option linter.unusedVariables false in
def FX8_caseAt (fu : Nat) (D : List LDen) (M : Mem) (x0 x1 : Int32) : Option (Int32 × Mem) :=
  some ((74 + (4 * x0)) + x1, M)
set_option linter.unusedVariables false in
def FX8_readCase_54 (fu : Nat) (D : List LDen) (M : Mem) : Option (Int32 × Mem) :=
  some (0, M)
set_option linter.unusedVariables false in
def FX8_readCase_81 (fu : Nat) (D : List LDen) (M : Mem) (x1 x2 x3 t0 : Int32) : Option (Int32 × Mem) :=
  if 0 ≤ t0 then bd (FX8_caseAt fu D M x1 0) (fun v96 M96 => gd v96 2180 (lt (up M96 (5, 0, 1) v96.toNatClampNeg x2) (fun M100 => bd (FX8_caseAt fu D M100 x1 1) (fun v107 M107 => gd v107 2180 (lt (up M107 (5, 0, 1) v107.toNatClampNeg x3) (fun M111 => bd (FX8_caseAt fu D M111 x1 2) (fun v118 M118 => gd v118 2180 (lt (up M118 (5, 0, 1) v118.toNatClampNeg t0) (fun M123 => bd (FX8_caseAt fu D M123 x1 3) (fun v130 M130 => gd v130 2180 (lt (up M130 (5, 0, 1) v130.toNatClampNeg 0) (fun M134 => gd 2 2180 (gd 2 2180 (lt (up M134 (5, 0, 1) 2 ((M134 (5, 0, 1) 2) + 1)) (fun M144 => some (1, M144)))))))))))))))) else some (0, M)
set_option linter.unusedVariables false in
def FX8_readCase_44 (fu : Nat) (D : List LDen) (M : Mem) (x1 x2 t0 : Int32) : Option (Int32 × Mem) :=
  if t0 < 0 then FX8_readCase_54 fu D M else if t0 = x2 then FX8_readCase_54 fu D M else bd (FX8_letters fu D M) (fun _ M57 => bd (FX8_isWord fu D 13 M57) (fun v63 M63 => if v63 = 0 then FX8_readCase_81 fu D M63 x1 x2 t0 (-1) else bd (FX8_birds fu D M63) (fun v71 M71 => bd (FX8_lettersTold fu D M71 v71) (fun v74 M74 => FX8_readCase_81 fu D M74 x1 x2 t0 v74))))
set_option linter.unusedVariables false in
def FX8_readCase (fu : Nat) (D : List LDen) (M : Mem) : Option (Int32 × Mem) :=
  bd (FX8_cases fu D M) (fun v1 M1 => if v1 = 12 then some (0, M1) else bd (FX8_counsel fu D M1) (fun v16 M16 => bd (FX8_number fu D M16 0 (v16 - 1)) (fun v21 M21 => if 0 ≤ v21 then bd (FX8_counsel fu D M21) (fun v36 M36 => bd (FX8_number fu D M36 0 (v36 - 1)) (fun v41 M41 => FX8_readCase_44 fu D M41 v1 v21 v41)) else FX8_readCase_44 fu D M21 v1 v21 (-1))))
set_option linter.unusedVariables false in
def FX8_readTower_25 (fu : Nat) (D : List LDen) (M : Mem) (x1 t0 : Int32) : Option (Int32 × Mem) :=
  if 0 ≤ t0 then gd 7 2180 (lt (up M (5, 0, 1) 7 x1) (fun M39 => gd 8 2180 (lt (up M39 (5, 0, 1) 8 t0) (fun M47 => some (1, M47))))) else some (0, M)
set_option linter.unusedVariables false in
def FX8_readTower (fu : Nat) (D : List LDen) (M : Mem) : Option (Int32 × Mem) :=
  bd (FX8_number fu D M 0 15) (fun v4 M4 => if 0 ≤ v4 then bd (FX8_after fu D 15 M4 1 12) (fun v22 M22 => FX8_readTower_25 fu D M22 v4 v22) else FX8_readTower_25 fu D M4 v4 (-1))
set_option linter.unusedVariables false in
def FX8_readYard_25 (fu : Nat) (D : List LDen) (M : Mem) (x1 t0 : Int32) : Option (Int32 × Mem) :=
  if 0 ≤ t0 then gd 9 2180 (lt (up M (5, 0, 1) 9 x1) (fun M39 => gd 10 2180 (lt (up M39 (5, 0, 1) 10 t0) (fun M47 => some (1, M47))))) else some (0, M)
set_option linter.unusedVariables false in
def FX8_readYard (fu : Nat) (D : List LDen) (M : Mem) : Option (Int32 × Mem) :=
  bd (FX8_number fu D M 0 15) (fun v4 M4 => if 0 ≤ v4 then bd (FX8_after fu D 17 M4 v4 15) (fun v22 M22 => FX8_readYard_25 fu D M22 v4 v22) else FX8_readYard_25 fu D M4 v4 (-1))
set_option linter.unusedVariables false in
def FX8_readWind_73 (fu : Nat) (D : List LDen) (M : Mem) (t0 t1 : Int32) : Option (Int32 × Mem) :=
  gd t1 2180 (lt (up M (5, 0, 1) t1.toNatClampNeg t0) (fun M73 => some (1, M73)))
set_option linter.unusedVariables false in
def FX8_readWind_48 (fu : Nat) (D : List LDen) (M : Mem) (x1 x2 t0 : Int32) : Option (Int32 × Mem) :=
  if 0 ≤ t0 then if x2 = 0 then FX8_readWind_73 fu D M t0 (13 + x1) else FX8_readWind_73 fu D M (-t0) (13 + x1) else some (0, M)
set_option linter.unusedVariables false in
def FX8_readWind_38 (fu : Nat) (D : List LDen) (M : Mem) (x1 x2 : Int32) : Option (Int32 × Mem) :=
  bd (FX8_number fu D M 0 3) (fun v41 M41 => FX8_readWind_48 fu D M41 x1 x2 v41)
set_option linter.unusedVariables false in
def FX8_readWind (fu : Nat) (D : List LDen) (M : Mem) : Option (Int32 × Mem) :=
  bd (FX8_number fu D M 0 12) (fun v4 M4 => if 0 ≤ v4 then bd (FX8_letters fu D M4) (fun _ M15 => bd (FX8_isWord fu D 19 M15) (fun v21 M21 => if v21 = 0 then bd (FX8_isWord fu D 20 M21) (fun v32 M32 => if v32 = 0 then FX8_readWind_48 fu D M32 v4 v21 (-1) else FX8_readWind_38 fu D M32 v4 v21) else FX8_readWind_38 fu D M21 v4 v21)) else some (0, M4))
set_option linter.unusedVariables false in
def FX8_readHour_29 (fu : Nat) (D : List LDen) (M : Mem) (t0 : Int32) : Option (Int32 × Mem) :=
  some (t0 &&& 1, M)
set_option linter.unusedVariables false in
def FX8_readHour_20 (fu : Nat) (D : List LDen) (M : Mem) (x1 : Int32) : Option (Int32 × Mem) :=
  if x1 < 0 then FX8_readHour_29 fu D M 0 else FX8_readHour_29 fu D M 1
set_option linter.unusedVariables false in
def FX8_readHour (fu : Nat) (D : List LDen) (M : Mem) : Option (Int32 × Mem) :=
  bd (FX8_number fu D M 0 23) (fun v4 M4 => if v4 < 0 then FX8_readHour_20 fu D M4 v4 else gd 6 2180 (lt (up M4 (5, 0, 1) 6 v4) (fun M19 => FX8_readHour_20 fu D M19 v4)))
set_option linter.unusedVariables false in
def FX8_readCourtLine_105 (fu : Nat) (D : List LDen) (M : Mem) (t0 : Int32) : Option (Int32 × Mem) :=
  some (t0 &&& 1, M)
set_option linter.unusedVariables false in
def FX8_readCourtLine_104 (fu : Nat) (D : List LDen) (M : Mem) : Option (Int32 × Mem) :=
  FX8_readCourtLine_105 fu D M 0
set_option linter.unusedVariables false in
def FX8_readCourtLine (fu : Nat) (D : List LDen) (M : Mem) : Option (Int32 × Mem) :=
  bd (FX8_isWord fu D 0 M) (fun v3 M3 => if v3 = 0 then bd (FX8_isWord fu D 11 M3) (fun v17 M17 => if v17 = 0 then bd (FX8_isWord fu D 12 M17) (fun v31 M31 => if v31 = 0 then bd (FX8_isWord fu D 14 M31) (fun v45 M45 => if v45 = 0 then bd (FX8_isWord fu D 16 M45) (fun v59 M59 => if v59 = 0 then bd (FX8_isWord fu D 18 M59) (fun v73 M73 => if v73 = 0 then bd (FX8_isWord fu D 4 M73) (fun v87 M87 => if v87 = 0 then FX8_readCourtLine_104 fu D M87 else bd (FX8_readHour fu D M87) (fun v94 M94 => if v94 = 0 then FX8_readCourtLine_104 fu D M94 else FX8_readCourtLine_105 fu D M94 1)) else bd (FX8_readWind fu D M73) (fun v80 M80 => some (v80 &&& 1, M80))) else bd (FX8_readYard fu D M59) (fun v66 M66 => some (v66 &&& 1, M66))) else bd (FX8_readTower fu D M45) (fun v52 M52 => some (v52 &&& 1, M52))) else bd (FX8_readCase fu D M31) (fun v38 M38 => some (v38 &&& 1, M38))) else bd (FX8_readCounsel fu D M17) (fun v24 M24 => some (v24 &&& 1, M24))) else bd (FX8_readBird fu D M3) (fun v10 M10 => some (v10 &&& 1, M10)))
set_option linter.unusedVariables false in
def FX8_passes (fu : Nat) (D : List LDen) (q : Nat) (M : Mem) : Option (Int32 × Mem) :=
  bd (FX8_letters fu D M) (fun _ M1 => bd (FX8_isWord fu D q M1) (fun v6 M6 => if v6 = 0 then lt (up M6 (5, 0, 0) 10 (M6 (5, 0, 0) 12)) (fun M19 => some (0, M19)) else some (1, M6)))
set_option linter.unusedVariables false in
def FX8_emits (fu : Nat) (D : List LDen) (M : Mem) (x1 x2 : Int32) : Option (Int32 × Mem) :=
  gd (1380 + (2 * (M (5, 0, 0) 16))) 2180 (lt (up M (5, 0, 1) ((1380 + (2 * (M (5, 0, 0) 16))).toNatClampNeg) x1) (fun M15 => gd ((1380 + (2 * (M15 (5, 0, 0) 16))) + 1) 2180 (lt (up M15 (5, 0, 1) (((1380 + (2 * (M15 (5, 0, 0) 16))) + 1).toNatClampNeg) x2) (fun M33 => lt (up M33 (5, 0, 0) 16 ((M33 (5, 0, 0) 16) + 1)) (fun M41 => some (0, M41))))))
set_option linter.unusedVariables false in
def GX8_readCondR_9 (fu : Nat) (D : List LDen) (rec : Nat → Mem → Option (Int32 × Mem)) (kn9 : Mem → Option (Int32 × Mem)) (M : Mem) : Option (Int32 × Mem) :=
  bd (FX8_passes fu D 26 M) (fun v12 M12 => if v12 = 0 then some (1, M12) else bd (rec 1 M12) (fun v19 M19 => if v19 = 0 then some (0, M19) else bd (FX8_emits fu D M19 14 0) (fun _ M31 => kn9 (M31))))
set_option linter.unusedVariables false in
def FX8_readCondR_9 (fu : Nat) (D : List LDen) (rec : Nat → Mem → Option (Int32 × Mem)) (M : Mem) : Option (Int32 × Mem) := lp (fun kn z => GX8_readCondR_9 fu D rec kn z) fu M
set_option linter.unusedVariables false in
def FX8_readCondR (fu : Nat) (D : List LDen) (rec : Nat → Mem → Option (Int32 × Mem)) (M : Mem) : Option (Int32 × Mem) :=
  bd (rec 1 M) (fun v1 M1 => if v1 = 0 then some (0, M1) else FX8_readCondR_9 fu D rec M1)
set_option linter.unusedVariables false in
def FX8_throwsIf_9 (fu : Nat) (D : List LDen) (M : Mem) (x1 : Int32) : Option (Int32 × Mem) :=
  some (x1 &&& 1, M)
set_option linter.unusedVariables false in
def FX8_throwsIf (fu : Nat) (D : List LDen) (M : Mem) (x1 x2 : Int32) : Option (Int32 × Mem) :=
  if x1 = 0 then FX8_throwsIf_9 fu D M x1 else lt (up M (5, 0, 0) 0 x2) (fun M6 => FX8_throwsIf_9 fu D M6 x1)
set_option linter.unusedVariables false in
def GX8_readAllOfR_9 (fu : Nat) (D : List LDen) (rec : Nat → Mem → Option (Int32 × Mem)) (kn9 : Mem → Option (Int32 × Mem)) (M : Mem) : Option (Int32 × Mem) :=
  bd (FX8_passes fu D 25 M) (fun v12 M12 => if v12 = 0 then some (1, M12) else bd (rec 0 M12) (fun v19 M19 => if v19 = 0 then some (0, M19) else bd (FX8_emits fu D M19 13 0) (fun _ M31 => kn9 (M31))))
set_option linter.unusedVariables false in
def FX8_readAllOfR_9 (fu : Nat) (D : List LDen) (rec : Nat → Mem → Option (Int32 × Mem)) (M : Mem) : Option (Int32 × Mem) := lp (fun kn z => GX8_readAllOfR_9 fu D rec kn z) fu M
set_option linter.unusedVariables false in
def FX8_readAllOfR (fu : Nat) (D : List LDen) (rec : Nat → Mem → Option (Int32 × Mem)) (M : Mem) : Option (Int32 × Mem) :=
  bd (rec 0 M) (fun v1 M1 => if v1 = 0 then some (0, M1) else FX8_readAllOfR_9 fu D rec M1)
set_option linter.unusedVariables false in
def FX8_sign (fu : Nat) (D : List LDen) (M : Mem) (x1 : Int32) : Option (Int32 × Mem) :=
  bd (FX8_blanks fu D M) (fun _ M1 => bd (FX8_isAt fu D M1 x1 x1) (fun v7 M7 => if v7 = 0 then some (0, M7) else lt (up M7 (5, 0, 0) 10 ((M7 (5, 0, 0) 10) + 1)) (fun M22 => some (1, M22))))
set_option linter.unusedVariables false in
def FX8_readTag_64 (fu : Nat) (D : List LDen) (M : Mem) (t0 : Int32) : Option (Int32 × Mem) :=
  some (t0 &&& 1, M)
set_option linter.unusedVariables false in
def FX8_readTag_55 (fu : Nat) (D : List LDen) (M : Mem) (x1 : Int32) : Option (Int32 × Mem) :=
  if x1 < 0 then FX8_readTag_64 fu D M 0 else FX8_readTag_64 fu D M 1
set_option linter.unusedVariables false in
def FX8_readTag_33 (fu : Nat) (D : List LDen) (M : Mem) (t0 : Int32) : Option (Int32 × Mem) :=
  if t0 < 0 then lt (up M (5, 0, 0) 10 (M (5, 0, 0) 12)) (fun M52 => FX8_readTag_55 fu D M52 t0) else bd (FX8_emits fu D M t0 0) (fun _ M41 => FX8_readTag_55 fu D M41 t0)
set_option linter.unusedVariables false in
def FX8_readTag (fu : Nat) (D : List LDen) (M : Mem) : Option (Int32 × Mem) :=
  bd (FX8_letters fu D M) (fun _ M1 => bd (FX8_isWord fu D 6 M1) (fun v7 M7 => if v7 = 0 then bd (FX8_isWord fu D 7 M7) (fun v21 M21 => if v21 = 0 then FX8_readTag_33 fu D M21 (-1) else FX8_readTag_33 fu D M21 7) else FX8_readTag_33 fu D M7 6))
set_option linter.unusedVariables false in
def FX8_readPart_129 (fu : Nat) (D : List LDen) (M : Mem) (t0 : Int32) : Option (Int32 × Mem) :=
  some (t0 &&& 1, M)
set_option linter.unusedVariables false in
def FX8_readPart_120 (fu : Nat) (D : List LDen) (M : Mem) (x1 : Int32) : Option (Int32 × Mem) :=
  if x1 < 0 then FX8_readPart_129 fu D M 0 else FX8_readPart_129 fu D M 1
set_option linter.unusedVariables false in
def FX8_readPart_113 (fu : Nat) (D : List LDen) (M : Mem) (t0 : Int32) : Option (Int32 × Mem) :=
  bd (FX8_emits fu D M t0 0) (fun _ M117 => FX8_readPart_120 fu D M117 t0)
set_option linter.unusedVariables false in
def FX8_readPart (fu : Nat) (D : List LDen) (M : Mem) : Option (Int32 × Mem) :=
  bd (FX8_letters fu D M) (fun _ M1 => if (M1 (5, 0, 0) 10) = (M1 (5, 0, 0) 12) then bd (FX8_number fu D M1 0 999) (fun v20 M20 => bd (FX8_emits fu D M20 8 v20) (fun _ M28 => FX8_readPart_120 fu D M28 v20)) else bd (FX8_isWord fu D 0 M1) (fun v37 M37 => if v37 = 0 then bd (FX8_isWord fu D 1 M37) (fun v50 M50 => if v50 = 0 then bd (FX8_isWord fu D 2 M50) (fun v63 M63 => if v63 = 0 then bd (FX8_isWord fu D 3 M63) (fun v76 M76 => if v76 = 0 then bd (FX8_isWord fu D 4 M76) (fun v89 M89 => if v89 = 0 then bd (FX8_isWord fu D 5 M89) (fun v102 M102 => if v102 = 0 then FX8_readPart_113 fu D M102 (-1) else FX8_readPart_113 fu D M102 5) else FX8_readPart_113 fu D M89 4) else FX8_readPart_113 fu D M76 3) else FX8_readPart_113 fu D M63 2) else FX8_readPart_113 fu D M50 1) else FX8_readPart_113 fu D M37 0))
set_option linter.unusedVariables false in
def GX8_readSum_9 (fu : Nat) (D : List LDen) (kn9 : Mem → Option (Int32 × Mem)) (M : Mem) : Option (Int32 × Mem) :=
  bd (FX8_sign fu D M 43) (fun v12 M12 => if v12 = 0 then some (1, M12) else bd (FX8_readPart fu D M12) (fun v19 M19 => if v19 = 0 then some (0, M19) else bd (FX8_emits fu D M19 9 0) (fun _ M31 => kn9 (M31))))
set_option linter.unusedVariables false in
def FX8_readSum_9 (fu : Nat) (D : List LDen) (M : Mem) : Option (Int32 × Mem) := lp (fun kn z => GX8_readSum_9 fu D kn z) fu M
set_option linter.unusedVariables false in
def FX8_readSum (fu : Nat) (D : List LDen) (M : Mem) : Option (Int32 × Mem) :=
  bd (FX8_readPart fu D M) (fun v1 M1 => if v1 = 0 then some (0, M1) else FX8_readSum_9 fu D M1)
set_option linter.unusedVariables false in
def FX8_readAtomR_173 (fu : Nat) (D : List LDen) (rec : Nat → Mem → Option (Int32 × Mem)) (M : Mem) (t0 : Int32) : Option (Int32 × Mem) :=
  bd (FX8_emits fu D M t0 0) (fun _ M174 => some (1, M174))
set_option linter.unusedVariables false in
def FX8_readAtomR_159 (fu : Nat) (D : List LDen) (rec : Nat → Mem → Option (Int32 × Mem)) (M : Mem) : Option (Int32 × Mem) :=
  some (0, M)
set_option linter.unusedVariables false in
def FX8_readAtomR_152 (fu : Nat) (D : List LDen) (rec : Nat → Mem → Option (Int32 × Mem)) (M : Mem) (x1 : Int32) : Option (Int32 × Mem) :=
  bd (FX8_readSum fu D M) (fun v153 M153 => if v153 = 0 then FX8_readAtomR_159 fu D rec M153 else if x1 = 0 then FX8_readAtomR_173 fu D rec M153 11 else FX8_readAtomR_173 fu D rec M153 10)
set_option linter.unusedVariables false in
def FX8_readAtomR (fu : Nat) (D : List LDen) (rec : Nat → Mem → Option (Int32 × Mem)) (M : Mem) : Option (Int32 × Mem) :=
  bd (FX8_sign fu D M 40) (fun v3 M3 => if v3 = 0 then bd (FX8_passes fu D 24 M3) (fun v59 M59 => if v59 = 0 then bd (FX8_readTag fu D M59) (fun v115 M115 => if v115 = 0 then bd (FX8_readSum fu D M115) (fun v124 M124 => if v124 = 0 then some (0, M124) else bd (FX8_sign fu D M124 60) (fun v135 M135 => if v135 = 0 then bd (FX8_sign fu D M135 62) (fun v146 M146 => if v146 = 0 then FX8_readAtomR_159 fu D rec M146 else FX8_readAtomR_152 fu D rec M146 v135) else FX8_readAtomR_152 fu D rec M135 v135)) else some (1, M115)) else if (M59 (5, 0, 0) 13) = 6 then some (0, M59) else lt (up M59 (5, 0, 0) 13 ((M59 (5, 0, 0) 13) + 1)) (fun M83 => bd (rec 0 M83) (fun v87 M87 => if v87 = 0 then some (0, M87) else lt (up M87 (5, 0, 0) 13 ((M87 (5, 0, 0) 13) - 1)) (fun M102 => bd (FX8_emits fu D M102 12 0) (fun _ M109 => some (1, M109)))))) else if (M3 (5, 0, 0) 13) = 6 then some (0, M3) else lt (up M3 (5, 0, 0) 13 ((M3 (5, 0, 0) 13) + 1)) (fun M27 => bd (rec 2 M27) (fun v31 M31 => if v31 = 0 then some (0, M31) else lt (up M31 (5, 0, 0) 13 ((M31 (5, 0, 0) 13) - 1)) (fun M46 => bd (FX8_sign fu D M46 41) (fun v52 M52 => some (v52 &&& 1, M52))))))
set_option linter.unusedVariables false in
def FX8_noBird_19 (fu : Nat) (D : List LDen) (M : Mem) (t0 : Int32) : Option (Int32 × Mem) :=
  some (t0 &&& 1, M)
set_option linter.unusedVariables false in
def FX8_noBird (fu : Nat) (D : List LDen) (M : Mem) (x1 : Int32) : Option (Int32 × Mem) :=
  bd (FX8_birds fu D M) (fun v3 M3 => bd (FX8_in fu D M3 x1 0 (v3 - 1)) (fun v8 M8 => if v8 = 0 then FX8_noBird_19 fu D M8 1 else FX8_noBird_19 fu D M8 0))
set_option linter.unusedVariables false in
def FX8_noLevel_15 (fu : Nat) (D : List LDen) (M : Mem) (t0 : Int32) : Option (Int32 × Mem) :=
  some (t0 &&& 1, M)
set_option linter.unusedVariables false in
def FX8_noLevel (fu : Nat) (D : List LDen) (M : Mem) (x0 : Int32) : Option (Int32 × Mem) :=
  bd (FX8_in fu D M x0 0 12) (fun v4 M4 => if v4 = 0 then FX8_noLevel_15 fu D M4 1 else FX8_noLevel_15 fu D M4 0)
set_option linter.unusedVariables false in
def FX8_noColumn_15 (fu : Nat) (D : List LDen) (M : Mem) (t0 : Int32) : Option (Int32 × Mem) :=
  some (t0 &&& 1, M)
set_option linter.unusedVariables false in
def FX8_noColumn (fu : Nat) (D : List LDen) (M : Mem) (x0 : Int32) : Option (Int32 × Mem) :=
  bd (FX8_in fu D M x0 0 15) (fun v4 M4 => if v4 = 0 then FX8_noColumn_15 fu D M4 1 else FX8_noColumn_15 fu D M4 0)
set_option linter.unusedVariables false in
def FX8_looks (fu : Nat) (D : List LDen) (M : Mem) (x1 x2 x3 x4 : Int32) : Option (Int32 × Mem) :=
  lt (up M (5, 0, 0) 18 x1) (fun M2 => lt (up M2 (5, 0, 0) 19 x2) (fun M7 => lt (up M7 (5, 0, 0) 20 x3) (fun M12 => lt (up M12 (5, 0, 0) 21 x4) (fun M18 => some (0, M18)))))
set_option linter.unusedVariables false in
def FX8_ofBird (fu : Nat) (D : List LDen) (M : Mem) (x1 x2 : Int32) : Option (Int32 × Mem) :=
  gd ((26 + (4 * x1)) + x2) 2180 (some (M (5, 0, 1) (((26 + (4 * x1)) + x2).toNatClampNeg), M))
set_option linter.unusedVariables false in
def FX8_isOver (fu : Nat) (D : List LDen) (M : Mem) (x1 : Int32) : Option (Int32 × Mem) :=
  gd 9 2180 (gd 10 2180 (bd (FX8_in fu D M x1 (M (5, 0, 1) 9) (M (5, 0, 1) 10)) (fun v15 M15 => some (v15 &&& 1, M15))))
set_option linter.unusedVariables false in
def FX8_factOf_107 (fu : Nat) (D : List LDen) (M : Mem) (t0 : Int32) : Option (Int32 × Mem) :=
  some (t0, M)
set_option linter.unusedVariables false in
def FX8_factOf_124 (fu : Nat) (D : List LDen) (M : Mem) (t0 : Int32) : Option (Int32 × Mem) :=
  some (t0, M)
set_option linter.unusedVariables false in
def FX8_factOf (fu : Nat) (D : List LDen) (M : Mem) (x1 x2 : Int32) : Option (Int32 × Mem) :=
  swt x1 0 [some (M (5, 0, 0) 18, M), some (M (5, 0, 0) 19, M), some (M (5, 0, 0) 20, M), bd (FX8_ofBird fu D M (M (5, 0, 0) 18) 1) (fun v69 M69 => some (v69, M69)), gd 6 2180 (some (M (5, 0, 1) 6, M)), some (M (5, 0, 0) 21, M), gd 8 2180 (if (M (5, 0, 0) 19) ≤ ((M (5, 0, 1) 8) / 2) then FX8_factOf_107 fu D M 0 else FX8_factOf_107 fu D M 1), bd (FX8_isOver fu D M (M (5, 0, 0) 20)) (fun v113 M113 => if v113 = 0 then FX8_factOf_124 fu D M113 0 else FX8_factOf_124 fu D M113 1)] (some (x2, M))
set_option linter.unusedVariables false in
def FX8_holdsLine_278 (fu : Nat) (D : List LDen) (M : Mem) (t0 : Int32) : Option (Int32 × Mem) :=
  some (t0 &&& 1, M)
set_option linter.unusedVariables false in
def FX8_holdsLine_273 (fu : Nat) (D : List LDen) (M : Mem) : Option (Int32 × Mem) :=
  FX8_holdsLine_278 fu D M 1
set_option linter.unusedVariables false in
def FX8_holdsLine_253 (fu : Nat) (D : List LDen) (kn20 : Mem × Int32 × Int32 × Int32 → Option (Int32 × Mem)) (M : Mem) (x2 x3 x4 : Int32) : Option (Int32 × Mem) :=
  lt (x4 + 1) (fun y253 => kn20 (M, x2, x3, y253))
set_option linter.unusedVariables false in
def FX8_holdsLine_252 (fu : Nat) (D : List LDen) (kn20 : Mem × Int32 × Int32 × Int32 → Option (Int32 × Mem)) (M : Mem) (x2 x3 x4 t0 t1 : Int32) : Option (Int32 × Mem) :=
  gd t1 400 (lt (up M (5, 0, 8) t1.toNatClampNeg t0) (fun M252 => FX8_holdsLine_253 fu D kn20 M252 x2 x3 x4))
set_option linter.unusedVariables false in
def FX8_holdsLine_218 (fu : Nat) (D : List LDen) (kn20 : Mem × Int32 × Int32 × Int32 → Option (Int32 × Mem)) (M : Mem) (x2 x3 x4 x5 x6 x7 t0 : Int32) : Option (Int32 × Mem) :=
  if x5 = 9 then FX8_holdsLine_252 fu D kn20 M x2 x3 x4 (x6 + x7) (x2 - 1) else if t0 = 0 then FX8_holdsLine_252 fu D kn20 M x2 x3 x4 0 (x2 - 1) else FX8_holdsLine_252 fu D kn20 M x2 x3 x4 1 (x2 - 1)
set_option linter.unusedVariables false in
def GX8_holdsLine_20 (fu : Nat) (D : List LDen) (kn20 : Mem × Int32 × Int32 × Int32 → Option (Int32 × Mem)) (M : Mem) (x2 x3 x4 : Int32) : Option (Int32 × Mem) :=
  gd (x3 + 3) 2180 (if (M (5, 0, 1) ((x3 + 3).toNatClampNeg)) ≤ x4 then if x2 = 0 then FX8_holdsLine_273 fu D M else gd 0 400 (if (M (5, 0, 8) 0) = 1 then FX8_holdsLine_273 fu D M else FX8_holdsLine_278 fu D M 0) else gd (531 + (2 * x4)) 2180 (lt (M (5, 0, 1) ((531 + (2 * x4)).toNatClampNeg)) (fun y46 => if 8 < y46 then if y46 = 12 then gd (x2 - 1) 400 (gd (x2 - 1) 400 (lt (up M (5, 0, 8) ((x2 - 1).toNatClampNeg) (1 - (M (5, 0, 8) ((x2 - 1).toNatClampNeg)))) (fun M112 => FX8_holdsLine_253 fu D kn20 M112 x2 x3 x4))) else lt (x2 + (-1)) (fun y116 => gd (y116 - 1) 400 (lt (M (5, 0, 8) ((y116 - 1).toNatClampNeg)) (fun y127 => gd y116 400 (lt (M (5, 0, 8) y116.toNatClampNeg) (fun y135 => if y46 = 10 then if y135 ≤ y127 then FX8_holdsLine_218 fu D kn20 M y116 x3 x4 y46 y127 y135 0 else FX8_holdsLine_218 fu D kn20 M y116 x3 x4 y46 y127 y135 1 else if y46 = 11 then if y127 ≤ y135 then FX8_holdsLine_218 fu D kn20 M y116 x3 x4 y46 y127 y135 0 else FX8_holdsLine_218 fu D kn20 M y116 x3 x4 y46 y127 y135 1 else if y46 = 13 then if (y127 + y135) = 2 then FX8_holdsLine_218 fu D kn20 M y116 x3 x4 y46 y127 y135 1 else FX8_holdsLine_218 fu D kn20 M y116 x3 x4 y46 y127 y135 0 else if (y127 + y135) ≤ 0 then FX8_holdsLine_218 fu D kn20 M y116 x3 x4 y46 y127 y135 0 else FX8_holdsLine_218 fu D kn20 M y116 x3 x4 y46 y127 y135 1))))) else gd ((531 + (2 * x4)) + 1) 2180 (bd (FX8_factOf fu D M y46 (M (5, 0, 1) (((531 + (2 * x4)) + 1).toNatClampNeg))) (fun v78 M78 => gd x2 400 (lt (up M78 (5, 0, 8) x2.toNatClampNeg v78) (fun M81 => lt (x2 + 1) (fun y82 => FX8_holdsLine_253 fu D kn20 M81 y82 x3 x4))))))))
set_option linter.unusedVariables false in
def FX8_holdsLine_20 (fu : Nat) (D : List LDen) (M : Mem) (x2 x3 x4 : Int32) : Option (Int32 × Mem) := lp (fun kn z => GX8_holdsLine_20 fu D kn z.1 z.2.1 z.2.2.1 z.2.2.2) fu (M, x2, x3, x4)
set_option linter.unusedVariables false in
def FX8_holdsLine (fu : Nat) (D : List LDen) (M : Mem) (x1 : Int32) : Option (Int32 × Mem) :=
  lt (483 + (4 * x1)) (fun y9 => gd (y9 + 2) 2180 (lt (M (5, 0, 1) ((y9 + 2).toNatClampNeg)) (fun y18 => FX8_holdsLine_20 fu D M 0 y9 y18)))
set_option linter.unusedVariables false in
def FX8_sumOf_73 (fu : Nat) (D : List LDen) (M : Mem) (x2 : Int32) : Option (Int32 × Mem) :=
  some (x2, M)
set_option linter.unusedVariables false in
def FX8_sumOf_67 (fu : Nat) (D : List LDen) (kn4 : Mem × Int32 × Int32 × Int32 → Option (Int32 × Mem)) (M : Mem) (x1 x2 x3 : Int32) : Option (Int32 × Mem) :=
  lt (x3 + 1) (fun y67 => kn4 (M, x1, x2, y67))
set_option linter.unusedVariables false in
def GX8_sumOf_4 (fu : Nat) (D : List LDen) (kn4 : Mem × Int32 × Int32 × Int32 → Option (Int32 × Mem)) (M : Mem) (x1 x2 x3 : Int32) : Option (Int32 × Mem) :=
  gd 4 2180 (if (M (5, 0, 1) 4) = 1 then gd 482 2180 (if (M (5, 0, 1) 482) ≤ x3 then FX8_sumOf_73 fu D M x2 else gd (483 + (4 * x3)) 2180 (if (M (5, 0, 1) ((483 + (4 * x3)).toNatClampNeg)) = x1 then bd (FX8_holdsLine fu D M x3) (fun v44 M44 => if v44 = 0 then FX8_sumOf_67 fu D kn4 M44 x1 x2 x3 else gd ((483 + (4 * x3)) + 1) 2180 (lt (x2 + (M44 (5, 0, 1) (((483 + (4 * x3)) + 1).toNatClampNeg))) (fun y66 => FX8_sumOf_67 fu D kn4 M44 x1 y66 x3))) else FX8_sumOf_67 fu D kn4 M x1 x2 x3)) else FX8_sumOf_73 fu D M x2)
set_option linter.unusedVariables false in
def FX8_sumOf_4 (fu : Nat) (D : List LDen) (M : Mem) (x1 x2 x3 : Int32) : Option (Int32 × Mem) := lp (fun kn z => GX8_sumOf_4 fu D kn z.1 z.2.1 z.2.2.1 z.2.2.2) fu (M, x1, x2, x3)
set_option linter.unusedVariables false in
def FX8_sumOf (fu : Nat) (D : List LDen) (M : Mem) (x1 : Int32) : Option (Int32 × Mem) :=
  FX8_sumOf_4 fu D M x1 0 0
set_option linter.unusedVariables false in
def FX8_carries (fu : Nat) (D : List LDen) (M : Mem) : Option (Int32 × Mem) :=
  gd (13 + (M (5, 0, 0) 19)) 2180 (bd (FX8_ofBird fu D M (M (5, 0, 0) 18) 1) (fun v18 M18 => bd (FX8_sumOf fu D M18 2) (fun v24 M24 => bd (FX8_sumOf fu D M24 3) (fun v30 M30 => some ((((M (5, 0, 1) ((13 + (M (5, 0, 0) 19)).toNatClampNeg)) * v18) + v24) - v30, M30)))))
set_option linter.unusedVariables false in
def FX8_sinks (fu : Nat) (D : List LDen) (M : Mem) : Option (Int32 × Mem) :=
  bd (FX8_ofBird fu D M (M (5, 0, 0) 18) 0) (fun v6 M6 => bd (FX8_sumOf fu D M6 0) (fun v11 M11 => bd (FX8_sumOf fu D M11 1) (fun v17 M17 => lt ((v6 + v11) - v17) (fun y21 => some (mx 0 (mn 12 y21), M17)))))
set_option linter.unusedVariables false in
def FX8_moves_68 (fu : Nat) (D : List LDen) (M : Mem) : Option (Int32 × Mem) :=
  some (0, M)
set_option linter.unusedVariables false in
def FX8_moves_95 (fu : Nat) (D : List LDen) (M : Mem) (t0 : Int32) : Option (Int32 × Mem) :=
  some (t0, M)
set_option linter.unusedVariables false in
def FX8_moves_61 (fu : Nat) (D : List LDen) (M : Mem) (x1 x2 x3 x4 x5 t0 : Int32) : Option (Int32 × Mem) :=
  bd (FX8_throwsIf fu D M t0 2) (fun v62 M62 => if v62 = 0 then bd (FX8_looks fu D M62 x1 x2 x3 x4) (fun _ M76 => if x5 = 0 then bd (FX8_sinks fu D M76) (fun v92 M92 => FX8_moves_95 fu D M92 v92) else bd (FX8_carries fu D M76) (fun v85 M85 => FX8_moves_95 fu D M85 v85)) else FX8_moves_68 fu D M62)
set_option linter.unusedVariables false in
def FX8_moves_37 (fu : Nat) (D : List LDen) (M : Mem) (x1 x2 x3 x4 x5 t0 : Int32) : Option (Int32 × Mem) :=
  bd (FX8_throwsIf fu D M t0 1) (fun v38 M38 => if v38 = 0 then bd (FX8_in fu D M38 x4 0 7) (fun v50 M50 => if v50 = 0 then FX8_moves_61 fu D M50 x1 x2 x3 x4 x5 1 else FX8_moves_61 fu D M50 x1 x2 x3 x4 x5 0) else FX8_moves_68 fu D M38)
set_option linter.unusedVariables false in
def FX8_moves_32 (fu : Nat) (D : List LDen) (M : Mem) (x1 x2 x3 x4 x5 : Int32) : Option (Int32 × Mem) :=
  FX8_moves_37 fu D M x1 x2 x3 x4 x5 1
set_option linter.unusedVariables false in
def FX8_moves (fu : Nat) (D : List LDen) (M : Mem) (x1 x2 x3 x4 x5 : Int32) : Option (Int32 × Mem) :=
  lt (up M (5, 0, 0) 0 0) (fun M2 => bd (FX8_noBird fu D M2 x1) (fun v8 M8 => if v8 = 0 then bd (FX8_noLevel fu D M8 x2) (fun v15 M15 => if v15 = 0 then if x2 = 0 then FX8_moves_32 fu D M15 x1 x2 x3 x4 x5 else bd (FX8_noColumn fu D M15 x3) (fun v26 M26 => if v26 = 0 then FX8_moves_37 fu D M26 x1 x2 x3 x4 x5 0 else FX8_moves_32 fu D M26 x1 x2 x3 x4 x5) else FX8_moves_32 fu D M15 x1 x2 x3 x4 x5) else FX8_moves_32 fu D M8 x1 x2 x3 x4 x5))
set_option linter.unusedVariables false in
def FX8_at (fu : Nat) (D : List LDen) (M : Mem) (x0 x1 : Int32) : Option (Int32 × Mem) :=
  some ((16 * x0) + x1, M)
set_option linter.unusedVariables false in
def FX8_driftOf_14 (fu : Nat) (D : List LDen) (M : Mem) (t0 : Int32) : Option (Int32 × Mem) :=
  some (t0, M)
set_option linter.unusedVariables false in
def FX8_driftOf (fu : Nat) (D : List LDen) (M : Mem) (x1 x2 : Int32) : Option (Int32 × Mem) :=
  bd (FX8_ofBird fu D M x1 1) (fun v3 M3 => if v3 ≤ 0 then FX8_driftOf_14 fu D M3 0 else FX8_driftOf_14 fu D M3 x2)
set_option linter.unusedVariables false in
def GX8_waysLeft_4 (fu : Nat) (D : List LDen) (kn4 : Mem × Int32 × Int32 → Option (Int32 × Mem)) (M : Mem) (x1 x2 : Int32) : Option (Int32 × Mem) :=
  if 8 ≤ x2 then some (x1, M) else lt (x1 * 3) (fun y13 => lt (x2 + 1) (fun y14 => kn4 (M, y13, y14)))
set_option linter.unusedVariables false in
def FX8_waysLeft_4 (fu : Nat) (D : List LDen) (M : Mem) (x1 x2 : Int32) : Option (Int32 × Mem) := lp (fun kn z => GX8_waysLeft_4 fu D kn z.1 z.2.1 z.2.2) fu (M, x1, x2)
set_option linter.unusedVariables false in
def FX8_waysLeft (fu : Nat) (D : List LDen) (M : Mem) (x0 : Int32) : Option (Int32 × Mem) :=
  FX8_waysLeft_4 fu D M 1 x0
set_option linter.unusedVariables false in
def FX8_goesOn_143 (fu : Nat) (D : List LDen) (kn40 : Mem × Int32 × Int32 × Int32 × Int32 × Int32 × Int32 → Option (Int32 × Mem)) (M : Mem) (x2 x3 x4 x5 x6 x7 : Int32) : Option (Int32 × Mem) :=
  lt (x7 + 1) (fun y143 => kn40 (M, x2, x3, x4, x5, x6, y143))
set_option linter.unusedVariables false in
def GX8_goesOn_40 (fu : Nat) (D : List LDen) (kn40 : Mem × Int32 × Int32 × Int32 × Int32 × Int32 × Int32 → Option (Int32 × Mem)) (M : Mem) (x2 x3 x4 x5 x6 x7 : Int32) : Option (Int32 × Mem) :=
  if 1 < x7 then some (0, M) else bd (FX8_driftOf fu D M (M (5, 0, 0) 18) x7) (fun v57 M57 => lt ((x2 + x6) + v57) (fun y61 => bd (FX8_noColumn fu D M57 y61) (fun v65 M65 => if v65 = 0 then if 0 < x5 then bd (FX8_at fu D M65 x5 y61) (fun v134 M134 => gd v134 208 (gd v134 208 (lt (up M134 (5, 0, 10) v134.toNatClampNeg ((M134 (5, 0, 10) v134.toNatClampNeg) + x4)) (fun M142 => FX8_goesOn_143 fu D kn40 M142 x2 x3 x4 x5 x6 x7)))) else gd ((16 * (x3 + 1)) + y61) 144 (bd (FX8_waysLeft fu D M65 (x3 + 1)) (fun v117 M117 => gd ((16 * (x3 + 1)) + y61) 144 (lt (up M117 (5, 0, 11) (((16 * (x3 + 1)) + y61).toNatClampNeg) ((M65 (5, 0, 11) (((16 * (x3 + 1)) + y61).toNatClampNeg)) + (x4 * v117))) (fun M122 => FX8_goesOn_143 fu D kn40 M122 x2 x3 x4 x5 x6 x7)))) else bd (FX8_waysLeft fu D M65 (x3 + 1)) (fun v81 M81 => lt (up M81 (5, 0, 0) 25 ((M65 (5, 0, 0) 25) + (x4 * v81))) (fun M86 => FX8_goesOn_143 fu D kn40 M86 x2 x3 x4 x5 x6 x7)))))
set_option linter.unusedVariables false in
def FX8_goesOn_40 (fu : Nat) (D : List LDen) (M : Mem) (x2 x3 x4 x5 x6 x7 : Int32) : Option (Int32 × Mem) := lp (fun kn z => GX8_goesOn_40 fu D kn z.1 z.2.1 z.2.2.1 z.2.2.2.1 z.2.2.2.2.1 z.2.2.2.2.2.1 z.2.2.2.2.2.2) fu (M, x2, x3, x4, x5, x6, x7)
set_option linter.unusedVariables false in
def FX8_goesOn (fu : Nat) (D : List LDen) (M : Mem) (x1 x2 x3 : Int32) : Option (Int32 × Mem) :=
  bd (FX8_at fu D M x1 x2) (fun v6 M6 => gd v6 208 (lt (M6 (5, 0, 9) v6.toNatClampNeg) (fun y10 => bd (FX8_looks fu D M6 (M6 (5, 0, 0) 18) x1 x2 x3) (fun _ M20 => bd (FX8_sinks fu D M20) (fun v25 M25 => lt (x1 - v25) (fun y29 => bd (FX8_carries fu D M25) (fun v32 M32 => FX8_goesOn_40 fu D M32 x2 x3 y10 y29 v32 (-1))))))))
set_option linter.unusedVariables false in
def GX8_laysWays_199 (fu : Nat) (D : List LDen) (kn199 : Mem × Int32 → Option (Int32 × Mem)) (M : Mem) (x2 : Int32) : Option (Int32 × Mem) :=
  if 208 ≤ x2 then some (0, M) else gd x2 208 (lt (up M (5, 0, 0) 26 ((M (5, 0, 0) 26) + (M (5, 0, 9) x2.toNatClampNeg))) (fun M218 => lt (x2 + 1) (fun y221 => kn199 (M218, y221))))
set_option linter.unusedVariables false in
def FX8_laysWays_199 (fu : Nat) (D : List LDen) (M : Mem) (x2 : Int32) : Option (Int32 × Mem) := lp (fun kn z => GX8_laysWays_199 fu D kn z.1 z.2) fu (M, x2)
set_option linter.unusedVariables false in
def GX8_laysWays_166 (fu : Nat) (D : List LDen) (kn166 : Mem × Int32 × Int32 → Option (Int32 × Mem)) (kn84 : Mem × Int32 → Option (Int32 × Mem)) (M : Mem) (x2 x3 : Int32) : Option (Int32 × Mem) :=
  if 208 ≤ x3 then lt (x2 + 1) (fun y191 => kn84 (M, y191)) else gd x3 208 (gd x3 208 (lt (up M (5, 0, 9) x3.toNatClampNeg (M (5, 0, 10) x3.toNatClampNeg)) (fun M184 => lt (x3 + 1) (fun y185 => kn166 (M184, x2, y185)))))
set_option linter.unusedVariables false in
def FX8_laysWays_166 (fu : Nat) (D : List LDen) (kn84 : Mem × Int32 → Option (Int32 × Mem)) (M : Mem) (x2 x3 : Int32) : Option (Int32 × Mem) := lp (fun kn z => GX8_laysWays_166 fu D kn kn84 z.1 z.2.1 z.2.2) fu (M, x2, x3)
set_option linter.unusedVariables false in
def FX8_laysWays_152 (fu : Nat) (D : List LDen) (kn123 : Mem × Int32 × Int32 × Int32 → Option (Int32 × Mem)) (M : Mem) (x2 x3 x4 : Int32) : Option (Int32 × Mem) :=
  lt (x4 + 1) (fun y152 => kn123 (M, x2, x3, y152))
set_option linter.unusedVariables false in
def GX8_laysWays_123 (fu : Nat) (D : List LDen) (kn123 : Mem × Int32 × Int32 × Int32 → Option (Int32 × Mem)) (kn114 : Mem × Int32 × Int32 → Option (Int32 × Mem)) (M : Mem) (x2 x3 x4 : Int32) : Option (Int32 × Mem) :=
  if 16 ≤ x4 then lt (x3 + 1) (fun y158 => kn114 (M, x2, y158)) else bd (FX8_at fu D M x3 x4) (fun v137 M137 => gd v137 208 (if (M137 (5, 0, 9) v137.toNatClampNeg) ≤ 0 then FX8_laysWays_152 fu D kn123 M137 x2 x3 x4 else bd (FX8_goesOn fu D M137 x3 x4 x2) (fun _ M149 => FX8_laysWays_152 fu D kn123 M149 x2 x3 x4)))
set_option linter.unusedVariables false in
def FX8_laysWays_123 (fu : Nat) (D : List LDen) (kn114 : Mem × Int32 × Int32 → Option (Int32 × Mem)) (M : Mem) (x2 x3 x4 : Int32) : Option (Int32 × Mem) := lp (fun kn z => GX8_laysWays_123 fu D kn kn114 z.1 z.2.1 z.2.2.1 z.2.2.2) fu (M, x2, x3, x4)
set_option linter.unusedVariables false in
def GX8_laysWays_114 (fu : Nat) (D : List LDen) (kn114 : Mem × Int32 × Int32 → Option (Int32 × Mem)) (kn84 : Mem × Int32 → Option (Int32 × Mem)) (M : Mem) (x2 x3 : Int32) : Option (Int32 × Mem) :=
  if 13 ≤ x3 then FX8_laysWays_166 fu D kn84 M x2 0 else FX8_laysWays_123 fu D kn114 M x2 x3 0
set_option linter.unusedVariables false in
def FX8_laysWays_114 (fu : Nat) (D : List LDen) (kn84 : Mem × Int32 → Option (Int32 × Mem)) (M : Mem) (x2 x3 : Int32) : Option (Int32 × Mem) := lp (fun kn z => GX8_laysWays_114 fu D kn kn84 z.1 z.2.1 z.2.2) fu (M, x2, x3)
set_option linter.unusedVariables false in
def GX8_laysWays_92 (fu : Nat) (D : List LDen) (kn92 : Mem × Int32 × Int32 → Option (Int32 × Mem)) (kn84 : Mem × Int32 → Option (Int32 × Mem)) (M : Mem) (x2 x3 : Int32) : Option (Int32 × Mem) :=
  if 208 ≤ x3 then FX8_laysWays_114 fu D kn84 M x2 1 else gd x3 208 (lt (up M (5, 0, 10) x3.toNatClampNeg 0) (fun M105 => lt (x3 + 1) (fun y106 => kn92 (M105, x2, y106))))
set_option linter.unusedVariables false in
def FX8_laysWays_92 (fu : Nat) (D : List LDen) (kn84 : Mem × Int32 → Option (Int32 × Mem)) (M : Mem) (x2 x3 : Int32) : Option (Int32 × Mem) := lp (fun kn z => GX8_laysWays_92 fu D kn kn84 z.1 z.2.1 z.2.2) fu (M, x2, x3)
set_option linter.unusedVariables false in
def GX8_laysWays_84 (fu : Nat) (D : List LDen) (kn84 : Mem × Int32 → Option (Int32 × Mem)) (M : Mem) (x2 : Int32) : Option (Int32 × Mem) :=
  if 8 ≤ x2 then FX8_laysWays_199 fu D M 0 else FX8_laysWays_92 fu D kn84 M x2 0
set_option linter.unusedVariables false in
def FX8_laysWays_84 (fu : Nat) (D : List LDen) (M : Mem) (x2 : Int32) : Option (Int32 × Mem) := lp (fun kn z => GX8_laysWays_84 fu D kn z.1 z.2) fu (M, x2)
set_option linter.unusedVariables false in
def GX8_laysWays_39 (fu : Nat) (D : List LDen) (kn39 : Mem × Int32 → Option (Int32 × Mem)) (M : Mem) (x2 : Int32) : Option (Int32 × Mem) :=
  if 144 ≤ x2 then gd 8 2180 (gd 7 2180 (bd (FX8_at fu D M (M (5, 0, 1) 8) (M (5, 0, 1) 7)) (fun v77 M77 => gd v77 208 (lt (up M77 (5, 0, 9) v77.toNatClampNeg 1) (fun M81 => FX8_laysWays_84 fu D M81 0))))) else gd x2 144 (lt (up M (5, 0, 11) x2.toNatClampNeg 0) (fun M52 => lt (x2 + 1) (fun y53 => kn39 (M52, y53))))
set_option linter.unusedVariables false in
def FX8_laysWays_39 (fu : Nat) (D : List LDen) (M : Mem) (x2 : Int32) : Option (Int32 × Mem) := lp (fun kn z => GX8_laysWays_39 fu D kn z.1 z.2) fu (M, x2)
set_option linter.unusedVariables false in
def GX8_laysWays_17 (fu : Nat) (D : List LDen) (kn17 : Mem × Int32 → Option (Int32 × Mem)) (M : Mem) (x2 : Int32) : Option (Int32 × Mem) :=
  if 208 ≤ x2 then FX8_laysWays_39 fu D M 0 else gd x2 208 (lt (up M (5, 0, 9) x2.toNatClampNeg 0) (fun M30 => lt (x2 + 1) (fun y31 => kn17 (M30, y31))))
set_option linter.unusedVariables false in
def FX8_laysWays_17 (fu : Nat) (D : List LDen) (M : Mem) (x2 : Int32) : Option (Int32 × Mem) := lp (fun kn z => GX8_laysWays_17 fu D kn z.1 z.2) fu (M, x2)
set_option linter.unusedVariables false in
def FX8_laysWays (fu : Nat) (D : List LDen) (M : Mem) (x1 : Int32) : Option (Int32 × Mem) :=
  lt (up M (5, 0, 0) 18 x1) (fun M2 => lt (up M2 (5, 0, 0) 25 0) (fun M7 => lt (up M7 (5, 0, 0) 26 0) (fun M12 => FX8_laysWays_17 fu D M12 0)))
set_option linter.unusedVariables false in
def FX8_landedAt (fu : Nat) (D : List LDen) (M : Mem) (x1 x2 : Int32) : Option (Int32 × Mem) :=
  gd ((16 * x1) + x2) 144 (some (M (5, 0, 11) (((16 * x1) + x2).toNatClampNeg), M))
set_option linter.unusedVariables false in
def GX8_goodAt_10 (fu : Nat) (D : List LDen) (kn10 : Mem × Int32 × Int32 × Int32 → Option (Int32 × Mem)) (M : Mem) (x1 x2 x3 : Int32) : Option (Int32 × Mem) :=
  gd 10 2180 (if (M (5, 0, 1) 10) < x3 then some (x2, M) else bd (FX8_landedAt fu D M x1 x3) (fun v25 M25 => lt (x2 + v25) (fun y29 => lt (x3 + 1) (fun y30 => kn10 (M25, x1, y29, y30)))))
set_option linter.unusedVariables false in
def FX8_goodAt_10 (fu : Nat) (D : List LDen) (M : Mem) (x1 x2 x3 : Int32) : Option (Int32 × Mem) := lp (fun kn z => GX8_goodAt_10 fu D kn z.1 z.2.1 z.2.2.1 z.2.2.2) fu (M, x1, x2, x3)
set_option linter.unusedVariables false in
def FX8_goodAt (fu : Nat) (D : List LDen) (M : Mem) (x1 : Int32) : Option (Int32 × Mem) :=
  gd 9 2180 (lt (M (5, 0, 1) 9) (fun y9 => FX8_goodAt_10 fu D M x1 0 y9))
set_option linter.unusedVariables false in
def GX8_goodAll_4 (fu : Nat) (D : List LDen) (kn4 : Mem × Int32 × Int32 → Option (Int32 × Mem)) (M : Mem) (x1 x2 : Int32) : Option (Int32 × Mem) :=
  if 8 < x2 then some (x1, M) else bd (FX8_goodAt fu D M x2) (fun v13 M13 => lt (x1 + v13) (fun y17 => lt (x2 + 1) (fun y18 => kn4 (M13, y17, y18))))
set_option linter.unusedVariables false in
def FX8_goodAll_4 (fu : Nat) (D : List LDen) (M : Mem) (x1 x2 : Int32) : Option (Int32 × Mem) := lp (fun kn z => GX8_goodAll_4 fu D kn z.1 z.2.1 z.2.2) fu (M, x1, x2)
set_option linter.unusedVariables false in
def FX8_goodAll (fu : Nat) (D : List LDen) (M : Mem) : Option (Int32 × Mem) :=
  FX8_goodAll_4 fu D M 0 1
set_option linter.unusedVariables false in
def FX8_ways_40 (fu : Nat) (D : List LDen) (M : Mem) : Option (Int32 × Mem) :=
  some (0, M)
set_option linter.unusedVariables false in
def FX8_ways_99 (fu : Nat) (D : List LDen) (M : Mem) (t0 : Int32) : Option (Int32 × Mem) :=
  some (t0, M)
set_option linter.unusedVariables false in
def FX8_ways_33 (fu : Nat) (D : List LDen) (M : Mem) (x1 x2 t0 : Int32) : Option (Int32 × Mem) :=
  bd (FX8_throwsIf fu D M t0 2) (fun v34 M34 => if v34 = 0 then bd (FX8_laysWays fu D M34 x1) (fun _ M44 => bd (FX8_goodAll fu D M44) (fun v48 M48 => if x2 = 0 then FX8_ways_99 fu D M48 v48 else if x2 = 1 then FX8_ways_99 fu D M48 (M48 (5, 0, 0) 25) else if x2 = 2 then FX8_ways_99 fu D M48 (M48 (5, 0, 0) 26) else FX8_ways_99 fu D M48 (((6561 - v48) - (M48 (5, 0, 0) 25)) - (M48 (5, 0, 0) 26)))) else FX8_ways_40 fu D M34)
set_option linter.unusedVariables false in
def FX8_ways (fu : Nat) (D : List LDen) (M : Mem) (x1 x2 : Int32) : Option (Int32 × Mem) :=
  lt (up M (5, 0, 0) 0 0) (fun M2 => bd (FX8_noBird fu D M2 x1) (fun v8 M8 => bd (FX8_throwsIf fu D M8 v8 1) (fun v12 M12 => if v12 = 0 then bd (FX8_in fu D M12 x2 0 3) (fun v22 M22 => if v22 = 0 then FX8_ways_33 fu D M22 x1 x2 1 else FX8_ways_33 fu D M22 x1 x2 0) else FX8_ways_40 fu D M12)))
set_option linter.unusedVariables false in
def GX8_lands_45 (fu : Nat) (D : List LDen) (kn45 : Mem × Int32 × Int32 × Int32 → Option (Int32 × Mem)) (M : Mem) (x2 x3 x4 : Int32) : Option (Int32 × Mem) :=
  if 8 < x4 then some (x3, M) else bd (FX8_landedAt fu D M x4 x2) (fun v57 M57 => lt (x3 + v57) (fun y61 => lt (x4 + 1) (fun y62 => kn45 (M57, x2, y61, y62))))
set_option linter.unusedVariables false in
def FX8_lands_45 (fu : Nat) (D : List LDen) (M : Mem) (x2 x3 x4 : Int32) : Option (Int32 × Mem) := lp (fun kn z => GX8_lands_45 fu D kn z.1 z.2.1 z.2.2.1 z.2.2.2) fu (M, x2, x3, x4)
set_option linter.unusedVariables false in
def FX8_lands_26 (fu : Nat) (D : List LDen) (M : Mem) (x1 x2 t0 : Int32) : Option (Int32 × Mem) :=
  bd (FX8_throwsIf fu D M t0 1) (fun v27 M27 => if v27 = 0 then bd (FX8_laysWays fu D M27 x1) (fun _ M37 => FX8_lands_45 fu D M37 x2 0 1) else some (0, M27))
set_option linter.unusedVariables false in
def FX8_lands_21 (fu : Nat) (D : List LDen) (M : Mem) (x1 x2 : Int32) : Option (Int32 × Mem) :=
  FX8_lands_26 fu D M x1 x2 1
set_option linter.unusedVariables false in
def FX8_lands (fu : Nat) (D : List LDen) (M : Mem) (x1 x2 : Int32) : Option (Int32 × Mem) :=
  lt (up M (5, 0, 0) 0 0) (fun M2 => bd (FX8_noBird fu D M2 x1) (fun v8 M8 => if v8 = 0 then bd (FX8_noColumn fu D M8 x2) (fun v15 M15 => if v15 = 0 then FX8_lands_26 fu D M15 x1 x2 0 else FX8_lands_21 fu D M15 x1 x2) else FX8_lands_21 fu D M8 x1 x2))
set_option linter.unusedVariables false in
def FX8_good_41 (fu : Nat) (D : List LDen) (M : Mem) : Option (Int32 × Mem) :=
  some (0, M)
set_option linter.unusedVariables false in
def FX8_good_34 (fu : Nat) (D : List LDen) (M : Mem) (x1 x2 t0 : Int32) : Option (Int32 × Mem) :=
  bd (FX8_throwsIf fu D M t0 2) (fun v35 M35 => if v35 = 0 then bd (FX8_laysWays fu D M35 x1) (fun _ M45 => bd (FX8_goodAt fu D M45 x2) (fun v50 M50 => some (v50, M50))) else FX8_good_41 fu D M35)
set_option linter.unusedVariables false in
def FX8_good (fu : Nat) (D : List LDen) (M : Mem) (x1 x2 : Int32) : Option (Int32 × Mem) :=
  lt (up M (5, 0, 0) 0 0) (fun M2 => bd (FX8_noBird fu D M2 x1) (fun v8 M8 => bd (FX8_throwsIf fu D M8 v8 1) (fun v12 M12 => if v12 = 0 then bd (FX8_in fu D M12 x2 1 8) (fun v23 M23 => if v23 = 0 then FX8_good_34 fu D M23 x1 x2 1 else FX8_good_34 fu D M23 x1 x2 0) else FX8_good_41 fu D M12)))
set_option linter.unusedVariables false in
def FX8_tell_40 (fu : Nat) (D : List LDen) (M : Mem) : Option (Int32 × Mem) :=
  some (0, M)
set_option linter.unusedVariables false in
def FX8_tell_80 (fu : Nat) (D : List LDen) (kn47 : Mem × Int32 × Int32 × Int32 × Int32 → Option (Int32 × Mem)) (M : Mem) (x1 x2 x4 t0 t1 : Int32) : Option (Int32 × Mem) :=
  lt (t1 ||| t0) (fun y81 => lt (x4 + 1) (fun y82 => kn47 (M, x1, x2, y81, y82)))
set_option linter.unusedVariables false in
def GX8_tell_47 (fu : Nat) (D : List LDen) (kn47 : Mem × Int32 × Int32 × Int32 × Int32 → Option (Int32 × Mem)) (M : Mem) (x1 x2 x3 x4 : Int32) : Option (Int32 × Mem) :=
  bd (FX8_birds fu D M) (fun v50 M50 => if v50 ≤ x4 then some (x3, M50) else bd (FX8_laysWays fu D M50 x4) (fun _ M59 => bd (FX8_landedAt fu D M59 x2 x1) (fun v66 M66 => if v66 ≤ 0 then FX8_tell_80 fu D kn47 M66 x1 x2 x4 0 x3 else FX8_tell_80 fu D kn47 M66 x1 x2 x4 (1 <<< (x4 &&& 31)) x3)))
set_option linter.unusedVariables false in
def FX8_tell_47 (fu : Nat) (D : List LDen) (M : Mem) (x1 x2 x3 x4 : Int32) : Option (Int32 × Mem) := lp (fun kn z => GX8_tell_47 fu D kn z.1 z.2.1 z.2.2.1 z.2.2.2.1 z.2.2.2.2) fu (M, x1, x2, x3, x4)
set_option linter.unusedVariables false in
def FX8_tell_33 (fu : Nat) (D : List LDen) (M : Mem) (x1 x2 t0 : Int32) : Option (Int32 × Mem) :=
  bd (FX8_throwsIf fu D M t0 2) (fun v34 M34 => if v34 = 0 then FX8_tell_47 fu D M34 x1 x2 0 0 else FX8_tell_40 fu D M34)
set_option linter.unusedVariables false in
def FX8_tell (fu : Nat) (D : List LDen) (M : Mem) (x1 x2 : Int32) : Option (Int32 × Mem) :=
  lt (up M (5, 0, 0) 0 0) (fun M2 => bd (FX8_noColumn fu D M2 x1) (fun v7 M7 => bd (FX8_throwsIf fu D M7 v7 1) (fun v11 M11 => if v11 = 0 then bd (FX8_in fu D M11 x2 1 8) (fun v22 M22 => if v22 = 0 then FX8_tell_33 fu D M22 x1 x2 1 else FX8_tell_33 fu D M22 x1 x2 0) else FX8_tell_40 fu D M11)))
set_option linter.unusedVariables false in
def FX8_widest_101 (fu : Nat) (D : List LDen) (kn47 : Mem × Int32 × Int32 × Int32 × Int32 × Int32 × Int32 → Option (Int32 × Mem)) (M : Mem) (x1 x2 x3 x5 x6 x7 t0 : Int32) : Option (Int32 × Mem) :=
  lt (mx x5 x7) (fun y110 => lt (x6 + 1) (fun y112 => kn47 (M, x1, x2, x3, t0, y110, y112)))
set_option linter.unusedVariables false in
def GX8_widest_47 (fu : Nat) (D : List LDen) (kn47 : Mem × Int32 × Int32 × Int32 × Int32 × Int32 × Int32 → Option (Int32 × Mem)) (M : Mem) (x1 x2 x3 x4 x5 x6 : Int32) : Option (Int32 × Mem) :=
  if 16 ≤ (x6 + x3) then gd 9 2180 (lt (up M (5, 0, 1) 9 x2) (fun M125 => gd 10 2180 (lt (up M125 (5, 0, 1) 10 (x2 + x3)) (fun M135 => some (x4, M135))))) else gd 9 2180 (lt (up M (5, 0, 1) 9 x6) (fun M64 => gd 10 2180 (lt (up M64 (5, 0, 1) 10 (x6 + x3)) (fun M75 => bd (FX8_laysWays fu D M75 x1) (fun _ M78 => bd (FX8_goodAll fu D M78) (fun v82 M82 => if v82 ≤ x5 then FX8_widest_101 fu D kn47 M82 x1 x2 x3 x5 x6 v82 x4 else FX8_widest_101 fu D kn47 M82 x1 x2 x3 x5 x6 v82 x6))))))
set_option linter.unusedVariables false in
def FX8_widest_47 (fu : Nat) (D : List LDen) (M : Mem) (x1 x2 x3 x4 x5 x6 : Int32) : Option (Int32 × Mem) := lp (fun kn z => GX8_widest_47 fu D kn z.1 z.2.1 z.2.2.1 z.2.2.2.1 z.2.2.2.2.1 z.2.2.2.2.2.1 z.2.2.2.2.2.2) fu (M, x1, x2, x3, x4, x5, x6)
set_option linter.unusedVariables false in
def FX8_widest (fu : Nat) (D : List LDen) (M : Mem) (x1 : Int32) : Option (Int32 × Mem) :=
  lt (up M (5, 0, 0) 0 0) (fun M2 => bd (FX8_noBird fu D M2 x1) (fun v8 M8 => bd (FX8_throwsIf fu D M8 v8 1) (fun v12 M12 => if v12 = 0 then gd 9 2180 (lt (M12 (5, 0, 1) 9) (fun y27 => gd 10 2180 (lt ((M12 (5, 0, 1) 10) - y27) (fun y37 => FX8_widest_47 fu D M12 x1 y27 y37 0 (-1) 0)))) else some (0, M12))))
set_option linter.unusedVariables false in
def FX8_begins (fu : Nat) (D : List LDen) (M : Mem) (x1 x2 : Int32) : Option (Int32 × Mem) :=
  gd x1 2 (lt (up M (5, 0, 13) x1.toNatClampNeg x2) (fun M6 => gd 8 2180 (gd (4 * x1) 8 (lt (up M6 (5, 0, 12) ((4 * x1).toNatClampNeg) (M6 (5, 0, 1) 8)) (fun M21 => gd 7 2180 (gd ((4 * x1) + 1) 8 (lt (up M21 (5, 0, 12) (((4 * x1) + 1).toNatClampNeg) (M21 (5, 0, 1) 7)) (fun M38 => gd ((4 * x1) + 2) 8 (lt (up M38 (5, 0, 12) (((4 * x1) + 2).toNatClampNeg) 1) (fun M49 => gd ((4 * x1) + 3) 8 (lt (up M49 (5, 0, 12) (((4 * x1) + 3).toNatClampNeg) 0) (fun M60 => some (0, M60)))))))))))))
set_option linter.unusedVariables false in
def FX8_isFlying_19 (fu : Nat) (D : List LDen) (M : Mem) (t0 : Int32) : Option (Int32 × Mem) :=
  some (t0 &&& 1, M)
set_option linter.unusedVariables false in
def FX8_isFlying (fu : Nat) (D : List LDen) (M : Mem) (x1 : Int32) : Option (Int32 × Mem) :=
  gd ((4 * x1) + 2) 8 (if (M (5, 0, 12) (((4 * x1) + 2).toNatClampNeg)) = 1 then FX8_isFlying_19 fu D M 1 else FX8_isFlying_19 fu D M 0)
set_option linter.unusedVariables false in
def FX8_breathes_141 (fu : Nat) (D : List LDen) (M : Mem) (t0 t1 : Int32) : Option (Int32 × Mem) :=
  gd t1 8 (lt (up M (5, 0, 12) t1.toNatClampNeg t0) (fun M141 => some (0, M141)))
set_option linter.unusedVariables false in
def FX8_breathes_140 (fu : Nat) (D : List LDen) (M : Mem) (t0 : Int32) : Option (Int32 × Mem) :=
  FX8_breathes_141 fu D M 0 t0
set_option linter.unusedVariables false in
def FX8_breathes_97 (fu : Nat) (D : List LDen) (M : Mem) (x1 x3 x5 : Int32) : Option (Int32 × Mem) :=
  gd ((4 * x1) + 2) 8 (lt (up M (5, 0, 12) (((4 * x1) + 2).toNatClampNeg) 0) (fun M107 => bd (FX8_noColumn fu D M107 x5) (fun v119 M119 => if v119 = 0 then bd (FX8_isOver fu D M119 x5) (fun v128 M128 => if v128 = 0 then FX8_breathes_140 fu D M128 ((4 * x1) + 3) else FX8_breathes_141 fu D M128 (x3 + 1) ((4 * x1) + 3)) else FX8_breathes_140 fu D M119 ((4 * x1) + 3))))
set_option linter.unusedVariables false in
def FX8_breathes (fu : Nat) (D : List LDen) (M : Mem) (x1 x2 x3 : Int32) : Option (Int32 × Mem) :=
  gd x1 2 (gd (4 * x1) 8 (gd ((4 * x1) + 1) 8 (bd (FX8_looks fu D M (M (5, 0, 13) x1.toNatClampNeg) (M (5, 0, 12) ((4 * x1).toNatClampNeg)) (M (5, 0, 12) (((4 * x1) + 1).toNatClampNeg)) x3) (fun _ M26 => bd (FX8_sinks fu D M26) (fun v34 M34 => lt ((M26 (5, 0, 0) 19) - v34) (fun y38 => bd (FX8_carries fu D M34) (fun v45 M45 => bd (FX8_driftOf fu D M45 (M45 (5, 0, 0) 18) x2) (fun v55 M55 => lt (((M34 (5, 0, 0) 20) + v45) + v55) (fun y59 => gd (4 * x1) 8 (lt (up M55 (5, 0, 12) ((4 * x1).toNatClampNeg) y38) (fun M70 => gd ((4 * x1) + 1) 8 (lt (up M70 (5, 0, 12) (((4 * x1) + 1).toNatClampNeg) y59) (fun M82 => bd (FX8_noColumn fu D M82 y59) (fun v85 M85 => if v85 = 0 then if y38 ≤ 0 then FX8_breathes_97 fu D M85 x1 x3 y59 else some (0, M85) else FX8_breathes_97 fu D M85 x1 x3 y59))))))))))))))
set_option linter.unusedVariables false in
def FX8_straight_75 (fu : Nat) (D : List LDen) (M : Mem) : Option (Int32 × Mem) :=
  some ((-1), M)
set_option linter.unusedVariables false in
def FX8_straight_91 (fu : Nat) (D : List LDen) (M : Mem) (t0 : Int32) : Option (Int32 × Mem) :=
  some (t0, M)
set_option linter.unusedVariables false in
def FX8_straight_55 (fu : Nat) (D : List LDen) (M : Mem) (x2 x3 : Int32) : Option (Int32 × Mem) :=
  bd (FX8_isFlying fu D M 0) (fun v57 M57 => if v57 = 0 then gd 1 8 (bd (FX8_noColumn fu D M57 (M57 (5, 0, 12) 1)) (fun v69 M69 => if v69 = 0 then if x2 = 0 then gd 1 8 (FX8_straight_91 fu D M69 (M69 (5, 0, 12) 1)) else FX8_straight_91 fu D M69 x3 else FX8_straight_75 fu D M69)) else FX8_straight_75 fu D M57)
set_option linter.unusedVariables false in
def GX8_straight_28 (fu : Nat) (D : List LDen) (kn28 : Mem × Int32 × Int32 → Option (Int32 × Mem)) (M : Mem) (x2 x3 : Int32) : Option (Int32 × Mem) :=
  if 8 ≤ x3 then FX8_straight_55 fu D M x2 x3 else bd (FX8_isFlying fu D M 0) (fun v36 M36 => if v36 = 0 then FX8_straight_55 fu D M36 x2 x3 else bd (FX8_breathes fu D M36 0 0 x3) (fun _ M46 => lt (x3 + 1) (fun y49 => kn28 (M46, x2, y49))))
set_option linter.unusedVariables false in
def FX8_straight_28 (fu : Nat) (D : List LDen) (M : Mem) (x2 x3 : Int32) : Option (Int32 × Mem) := lp (fun kn z => GX8_straight_28 fu D kn z.1 z.2.1 z.2.2) fu (M, x2, x3)
set_option linter.unusedVariables false in
def FX8_straight (fu : Nat) (D : List LDen) (M : Mem) (x1 x2 : Int32) : Option (Int32 × Mem) :=
  lt (up M (5, 0, 0) 0 0) (fun M2 => bd (FX8_noBird fu D M2 x1) (fun v8 M8 => bd (FX8_throwsIf fu D M8 v8 1) (fun v12 M12 => if v12 = 0 then bd (FX8_begins fu D M12 0 x1) (fun _ M23 => FX8_straight_28 fu D M23 x2 0) else some (0, M12))))
set_option linter.unusedVariables false in
def GX8_laysGoods_7 (fu : Nat) (D : List LDen) (kn7 : Mem × Int32 × Int32 → Option (Int32 × Mem)) (M : Mem) (x1 x2 : Int32) : Option (Int32 × Mem) :=
  if 8 < x2 then some (0, M) else bd (FX8_goodAt fu D M x2) (fun v25 M25 => gd ((9 * x1) + x2) 54 (lt (up M25 (5, 0, 14) (((9 * x1) + x2).toNatClampNeg) v25) (fun M28 => lt (x2 + 1) (fun y29 => kn7 (M28, x1, y29)))))
set_option linter.unusedVariables false in
def FX8_laysGoods_7 (fu : Nat) (D : List LDen) (M : Mem) (x1 x2 : Int32) : Option (Int32 × Mem) := lp (fun kn z => GX8_laysGoods_7 fu D kn z.1 z.2.1 z.2.2) fu (M, x1, x2)
set_option linter.unusedVariables false in
def FX8_laysGoods (fu : Nat) (D : List LDen) (M : Mem) (x1 : Int32) : Option (Int32 × Mem) :=
  bd (FX8_laysWays fu D M x1) (fun _ M2 => FX8_laysGoods_7 fu D M2 x1 1)
set_option linter.unusedVariables false in
def GX8_laysAllGoods_2 (fu : Nat) (D : List LDen) (kn2 : Mem × Int32 → Option (Int32 × Mem)) (M : Mem) (x1 : Int32) : Option (Int32 × Mem) :=
  bd (FX8_birds fu D M) (fun v4 M4 => if v4 ≤ x1 then some (0, M4) else bd (FX8_laysGoods fu D M4 x1) (fun _ M12 => lt (x1 + 1) (fun y15 => kn2 (M12, y15))))
set_option linter.unusedVariables false in
def FX8_laysAllGoods_2 (fu : Nat) (D : List LDen) (M : Mem) (x1 : Int32) : Option (Int32 × Mem) := lp (fun kn z => GX8_laysAllGoods_2 fu D kn z.1 z.2) fu (M, x1)
set_option linter.unusedVariables false in
def FX8_laysAllGoods (fu : Nat) (D : List LDen) (M : Mem) : Option (Int32 × Mem) :=
  FX8_laysAllGoods_2 fu D M 0
set_option linter.unusedVariables false in
def FX8_goodOf (fu : Nat) (D : List LDen) (M : Mem) (x1 x2 : Int32) : Option (Int32 × Mem) :=
  gd ((9 * x1) + x2) 54 (some (M (5, 0, 14) (((9 * x1) + x2).toNatClampNeg), M))
set_option linter.unusedVariables false in
def GX8_notGood_7 (fu : Nat) (D : List LDen) (kn7 : Mem × Int32 × Int32 × Int32 × Int32 → Option (Int32 × Mem)) (M : Mem) (x1 x2 x3 x4 : Int32) : Option (Int32 × Mem) :=
  if x2 < x4 then some (x3, M) else bd (FX8_goodOf fu D M x1 x4) (fun v18 M18 => lt (x3 - v18) (fun y22 => lt (x4 + 1) (fun y23 => kn7 (M18, x1, x2, y22, y23))))
set_option linter.unusedVariables false in
def FX8_notGood_7 (fu : Nat) (D : List LDen) (M : Mem) (x1 x2 x3 x4 : Int32) : Option (Int32 × Mem) := lp (fun kn z => GX8_notGood_7 fu D kn z.1 z.2.1 z.2.2.1 z.2.2.2.1 z.2.2.2.2) fu (M, x1, x2, x3, x4)
set_option linter.unusedVariables false in
def FX8_notGood (fu : Nat) (D : List LDen) (M : Mem) (x1 x2 : Int32) : Option (Int32 × Mem) :=
  FX8_notGood_7 fu D M x1 x2 6561 1
set_option linter.unusedVariables false in
def GX8_firstHas_5 (fu : Nat) (D : List LDen) (kn5 : Mem × Int32 × Int32 × Int32 × Int32 → Option (Int32 × Mem)) (M : Mem) (x1 x2 x3 x4 : Int32) : Option (Int32 × Mem) :=
  if 8 < x4 then some (x3, M) else bd (FX8_goodOf fu D M x1 x4) (fun v17 M17 => bd (FX8_notGood fu D M17 x2 x4) (fun v24 M24 => lt (x3 + (v17 * v24)) (fun y29 => lt (x4 + 1) (fun y30 => kn5 (M24, x1, x2, y29, y30)))))
set_option linter.unusedVariables false in
def FX8_firstHas_5 (fu : Nat) (D : List LDen) (M : Mem) (x1 x2 x3 x4 : Int32) : Option (Int32 × Mem) := lp (fun kn z => GX8_firstHas_5 fu D kn z.1 z.2.1 z.2.2.1 z.2.2.2.1 z.2.2.2.2) fu (M, x1, x2, x3, x4)
set_option linter.unusedVariables false in
def FX8_firstHas (fu : Nat) (D : List LDen) (M : Mem) (x1 x2 : Int32) : Option (Int32 × Mem) :=
  FX8_firstHas_5 fu D M x1 x2 0 1
set_option linter.unusedVariables false in
def GX8_bothHave_5 (fu : Nat) (D : List LDen) (kn5 : Mem × Int32 × Int32 × Int32 × Int32 → Option (Int32 × Mem)) (M : Mem) (x1 x2 x3 x4 : Int32) : Option (Int32 × Mem) :=
  if 8 < x4 then some (x3, M) else bd (FX8_goodOf fu D M x1 x4) (fun v17 M17 => bd (FX8_goodOf fu D M17 x2 x4) (fun v24 M24 => lt (x3 + (v17 * v24)) (fun y29 => lt (x4 + 1) (fun y30 => kn5 (M24, x1, x2, y29, y30)))))
set_option linter.unusedVariables false in
def FX8_bothHave_5 (fu : Nat) (D : List LDen) (M : Mem) (x1 x2 x3 x4 : Int32) : Option (Int32 × Mem) := lp (fun kn z => GX8_bothHave_5 fu D kn z.1 z.2.1 z.2.2.1 z.2.2.2.1 z.2.2.2.2) fu (M, x1, x2, x3, x4)
set_option linter.unusedVariables false in
def FX8_bothHave (fu : Nat) (D : List LDen) (M : Mem) (x1 x2 : Int32) : Option (Int32 × Mem) :=
  FX8_bothHave_5 fu D M x1 x2 0 1
set_option linter.unusedVariables false in
def FX8_odds_56 (fu : Nat) (D : List LDen) (M : Mem) : Option (Int32 × Mem) :=
  some (0, M)
set_option linter.unusedVariables false in
def FX8_odds_118 (fu : Nat) (D : List LDen) (M : Mem) (t0 : Int32) : Option (Int32 × Mem) :=
  some (t0, M)
set_option linter.unusedVariables false in
def FX8_odds_49 (fu : Nat) (D : List LDen) (M : Mem) (x1 x2 x3 t0 : Int32) : Option (Int32 × Mem) :=
  bd (FX8_throwsIf fu D M t0 2) (fun v50 M50 => if v50 = 0 then bd (FX8_laysAllGoods fu D M50) (fun _ M59 => if x3 = 0 then bd (FX8_firstHas fu D M59 x1 x2) (fun v69 M69 => FX8_odds_118 fu D M69 v69) else if x3 = 1 then bd (FX8_firstHas fu D M59 x2 x1) (fun v83 M83 => FX8_odds_118 fu D M83 v83) else if x3 = 2 then bd (FX8_bothHave fu D M59 x1 x2) (fun v97 M97 => FX8_odds_118 fu D M97 v97) else bd (FX8_notGood fu D M59 x1 8) (fun v107 M107 => bd (FX8_notGood fu D M107 x2 8) (fun v114 M114 => FX8_odds_118 fu D M114 (v107 * v114)))) else FX8_odds_56 fu D M50)
set_option linter.unusedVariables false in
def FX8_odds_27 (fu : Nat) (D : List LDen) (M : Mem) (x1 x2 x3 t0 : Int32) : Option (Int32 × Mem) :=
  bd (FX8_throwsIf fu D M t0 1) (fun v28 M28 => if v28 = 0 then bd (FX8_in fu D M28 x3 0 3) (fun v38 M38 => if v38 = 0 then FX8_odds_49 fu D M38 x1 x2 x3 1 else FX8_odds_49 fu D M38 x1 x2 x3 0) else FX8_odds_56 fu D M28)
set_option linter.unusedVariables false in
def FX8_odds_22 (fu : Nat) (D : List LDen) (M : Mem) (x1 x2 x3 : Int32) : Option (Int32 × Mem) :=
  FX8_odds_27 fu D M x1 x2 x3 1
set_option linter.unusedVariables false in
def FX8_odds (fu : Nat) (D : List LDen) (M : Mem) (x1 x2 x3 : Int32) : Option (Int32 × Mem) :=
  lt (up M (5, 0, 0) 0 0) (fun M2 => bd (FX8_noBird fu D M2 x1) (fun v8 M8 => if v8 = 0 then bd (FX8_noBird fu D M8 x2) (fun v16 M16 => if v16 = 0 then FX8_odds_27 fu D M16 x1 x2 x3 0 else FX8_odds_22 fu D M16 x1 x2 x3) else FX8_odds_22 fu D M8 x1 x2 x3))
set_option linter.unusedVariables false in
def FX8_best_70 (fu : Nat) (D : List LDen) (kn29 : Mem × Int32 × Int32 × Int32 × Int32 → Option (Int32 × Mem)) (M : Mem) (x1 x2 x3 x4 : Int32) : Option (Int32 × Mem) :=
  lt (x4 + 1) (fun y70 => kn29 (M, x1, x2, x3, y70))
set_option linter.unusedVariables false in
def FX8_best_67 (fu : Nat) (D : List LDen) (kn29 : Mem × Int32 × Int32 × Int32 × Int32 → Option (Int32 × Mem)) (M : Mem) (x1 x2 x4 : Int32) : Option (Int32 × Mem) :=
  FX8_best_70 fu D kn29 M x1 x2 x4 x4
set_option linter.unusedVariables false in
def GX8_best_29 (fu : Nat) (D : List LDen) (kn29 : Mem × Int32 × Int32 × Int32 × Int32 → Option (Int32 × Mem)) (M : Mem) (x1 x2 x3 x4 : Int32) : Option (Int32 × Mem) :=
  bd (FX8_birds fu D M) (fun v32 M32 => if v32 ≤ x4 then some (x3, M32) else bd (FX8_has fu D M32 x2 x4) (fun v41 M41 => if v41 = 0 then FX8_best_70 fu D kn29 M41 x1 x2 x3 x4 else if x3 < 0 then FX8_best_67 fu D kn29 M41 x1 x2 x4 else bd (FX8_firstHas fu D M41 x4 x1) (fun v55 M55 => bd (FX8_firstHas fu D M55 x3 x1) (fun v61 M61 => if v55 ≤ v61 then FX8_best_70 fu D kn29 M61 x1 x2 x3 x4 else FX8_best_67 fu D kn29 M61 x1 x2 x4))))
set_option linter.unusedVariables false in
def FX8_best_29 (fu : Nat) (D : List LDen) (M : Mem) (x1 x2 x3 x4 : Int32) : Option (Int32 × Mem) := lp (fun kn z => GX8_best_29 fu D kn z.1 z.2.1 z.2.2.1 z.2.2.2.1 z.2.2.2.2) fu (M, x1, x2, x3, x4)
set_option linter.unusedVariables false in
def FX8_best (fu : Nat) (D : List LDen) (M : Mem) (x1 x2 : Int32) : Option (Int32 × Mem) :=
  lt (up M (5, 0, 0) 0 0) (fun M2 => bd (FX8_noBird fu D M2 x1) (fun v8 M8 => bd (FX8_throwsIf fu D M8 v8 1) (fun v12 M12 => if v12 = 0 then bd (FX8_laysAllGoods fu D M12) (fun _ M21 => FX8_best_29 fu D M21 x1 x2 (-1) 0) else some (0, M12))))
set_option linter.unusedVariables false in
def FX8_when_101 (fu : Nat) (D : List LDen) (kn53 : Mem × Int32 × Int32 × Int32 × Int32 × Int32 × Int32 → Option (Int32 × Mem)) (M : Mem) (x1 x2 x3 x5 x6 x7 t0 : Int32) : Option (Int32 × Mem) :=
  lt (mx x5 x7) (fun y110 => lt (x6 + 1) (fun y112 => kn53 (M, x1, x2, x3, t0, y110, y112)))
set_option linter.unusedVariables false in
def GX8_when_53 (fu : Nat) (D : List LDen) (kn53 : Mem × Int32 × Int32 × Int32 × Int32 × Int32 × Int32 → Option (Int32 × Mem)) (M : Mem) (x1 x2 x3 x4 x5 x6 : Int32) : Option (Int32 × Mem) :=
  if 24 ≤ x6 then gd 6 2180 (lt (up M (5, 0, 1) 6 x3) (fun M125 => some (x4, M125))) else gd 6 2180 (lt (up M (5, 0, 1) 6 x6) (fun M68 => bd (FX8_laysGoods fu D M68 x1) (fun _ M71 => bd (FX8_laysGoods fu D M71 x2) (fun _ M76 => bd (FX8_firstHas fu D M76 x1 x2) (fun v82 M82 => if v82 ≤ x5 then FX8_when_101 fu D kn53 M82 x1 x2 x3 x5 x6 v82 x4 else FX8_when_101 fu D kn53 M82 x1 x2 x3 x5 x6 v82 x6)))))
set_option linter.unusedVariables false in
def FX8_when_53 (fu : Nat) (D : List LDen) (M : Mem) (x1 x2 x3 x4 x5 x6 : Int32) : Option (Int32 × Mem) := lp (fun kn z => GX8_when_53 fu D kn z.1 z.2.1 z.2.2.1 z.2.2.2.1 z.2.2.2.2.1 z.2.2.2.2.2.1 z.2.2.2.2.2.2) fu (M, x1, x2, x3, x4, x5, x6)
set_option linter.unusedVariables false in
def FX8_when_27 (fu : Nat) (D : List LDen) (M : Mem) (x1 x2 t0 : Int32) : Option (Int32 × Mem) :=
  bd (FX8_throwsIf fu D M t0 1) (fun v28 M28 => if v28 = 0 then gd 6 2180 (lt (M28 (5, 0, 1) 6) (fun y43 => FX8_when_53 fu D M28 x1 x2 y43 0 (-1) 0)) else some (0, M28))
set_option linter.unusedVariables false in
def FX8_when_22 (fu : Nat) (D : List LDen) (M : Mem) (x1 x2 : Int32) : Option (Int32 × Mem) :=
  FX8_when_27 fu D M x1 x2 1
set_option linter.unusedVariables false in
def FX8_when (fu : Nat) (D : List LDen) (M : Mem) (x1 x2 : Int32) : Option (Int32 × Mem) :=
  lt (up M (5, 0, 0) 0 0) (fun M2 => bd (FX8_noBird fu D M2 x1) (fun v8 M8 => if v8 = 0 then bd (FX8_noBird fu D M8 x2) (fun v16 M16 => if v16 = 0 then FX8_when_27 fu D M16 x1 x2 0 else FX8_when_22 fu D M16 x1 x2) else FX8_when_22 fu D M8 x1 x2))
set_option linter.unusedVariables false in
def FX8_alike_87 (fu : Nat) (D : List LDen) (kn23 : Mem × Int32 × Int32 × Int32 → Option (Int32 × Mem)) (M : Mem) (x2 x3 t0 t1 : Int32) : Option (Int32 × Mem) :=
  lt (t1 + t0) (fun y88 => lt (x3 + 1) (fun y89 => kn23 (M, y88, x2, y89)))
set_option linter.unusedVariables false in
def FX8_alike_68 (fu : Nat) (D : List LDen) (kn34 : Mem × Int32 × Int32 × Int32 × Int32 × Int32 → Option (Int32 × Mem)) (M : Mem) (x1 x2 x3 x5 t0 : Int32) : Option (Int32 × Mem) :=
  lt (x5 + 1) (fun y70 => kn34 (M, x1, x2, x3, t0, y70))
set_option linter.unusedVariables false in
def FX8_alike_67 (fu : Nat) (D : List LDen) (kn34 : Mem × Int32 × Int32 × Int32 × Int32 × Int32 → Option (Int32 × Mem)) (M : Mem) (x1 x2 x3 x5 : Int32) : Option (Int32 × Mem) :=
  FX8_alike_68 fu D kn34 M x1 x2 x3 x5 0
set_option linter.unusedVariables false in
def GX8_alike_34 (fu : Nat) (D : List LDen) (kn34 : Mem × Int32 × Int32 × Int32 × Int32 × Int32 → Option (Int32 × Mem)) (kn23 : Mem × Int32 × Int32 × Int32 → Option (Int32 × Mem)) (M : Mem) (x1 x2 x3 x4 x5 : Int32) : Option (Int32 × Mem) :=
  if 8 < x5 then if x4 = 0 then FX8_alike_87 fu D kn23 M x2 x3 0 x1 else FX8_alike_87 fu D kn23 M x2 x3 1 x1 else if x4 = 0 then FX8_alike_67 fu D kn34 M x1 x2 x3 x5 else bd (FX8_goodOf fu D M x2 x5) (fun v50 M50 => bd (FX8_goodOf fu D M50 x3 x5) (fun v57 M57 => if v50 = v57 then FX8_alike_68 fu D kn34 M57 x1 x2 x3 x5 1 else FX8_alike_67 fu D kn34 M57 x1 x2 x3 x5))
set_option linter.unusedVariables false in
def FX8_alike_34 (fu : Nat) (D : List LDen) (kn23 : Mem × Int32 × Int32 × Int32 → Option (Int32 × Mem)) (M : Mem) (x1 x2 x3 x4 x5 : Int32) : Option (Int32 × Mem) := lp (fun kn z => GX8_alike_34 fu D kn kn23 z.1 z.2.1 z.2.2.1 z.2.2.2.1 z.2.2.2.2.1 z.2.2.2.2.2) fu (M, x1, x2, x3, x4, x5)
set_option linter.unusedVariables false in
def GX8_alike_23 (fu : Nat) (D : List LDen) (kn23 : Mem × Int32 × Int32 × Int32 → Option (Int32 × Mem)) (kn13 : Mem × Int32 × Int32 → Option (Int32 × Mem)) (M : Mem) (x1 x2 x3 : Int32) : Option (Int32 × Mem) :=
  if x2 ≤ x3 then lt (x2 + 1) (fun y95 => kn13 (M, x1, y95)) else FX8_alike_34 fu D kn23 M x1 x2 x3 1 1
set_option linter.unusedVariables false in
def FX8_alike_23 (fu : Nat) (D : List LDen) (kn13 : Mem × Int32 × Int32 → Option (Int32 × Mem)) (M : Mem) (x1 x2 x3 : Int32) : Option (Int32 × Mem) := lp (fun kn z => GX8_alike_23 fu D kn kn13 z.1 z.2.1 z.2.2.1 z.2.2.2) fu (M, x1, x2, x3)
set_option linter.unusedVariables false in
def GX8_alike_13 (fu : Nat) (D : List LDen) (kn13 : Mem × Int32 × Int32 → Option (Int32 × Mem)) (M : Mem) (x1 x2 : Int32) : Option (Int32 × Mem) :=
  bd (FX8_birds fu D M) (fun v15 M15 => if v15 ≤ x2 then some (x1, M15) else FX8_alike_23 fu D kn13 M15 x1 x2 0)
set_option linter.unusedVariables false in
def FX8_alike_13 (fu : Nat) (D : List LDen) (M : Mem) (x1 x2 : Int32) : Option (Int32 × Mem) := lp (fun kn z => GX8_alike_13 fu D kn z.1 z.2.1 z.2.2) fu (M, x1, x2)
set_option linter.unusedVariables false in
def FX8_alike (fu : Nat) (D : List LDen) (M : Mem) : Option (Int32 × Mem) :=
  lt (up M (5, 0, 0) 0 0) (fun M2 => bd (FX8_laysAllGoods fu D M2) (fun _ M6 => FX8_alike_13 fu D M6 0 0))
set_option linter.unusedVariables false in
def FX8_bird_40 (fu : Nat) (D : List LDen) (M : Mem) : Option (Int32 × Mem) :=
  some (0, M)
set_option linter.unusedVariables false in
def FX8_bird_33 (fu : Nat) (D : List LDen) (M : Mem) (x1 x2 t0 : Int32) : Option (Int32 × Mem) :=
  bd (FX8_throwsIf fu D M t0 2) (fun v34 M34 => if v34 = 0 then bd (FX8_ofBird fu D M34 x1 x2) (fun v45 M45 => some (v45, M45)) else FX8_bird_40 fu D M34)
set_option linter.unusedVariables false in
def FX8_bird (fu : Nat) (D : List LDen) (M : Mem) (x1 x2 : Int32) : Option (Int32 × Mem) :=
  lt (up M (5, 0, 0) 0 0) (fun M2 => bd (FX8_noBird fu D M2 x1) (fun v8 M8 => bd (FX8_throwsIf fu D M8 v8 1) (fun v12 M12 => if v12 = 0 then bd (FX8_in fu D M12 x2 0 3) (fun v22 M22 => if v22 = 0 then FX8_bird_33 fu D M22 x1 x2 1 else FX8_bird_33 fu D M22 x1 x2 0) else FX8_bird_40 fu D M12)))
set_option linter.unusedVariables false in
def FX8_noCounsel_19 (fu : Nat) (D : List LDen) (M : Mem) (t0 : Int32) : Option (Int32 × Mem) :=
  some (t0 &&& 1, M)
set_option linter.unusedVariables false in
def FX8_noCounsel (fu : Nat) (D : List LDen) (M : Mem) (x1 : Int32) : Option (Int32 × Mem) :=
  bd (FX8_counsel fu D M) (fun v3 M3 => bd (FX8_in fu D M3 x1 0 (v3 - 1)) (fun v8 M8 => if v8 = 0 then FX8_noCounsel_19 fu D M8 1 else FX8_noCounsel_19 fu D M8 0))
set_option linter.unusedVariables false in
def FX8_stockOf (fu : Nat) (D : List LDen) (M : Mem) (x1 x2 : Int32) : Option (Int32 × Mem) :=
  bd (FX8_stockAt fu D M x1 x2) (fun v6 M6 => gd v6 2180 (some (M6 (5, 0, 1) v6.toNatClampNeg, M6)))
set_option linter.unusedVariables false in
def FX8_stock_44 (fu : Nat) (D : List LDen) (M : Mem) (t0 : Int32) : Option (Int32 × Mem) :=
  some (t0, M)
set_option linter.unusedVariables false in
def FX8_stock_27 (fu : Nat) (D : List LDen) (M : Mem) (x1 x2 t0 : Int32) : Option (Int32 × Mem) :=
  bd (FX8_throwsIf fu D M t0 1) (fun v28 M28 => if v28 = 0 then bd (FX8_stockOf fu D M28 x1 x2) (fun v41 M41 => FX8_stock_44 fu D M41 v41) else FX8_stock_44 fu D M28 0)
set_option linter.unusedVariables false in
def FX8_stock_22 (fu : Nat) (D : List LDen) (M : Mem) (x1 x2 : Int32) : Option (Int32 × Mem) :=
  FX8_stock_27 fu D M x1 x2 1
set_option linter.unusedVariables false in
def FX8_stock (fu : Nat) (D : List LDen) (M : Mem) (x1 x2 : Int32) : Option (Int32 × Mem) :=
  lt (up M (5, 0, 0) 0 0) (fun M2 => bd (FX8_noCounsel fu D M2 x1) (fun v8 M8 => if v8 = 0 then bd (FX8_noBird fu D M8 x2) (fun v16 M16 => if v16 = 0 then FX8_stock_27 fu D M16 x1 x2 0 else FX8_stock_22 fu D M16 x1 x2) else FX8_stock_22 fu D M8 x1 x2))
set_option linter.unusedVariables false in
def FX8_noCase_19 (fu : Nat) (D : List LDen) (M : Mem) (t0 : Int32) : Option (Int32 × Mem) :=
  some (t0 &&& 1, M)
set_option linter.unusedVariables false in
def FX8_noCase (fu : Nat) (D : List LDen) (M : Mem) (x1 : Int32) : Option (Int32 × Mem) :=
  bd (FX8_cases fu D M) (fun v3 M3 => bd (FX8_in fu D M3 x1 0 (v3 - 1)) (fun v8 M8 => if v8 = 0 then FX8_noCase_19 fu D M8 1 else FX8_noCase_19 fu D M8 0))
set_option linter.unusedVariables false in
def FX8_ofCase (fu : Nat) (D : List LDen) (M : Mem) (x1 x2 : Int32) : Option (Int32 × Mem) :=
  bd (FX8_caseAt fu D M x1 x2) (fun v6 M6 => gd v6 2180 (some (M6 (5, 0, 1) v6.toNatClampNeg, M6)))
set_option linter.unusedVariables false in
def FX8_choices_52 (fu : Nat) (D : List LDen) (kn5 : Mem × Int32 × Int32 × Int32 × Int32 → Option (Int32 × Mem)) (M : Mem) (x1 x2 x4 t0 t1 : Int32) : Option (Int32 × Mem) :=
  lt (t1 ||| t0) (fun y53 => lt (x4 + 1) (fun y54 => kn5 (M, x1, x2, y53, y54)))
set_option linter.unusedVariables false in
def FX8_choices_51 (fu : Nat) (D : List LDen) (kn5 : Mem × Int32 × Int32 × Int32 × Int32 → Option (Int32 × Mem)) (M : Mem) (x1 x2 x4 t0 : Int32) : Option (Int32 × Mem) :=
  FX8_choices_52 fu D kn5 M x1 x2 x4 0 t0
set_option linter.unusedVariables false in
def GX8_choices_5 (fu : Nat) (D : List LDen) (kn5 : Mem × Int32 × Int32 × Int32 × Int32 → Option (Int32 × Mem)) (M : Mem) (x1 x2 x3 x4 : Int32) : Option (Int32 × Mem) :=
  bd (FX8_birds fu D M) (fun v8 M8 => if v8 ≤ x4 then some (x3, M8) else bd (FX8_ofCase fu D M8 x1 2) (fun v18 M18 => bd (FX8_has fu D M18 v18 x4) (fun v23 M23 => if v23 = 0 then FX8_choices_51 fu D kn5 M23 x1 x2 x4 x3 else bd (FX8_ofCase fu D M23 x1 x2) (fun v33 M33 => bd (FX8_stockOf fu D M33 v33 x4) (fun v38 M38 => if v38 ≤ 0 then FX8_choices_51 fu D kn5 M38 x1 x2 x4 x3 else FX8_choices_52 fu D kn5 M38 x1 x2 x4 (1 <<< (x4 &&& 31)) x3)))))
set_option linter.unusedVariables false in
def FX8_choices_5 (fu : Nat) (D : List LDen) (M : Mem) (x1 x2 x3 x4 : Int32) : Option (Int32 × Mem) := lp (fun kn z => GX8_choices_5 fu D kn z.1 z.2.1 z.2.2.1 z.2.2.2.1 z.2.2.2.2) fu (M, x1, x2, x3, x4)
set_option linter.unusedVariables false in
def FX8_choices (fu : Nat) (D : List LDen) (M : Mem) (x1 x2 : Int32) : Option (Int32 × Mem) :=
  FX8_choices_5 fu D M x1 x2 0 0
set_option linter.unusedVariables false in
def FX8_matter_40 (fu : Nat) (D : List LDen) (M : Mem) : Option (Int32 × Mem) :=
  some (0, M)
set_option linter.unusedVariables false in
def FX8_matter_64 (fu : Nat) (D : List LDen) (M : Mem) (t0 : Int32) : Option (Int32 × Mem) :=
  some (t0, M)
set_option linter.unusedVariables false in
def FX8_matter_33 (fu : Nat) (D : List LDen) (M : Mem) (x1 x2 t0 : Int32) : Option (Int32 × Mem) :=
  bd (FX8_throwsIf fu D M t0 2) (fun v34 M34 => if v34 = 0 then if 4 ≤ x2 then bd (FX8_choices fu D M34 x1 (x2 - 4)) (fun v61 M61 => FX8_matter_64 fu D M61 v61) else bd (FX8_ofCase fu D M34 x1 x2) (fun v50 M50 => FX8_matter_64 fu D M50 v50) else FX8_matter_40 fu D M34)
set_option linter.unusedVariables false in
def FX8_matter (fu : Nat) (D : List LDen) (M : Mem) (x1 x2 : Int32) : Option (Int32 × Mem) :=
  lt (up M (5, 0, 0) 0 0) (fun M2 => bd (FX8_noCase fu D M2 x1) (fun v8 M8 => bd (FX8_throwsIf fu D M8 v8 1) (fun v12 M12 => if v12 = 0 then bd (FX8_in fu D M12 x2 0 5) (fun v22 M22 => if v22 = 0 then FX8_matter_33 fu D M22 x1 x2 1 else FX8_matter_33 fu D M22 x1 x2 0) else FX8_matter_40 fu D M12)))
set_option linter.unusedVariables false in
def FX8_wind_30 (fu : Nat) (D : List LDen) (M : Mem) (t0 : Int32) : Option (Int32 × Mem) :=
  some (t0, M)
set_option linter.unusedVariables false in
def FX8_wind (fu : Nat) (D : List LDen) (M : Mem) (x1 : Int32) : Option (Int32 × Mem) :=
  lt (up M (5, 0, 0) 0 0) (fun M2 => bd (FX8_noLevel fu D M2 x1) (fun v7 M7 => bd (FX8_throwsIf fu D M7 v7 1) (fun v11 M11 => if v11 = 0 then gd (13 + x1) 2180 (FX8_wind_30 fu D M11 (M11 (5, 0, 1) ((13 + x1).toNatClampNeg))) else FX8_wind_30 fu D M11 0)))
set_option linter.unusedVariables false in
def FX8_isOpen_14 (fu : Nat) (D : List LDen) (M : Mem) (t0 : Int32) : Option (Int32 × Mem) :=
  some (t0 &&& 1, M)
set_option linter.unusedVariables false in
def FX8_isOpen (fu : Nat) (D : List LDen) (M : Mem) (x1 : Int32) : Option (Int32 × Mem) :=
  bd (FX8_ofCase fu D M x1 3) (fun v3 M3 => if v3 = 0 then FX8_isOpen_14 fu D M3 1 else FX8_isOpen_14 fu D M3 0)
set_option linter.unusedVariables false in
def FX8_leastBy_40 (fu : Nat) (D : List LDen) (kn7 : Mem × Int32 × Int32 × Int32 × Int32 → Option (Int32 × Mem)) (M : Mem) (x1 x2 x4 t0 : Int32) : Option (Int32 × Mem) :=
  lt (x4 + 1) (fun y41 => kn7 (M, x1, x2, t0, y41))
set_option linter.unusedVariables false in
def GX8_leastBy_7 (fu : Nat) (D : List LDen) (kn7 : Mem × Int32 × Int32 × Int32 × Int32 → Option (Int32 × Mem)) (M : Mem) (x1 x2 x3 x4 : Int32) : Option (Int32 × Mem) :=
  bd (FX8_birds fu D M) (fun v10 M10 => if v10 ≤ x4 then some ((((100) * (x3.toInt64)) / (43046721)).toInt32, M10) else bd (FX8_has fu D M10 x2 x4) (fun v19 M19 => if v19 = 0 then FX8_leastBy_40 fu D kn7 M19 x1 x2 x4 x3 else bd (FX8_firstHas fu D M19 x1 x4) (fun v30 M30 => FX8_leastBy_40 fu D kn7 M30 x1 x2 x4 (mn x3 v30))))
set_option linter.unusedVariables false in
def FX8_leastBy_7 (fu : Nat) (D : List LDen) (M : Mem) (x1 x2 x3 x4 : Int32) : Option (Int32 × Mem) := lp (fun kn z => GX8_leastBy_7 fu D kn z.1 z.2.1 z.2.2.1 z.2.2.2.1 z.2.2.2.2) fu (M, x1, x2, x3, x4)
set_option linter.unusedVariables false in
def FX8_leastBy (fu : Nat) (D : List LDen) (M : Mem) (x1 x2 : Int32) : Option (Int32 × Mem) :=
  FX8_leastBy_7 fu D M x1 x2 43046721 0
set_option linter.unusedVariables false in
def FX8_surest_39 (fu : Nat) (D : List LDen) (M : Mem) : Option (Int32 × Mem) :=
  some (0, M)
set_option linter.unusedVariables false in
def FX8_surest_83 (fu : Nat) (D : List LDen) (M : Mem) : Option (Int32 × Mem) :=
  some ((-1), M)
set_option linter.unusedVariables false in
def FX8_surest_164 (fu : Nat) (D : List LDen) (M : Mem) (t0 : Int32) : Option (Int32 × Mem) :=
  some (t0, M)
set_option linter.unusedVariables false in
def FX8_surest_147 (fu : Nat) (D : List LDen) (kn98 : Mem × Int32 × Int32 × Int32 × Int32 × Int32 × Int32 → Option (Int32 × Mem)) (M : Mem) (x3 x4 x5 x6 x7 x8 : Int32) : Option (Int32 × Mem) :=
  lt (x8 + 1) (fun y147 => kn98 (M, x3, x4, x5, x6, x7, y147))
set_option linter.unusedVariables false in
def GX8_surest_98 (fu : Nat) (D : List LDen) (kn98 : Mem × Int32 × Int32 × Int32 × Int32 × Int32 × Int32 → Option (Int32 × Mem)) (M : Mem) (x3 x4 x5 x6 x7 x8 : Int32) : Option (Int32 × Mem) :=
  bd (FX8_birds fu D M) (fun v101 M101 => if v101 ≤ x8 then if x3 = 0 then FX8_surest_164 fu D M101 x6 else FX8_surest_164 fu D M101 x7 else bd (FX8_has fu D M101 x4 x8) (fun v111 M111 => if v111 = 0 then FX8_surest_147 fu D kn98 M111 x3 x4 x5 x6 x7 x8 else bd (FX8_leastBy fu D M111 x8 x5) (fun v122 M122 => if x7 < v122 then bd (FX8_leastBy fu D M122 x8 x5) (fun v142 M142 => FX8_surest_147 fu D kn98 M142 x3 x4 x5 x8 v142 x8) else FX8_surest_147 fu D kn98 M122 x3 x4 x5 x6 x7 x8)))
set_option linter.unusedVariables false in
def FX8_surest_98 (fu : Nat) (D : List LDen) (M : Mem) (x3 x4 x5 x6 x7 x8 : Int32) : Option (Int32 × Mem) := lp (fun kn z => GX8_surest_98 fu D kn z.1 z.2.1 z.2.2.1 z.2.2.2.1 z.2.2.2.2.1 z.2.2.2.2.2.1 z.2.2.2.2.2.2) fu (M, x3, x4, x5, x6, x7, x8)
set_option linter.unusedVariables false in
def FX8_surest_68 (fu : Nat) (D : List LDen) (M : Mem) (x3 x4 t0 t1 : Int32) : Option (Int32 × Mem) :=
  bd (FX8_choices fu D M t1 t0) (fun v68 M68 => if x4 = 0 then FX8_surest_83 fu D M68 else if v68 = 0 then FX8_surest_83 fu D M68 else bd (FX8_laysAllGoods fu D M68) (fun _ M86 => FX8_surest_98 fu D M86 x3 x4 v68 (-1) (-1) 0))
set_option linter.unusedVariables false in
def FX8_surest_52 (fu : Nat) (D : List LDen) (M : Mem) (x1 x2 x3 t0 t1 : Int32) : Option (Int32 × Mem) :=
  bd (FX8_choices fu D M t1 t0) (fun v52 M52 => if x2 = 0 then FX8_surest_68 fu D M52 x3 v52 1 x1 else FX8_surest_68 fu D M52 x3 v52 0 x1)
set_option linter.unusedVariables false in
def FX8_surest_32 (fu : Nat) (D : List LDen) (M : Mem) (x1 x2 x3 t0 : Int32) : Option (Int32 × Mem) :=
  bd (FX8_throwsIf fu D M t0 2) (fun v33 M33 => if v33 = 0 then if x2 = 0 then FX8_surest_52 fu D M33 x1 x2 x3 0 x1 else FX8_surest_52 fu D M33 x1 x2 x3 1 x1 else FX8_surest_39 fu D M33)
set_option linter.unusedVariables false in
def FX8_surest (fu : Nat) (D : List LDen) (M : Mem) (x1 x2 x3 : Int32) : Option (Int32 × Mem) :=
  lt (up M (5, 0, 0) 0 0) (fun M2 => bd (FX8_noCase fu D M2 x1) (fun v8 M8 => bd (FX8_throwsIf fu D M8 v8 1) (fun v12 M12 => if v12 = 0 then bd (FX8_isOpen fu D M12 x1) (fun v21 M21 => if v21 = 0 then FX8_surest_32 fu D M21 x1 x2 x3 1 else FX8_surest_32 fu D M21 x1 x2 x3 0) else FX8_surest_39 fu D M12)))
set_option linter.unusedVariables false in
def FX8_isBestOf_39 (fu : Nat) (D : List LDen) (kn3 : Mem × Int32 × Int32 × Int32 × Int32 → Option (Int32 × Mem)) (M : Mem) (x1 x2 x3 x4 : Int32) : Option (Int32 × Mem) :=
  lt (x4 + 1) (fun y39 => kn3 (M, x1, x2, x3, y39))
set_option linter.unusedVariables false in
def GX8_isBestOf_3 (fu : Nat) (D : List LDen) (kn3 : Mem × Int32 × Int32 × Int32 × Int32 → Option (Int32 × Mem)) (M : Mem) (x1 x2 x3 x4 : Int32) : Option (Int32 × Mem) :=
  bd (FX8_birds fu D M) (fun v6 M6 => if v6 ≤ x4 then some (1, M6) else bd (FX8_has fu D M6 x3 x4) (fun v15 M15 => if v15 = 0 then FX8_isBestOf_39 fu D kn3 M15 x1 x2 x3 x4 else bd (FX8_firstHas fu D M15 x4 x2) (fun v25 M25 => bd (FX8_firstHas fu D M25 x1 x2) (fun v31 M31 => if v25 ≤ v31 then FX8_isBestOf_39 fu D kn3 M31 x1 x2 x3 x4 else some (0, M31)))))
set_option linter.unusedVariables false in
def FX8_isBestOf_3 (fu : Nat) (D : List LDen) (M : Mem) (x1 x2 x3 x4 : Int32) : Option (Int32 × Mem) := lp (fun kn z => GX8_isBestOf_3 fu D kn z.1 z.2.1 z.2.2.1 z.2.2.2.1 z.2.2.2.2) fu (M, x1, x2, x3, x4)
set_option linter.unusedVariables false in
def FX8_isBestOf (fu : Nat) (D : List LDen) (M : Mem) (x1 x2 x3 : Int32) : Option (Int32 × Mem) :=
  FX8_isBestOf_3 fu D M x1 x2 x3 0
set_option linter.unusedVariables false in
def FX8_rests_39 (fu : Nat) (D : List LDen) (M : Mem) : Option (Int32 × Mem) :=
  some (0, M)
set_option linter.unusedVariables false in
def FX8_rests_166 (fu : Nat) (D : List LDen) (M : Mem) (t0 : Int32) : Option (Int32 × Mem) :=
  some (t0, M)
set_option linter.unusedVariables false in
def FX8_rests_149 (fu : Nat) (D : List LDen) (kn70 : Mem × Int32 × Int32 × Int32 × Int32 × Int32 × Int32 → Option (Int32 × Mem)) (M : Mem) (x2 x3 x4 x5 x6 x7 : Int32) : Option (Int32 × Mem) :=
  lt (x7 + (-1)) (fun y149 => kn70 (M, x2, x3, x4, x5, x6, y149))
set_option linter.unusedVariables false in
def GX8_rests_70 (fu : Nat) (D : List LDen) (kn70 : Mem × Int32 × Int32 × Int32 × Int32 × Int32 × Int32 → Option (Int32 × Mem)) (M : Mem) (x2 x3 x4 x5 x6 x7 : Int32) : Option (Int32 × Mem) :=
  if x7 < 0 then if x2 = 0 then FX8_rests_166 fu D M x5 else FX8_rests_166 fu D M x6 else lt (x7 / 6) (fun y80 => lt (rm x7 6) (fun y87 => bd (FX8_has fu D M x3 y80) (fun v92 M92 => if v92 = 0 then FX8_rests_149 fu D kn70 M92 x2 x3 x4 x5 x6 x7 else bd (FX8_has fu D M92 x4 y87) (fun v102 M102 => if v102 = 0 then FX8_rests_149 fu D kn70 M102 x2 x3 x4 x5 x6 x7 else bd (FX8_isBestOf fu D M102 y80 y87 x3) (fun v114 M114 => if v114 = 0 then FX8_rests_149 fu D kn70 M114 x2 x3 x4 x5 x6 x7 else bd (FX8_isBestOf fu D M114 y87 y80 x4) (fun v127 M127 => if v127 = 0 then FX8_rests_149 fu D kn70 M127 x2 x3 x4 x5 x6 x7 else lt (x5 + 1) (fun y136 => lt ((10 * y80) + y87) (fun y147 => FX8_rests_149 fu D kn70 M127 x2 x3 x4 y136 y147 x7))))))))
set_option linter.unusedVariables false in
def FX8_rests_70 (fu : Nat) (D : List LDen) (M : Mem) (x2 x3 x4 x5 x6 x7 : Int32) : Option (Int32 × Mem) := lp (fun kn z => GX8_rests_70 fu D kn z.1 z.2.1 z.2.2.1 z.2.2.2.1 z.2.2.2.2.1 z.2.2.2.2.2.1 z.2.2.2.2.2.2) fu (M, x2, x3, x4, x5, x6, x7)
set_option linter.unusedVariables false in
def FX8_rests_32 (fu : Nat) (D : List LDen) (M : Mem) (x1 x2 t0 : Int32) : Option (Int32 × Mem) :=
  bd (FX8_throwsIf fu D M t0 2) (fun v33 M33 => if v33 = 0 then bd (FX8_laysAllGoods fu D M33) (fun _ M42 => bd (FX8_choices fu D M42 x1 0) (fun v48 M48 => bd (FX8_choices fu D M48 x1 1) (fun v55 M55 => FX8_rests_70 fu D M55 x2 v48 v55 0 (-1) 35))) else FX8_rests_39 fu D M33)
set_option linter.unusedVariables false in
def FX8_rests (fu : Nat) (D : List LDen) (M : Mem) (x1 x2 : Int32) : Option (Int32 × Mem) :=
  lt (up M (5, 0, 0) 0 0) (fun M2 => bd (FX8_noCase fu D M2 x1) (fun v8 M8 => bd (FX8_throwsIf fu D M8 v8 1) (fun v12 M12 => if v12 = 0 then bd (FX8_isOpen fu D M12 x1) (fun v21 M21 => if v21 = 0 then FX8_rests_32 fu D M21 x1 x2 1 else FX8_rests_32 fu D M21 x1 x2 0) else FX8_rests_39 fu D M12)))
set_option linter.unusedVariables false in
def FX8_fair_39 (fu : Nat) (D : List LDen) (M : Mem) : Option (Int32 × Mem) :=
  some (0, M)
set_option linter.unusedVariables false in
def FX8_fair_149 (fu : Nat) (D : List LDen) (kn66 : Mem × Int32 × Int32 × Int32 × Int32 × Int32 → Option (Int32 × Mem)) (M : Mem) (x1 x2 x3 x4 x5 : Int32) : Option (Int32 × Mem) :=
  lt (x5 + 1) (fun y149 => kn66 (M, x1, x2, x3, x4, y149))
set_option linter.unusedVariables false in
def GX8_fair_66 (fu : Nat) (D : List LDen) (kn66 : Mem × Int32 × Int32 × Int32 × Int32 × Int32 → Option (Int32 × Mem)) (kn54 : Mem × Int32 × Int32 × Int32 × Int32 → Option (Int32 × Mem)) (M : Mem) (x1 x2 x3 x4 x5 : Int32) : Option (Int32 × Mem) :=
  bd (FX8_birds fu D M) (fun v69 M69 => if v69 ≤ x5 then lt (x4 + 1) (fun y155 => kn54 (M69, x1, x2, x3, y155)) else bd (FX8_choices fu D M69 x1 0) (fun v78 M78 => bd (FX8_has fu D M78 v78 x4) (fun v83 M83 => if v83 = 0 then FX8_fair_149 fu D kn66 M83 x1 x2 x3 x4 x5 else bd (FX8_choices fu D M83 x1 1) (fun v92 M92 => bd (FX8_has fu D M92 v92 x5) (fun v97 M97 => if v97 = 0 then FX8_fair_149 fu D kn66 M97 x1 x2 x3 x4 x5 else bd (FX8_firstHas fu D M97 x4 x5) (fun v111 M111 => bd (FX8_firstHas fu D M111 x5 x4) (fun v119 M119 => lt (ab (v111 - v119)) (fun y126 => if y126 < x3 then lt ((10 * x4) + x5) (fun y145 => FX8_fair_149 fu D kn66 M119 x1 y145 y126 x4 x5) else FX8_fair_149 fu D kn66 M119 x1 x2 x3 x4 x5))))))))
set_option linter.unusedVariables false in
def FX8_fair_66 (fu : Nat) (D : List LDen) (kn54 : Mem × Int32 × Int32 × Int32 × Int32 → Option (Int32 × Mem)) (M : Mem) (x1 x2 x3 x4 x5 : Int32) : Option (Int32 × Mem) := lp (fun kn z => GX8_fair_66 fu D kn kn54 z.1 z.2.1 z.2.2.1 z.2.2.2.1 z.2.2.2.2.1 z.2.2.2.2.2) fu (M, x1, x2, x3, x4, x5)
set_option linter.unusedVariables false in
def GX8_fair_54 (fu : Nat) (D : List LDen) (kn54 : Mem × Int32 × Int32 × Int32 × Int32 → Option (Int32 × Mem)) (M : Mem) (x1 x2 x3 x4 : Int32) : Option (Int32 × Mem) :=
  bd (FX8_birds fu D M) (fun v57 M57 => if v57 ≤ x4 then some (x2, M57) else FX8_fair_66 fu D kn54 M57 x1 x2 x3 x4 0)
set_option linter.unusedVariables false in
def FX8_fair_54 (fu : Nat) (D : List LDen) (M : Mem) (x1 x2 x3 x4 : Int32) : Option (Int32 × Mem) := lp (fun kn z => GX8_fair_54 fu D kn z.1 z.2.1 z.2.2.1 z.2.2.2.1 z.2.2.2.2) fu (M, x1, x2, x3, x4)
set_option linter.unusedVariables false in
def FX8_fair_32 (fu : Nat) (D : List LDen) (M : Mem) (x1 t0 : Int32) : Option (Int32 × Mem) :=
  bd (FX8_throwsIf fu D M t0 2) (fun v33 M33 => if v33 = 0 then bd (FX8_laysAllGoods fu D M33) (fun _ M42 => FX8_fair_54 fu D M42 x1 (-1) 43046722 0) else FX8_fair_39 fu D M33)
set_option linter.unusedVariables false in
def FX8_fair (fu : Nat) (D : List LDen) (M : Mem) (x1 : Int32) : Option (Int32 × Mem) :=
  lt (up M (5, 0, 0) 0 0) (fun M2 => bd (FX8_noCase fu D M2 x1) (fun v8 M8 => bd (FX8_throwsIf fu D M8 v8 1) (fun v12 M12 => if v12 = 0 then bd (FX8_isOpen fu D M12 x1) (fun v21 M21 => if v21 = 0 then FX8_fair_32 fu D M21 x1 1 else FX8_fair_32 fu D M21 x1 0) else FX8_fair_39 fu D M12)))
set_option linter.unusedVariables false in
def GX8_remembers_55 (fu : Nat) (D : List LDen) (kn55 : Mem × Int32 → Option (Int32 × Mem)) (M : Mem) (x1 : Int32) : Option (Int32 × Mem) :=
  if 482 ≤ x1 then some (0, M) else gd x1 2180 (gd ((482 * ((M (5, 0, 0) 7) - 1)) + x1) 5784 (lt (up M (5, 0, 5) (((482 * ((M (5, 0, 0) 7) - 1)) + x1).toNatClampNeg) (M (5, 0, 1) x1.toNatClampNeg)) (fun M84 => lt (x1 + 1) (fun y85 => kn55 (M84, y85)))))
set_option linter.unusedVariables false in
def FX8_remembers_55 (fu : Nat) (D : List LDen) (M : Mem) (x1 : Int32) : Option (Int32 × Mem) := lp (fun kn z => GX8_remembers_55 fu D kn z.1 z.2) fu (M, x1)
set_option linter.unusedVariables false in
def FX8_remembers_53 (fu : Nat) (D : List LDen) (M : Mem) : Option (Int32 × Mem) :=
  FX8_remembers_55 fu D M 0
set_option linter.unusedVariables false in
def GX8_remembers_11 (fu : Nat) (D : List LDen) (kn11 : Mem × Int32 → Option (Int32 × Mem)) (M : Mem) (x1 : Int32) : Option (Int32 × Mem) :=
  if 5302 ≤ x1 then FX8_remembers_53 fu D M else gd (x1 + 482) 5784 (gd x1 5784 (lt (up M (5, 0, 5) x1.toNatClampNeg (M (5, 0, 5) ((x1 + 482).toNatClampNeg))) (fun M33 => lt (x1 + 1) (fun y34 => kn11 (M33, y34)))))
set_option linter.unusedVariables false in
def FX8_remembers_11 (fu : Nat) (D : List LDen) (M : Mem) (x1 : Int32) : Option (Int32 × Mem) := lp (fun kn z => GX8_remembers_11 fu D kn z.1 z.2) fu (M, x1)
set_option linter.unusedVariables false in
def FX8_remembers (fu : Nat) (D : List LDen) (M : Mem) : Option (Int32 × Mem) :=
  if (M (5, 0, 0) 7) = 12 then FX8_remembers_11 fu D M 0 else lt (up M (5, 0, 0) 7 ((M (5, 0, 0) 7) + 1)) (fun M50 => FX8_remembers_53 fu D M50)
set_option linter.unusedVariables false in
def FX8_drawn (fu : Nat) (D : List LDen) (M : Mem) (x1 : Int32) : Option (Int32 × Mem) :=
  gd 12 2180 (gd 12 2180 (lt (up M (5, 0, 1) 12 ((1103515245 * (M (5, 0, 1) 12)) + 12345)) (fun M20 => gd 12 2180 (nz x1 (some (rm (((M20 (5, 0, 1) 12) >>> (16 &&& 31)) &&& 32767) x1, M20))))))
set_option linter.unusedVariables false in
def FX8_goodIn (fu : Nat) (D : List LDen) (M : Mem) (x1 : Int32) : Option (Int32 × Mem) :=
  gd ((4 * x1) + 3) 8 (some (M (5, 0, 12) (((4 * x1) + 3).toNatClampNeg), M))
set_option linter.unusedVariables false in
def FX8_called_116 (fu : Nat) (D : List LDen) (M : Mem) (t0 : Int32) : Option (Int32 × Mem) :=
  some (t0, M)
set_option linter.unusedVariables false in
def FX8_called_111 (fu : Nat) (D : List LDen) (M : Mem) : Option (Int32 × Mem) :=
  FX8_called_116 fu D M 1
set_option linter.unusedVariables false in
def FX8_called_115 (fu : Nat) (D : List LDen) (M : Mem) : Option (Int32 × Mem) :=
  FX8_called_116 fu D M 2
set_option linter.unusedVariables false in
def FX8_called_88 (fu : Nat) (D : List LDen) (M : Mem) (x3 x4 : Int32) : Option (Int32 × Mem) :=
  if x3 = x4 then some (3, M) else if x4 = 0 then FX8_called_111 fu D M else if x3 ≤ 0 then FX8_called_115 fu D M else if x4 ≤ x3 then FX8_called_115 fu D M else FX8_called_111 fu D M
set_option linter.unusedVariables false in
def FX8_called_52 (fu : Nat) (D : List LDen) (kn23 : Mem × Int32 × Int32 → Option (Int32 × Mem)) (M : Mem) (x3 x4 : Int32) : Option (Int32 × Mem) :=
  lt (x4 + 1) (fun y52 => kn23 (M, x3, y52))
set_option linter.unusedVariables false in
def GX8_called_23 (fu : Nat) (D : List LDen) (kn23 : Mem × Int32 × Int32 → Option (Int32 × Mem)) (kn14 : Mem × Int32 → Option (Int32 × Mem)) (M : Mem) (x3 x4 : Int32) : Option (Int32 × Mem) :=
  if 2 ≤ x4 then lt (x3 + 1) (fun y58 => kn14 (M, y58)) else bd (FX8_isFlying fu D M x4) (fun v32 M32 => if v32 = 0 then FX8_called_52 fu D kn23 M32 x3 x4 else bd (FX8_drawn fu D M32 3) (fun v43 M43 => bd (FX8_breathes fu D M43 x4 (v43 - 1) x3) (fun _ M49 => FX8_called_52 fu D kn23 M49 x3 x4)))
set_option linter.unusedVariables false in
def FX8_called_23 (fu : Nat) (D : List LDen) (kn14 : Mem × Int32 → Option (Int32 × Mem)) (M : Mem) (x3 x4 : Int32) : Option (Int32 × Mem) := lp (fun kn z => GX8_called_23 fu D kn kn14 z.1 z.2.1 z.2.2) fu (M, x3, x4)
set_option linter.unusedVariables false in
def GX8_called_14 (fu : Nat) (D : List LDen) (kn14 : Mem × Int32 → Option (Int32 × Mem)) (M : Mem) (x3 : Int32) : Option (Int32 × Mem) :=
  if 8 ≤ x3 then bd (FX8_goodIn fu D M 0) (fun v66 M66 => bd (FX8_goodIn fu D M66 1) (fun v72 M72 => if v66 = 0 then if v72 = 0 then some (4, M72) else FX8_called_88 fu D M72 v66 v72 else FX8_called_88 fu D M72 v66 v72)) else FX8_called_23 fu D kn14 M x3 0
set_option linter.unusedVariables false in
def FX8_called_14 (fu : Nat) (D : List LDen) (M : Mem) (x3 : Int32) : Option (Int32 × Mem) := lp (fun kn z => GX8_called_14 fu D kn z.1 z.2) fu (M, x3)
set_option linter.unusedVariables false in
def FX8_called (fu : Nat) (D : List LDen) (M : Mem) (x1 x2 : Int32) : Option (Int32 × Mem) :=
  bd (FX8_begins fu D M 0 x1) (fun _ M3 => bd (FX8_begins fu D M3 1 x2) (fun _ M9 => FX8_called_14 fu D M9 0))
set_option linter.unusedVariables false in
def FX8_goodFirst_33 (fu : Nat) (D : List LDen) (M : Mem) (t0 : Int32) : Option (Int32 × Mem) :=
  some (t0, M)
set_option linter.unusedVariables false in
def FX8_goodFirst (fu : Nat) (D : List LDen) (M : Mem) : Option (Int32 × Mem) :=
  bd (FX8_goodIn fu D M 0) (fun v2 M2 => bd (FX8_goodIn fu D M2 1) (fun v8 M8 => if v2 = 0 then FX8_goodFirst_33 fu D M8 v8 else if v8 = 0 then FX8_goodFirst_33 fu D M8 v2 else FX8_goodFirst_33 fu D M8 (mn v2 v8)))
set_option linter.unusedVariables false in
def GX8_tells_5 (fu : Nat) (D : List LDen) (kn5 : Mem × Int32 × Int32 × Int32 × Int32 × Int32 → Option (Int32 × Mem)) (M : Mem) (x1 x2 x3 x4 x5 : Int32) : Option (Int32 × Mem) :=
  if x5 < 6 then gd 5 2180 (gd 122 2180 (lt (up M (5, 0, 1) 122 (M (5, 0, 1) 5)) (fun M53 => gd 123 2180 (lt (up M53 (5, 0, 1) 123 x1) (fun M61 => gd 124 2180 (lt (up M61 (5, 0, 1) 124 x2) (fun M69 => gd 125 2180 (lt (up M69 (5, 0, 1) 125 x3) (fun M77 => gd 126 2180 (lt (up M77 (5, 0, 1) 126 x4) (fun M86 => bd (FX8_goodFirst fu D M86) (fun v94 M94 => gd 127 2180 (lt (up M94 (5, 0, 1) 127 v94) (fun M97 => gd 11 2180 (gd 11 2180 (lt (up M97 (5, 0, 1) 11 (mn 60 ((M97 (5, 0, 1) 11) + 1))) (fun M118 => some (0, M118)))))))))))))))))) else gd ((122 + x5) - 6) 2180 (gd (122 + x5) 2180 (lt (up M (5, 0, 1) ((122 + x5).toNatClampNeg) (M (5, 0, 1) (((122 + x5) - 6).toNatClampNeg))) (fun M34 => lt (x5 + (-1)) (fun y35 => kn5 (M34, x1, x2, x3, x4, y35)))))
set_option linter.unusedVariables false in
def FX8_tells_5 (fu : Nat) (D : List LDen) (M : Mem) (x1 x2 x3 x4 x5 : Int32) : Option (Int32 × Mem) := lp (fun kn z => GX8_tells_5 fu D kn z.1 z.2.1 z.2.2.1 z.2.2.2.1 z.2.2.2.2.1 z.2.2.2.2.2) fu (M, x1, x2, x3, x4, x5)
set_option linter.unusedVariables false in
def FX8_tells (fu : Nat) (D : List LDen) (M : Mem) (x1 x2 x3 x4 : Int32) : Option (Int32 × Mem) :=
  FX8_tells_5 fu D M x1 x2 x3 x4 359
set_option linter.unusedVariables false in
def FX8_call_89 (fu : Nat) (D : List LDen) (M : Mem) : Option (Int32 × Mem) :=
  some (0, M)
set_option linter.unusedVariables false in
def FX8_call_82 (fu : Nat) (D : List LDen) (M : Mem) (x1 x2 x3 t0 : Int32) : Option (Int32 × Mem) :=
  bd (FX8_throwsIf fu D M t0 2) (fun v83 M83 => if v83 = 0 then bd (FX8_remembers fu D M83) (fun _ M92 => bd (FX8_ofCase fu D M92 x1 0) (fun v102 M102 => bd (FX8_stockAt fu D M102 v102 x2) (fun v106 M106 => gd v106 2180 (gd v106 2180 (lt (up M106 (5, 0, 1) v106.toNatClampNeg ((M106 (5, 0, 1) v106.toNatClampNeg) - 1)) (fun M113 => bd (FX8_ofCase fu D M113 x1 1) (fun v121 M121 => bd (FX8_stockAt fu D M121 v121 x3) (fun v125 M125 => gd v125 2180 (gd v125 2180 (lt (up M125 (5, 0, 1) v125.toNatClampNeg ((M125 (5, 0, 1) v125.toNatClampNeg) - 1)) (fun M132 => bd (FX8_called fu D M132 x2 x3) (fun v136 M136 => bd (FX8_caseAt fu D M136 x1 3) (fun v147 M147 => gd v147 2180 (lt (up M147 (5, 0, 1) v147.toNatClampNeg v136) (fun M152 => bd (FX8_tells fu D M152 x1 x2 x3 v136) (fun _ M159 => some (v136, M159))))))))))))))))) else FX8_call_89 fu D M83)
set_option linter.unusedVariables false in
def FX8_call_77 (fu : Nat) (D : List LDen) (M : Mem) (x1 x2 x3 : Int32) : Option (Int32 × Mem) :=
  FX8_call_82 fu D M x1 x2 x3 1
set_option linter.unusedVariables false in
def FX8_call_35 (fu : Nat) (D : List LDen) (M : Mem) (x1 x2 x3 t0 : Int32) : Option (Int32 × Mem) :=
  bd (FX8_throwsIf fu D M t0 1) (fun v36 M36 => if v36 = 0 then bd (FX8_isOpen fu D M36 x1) (fun v45 M45 => if v45 = 0 then FX8_call_77 fu D M45 x1 x2 x3 else bd (FX8_choices fu D M45 x1 0) (fun v54 M54 => bd (FX8_has fu D M54 v54 x2) (fun v58 M58 => if v58 = 0 then FX8_call_77 fu D M58 x1 x2 x3 else bd (FX8_choices fu D M58 x1 1) (fun v67 M67 => bd (FX8_has fu D M67 v67 x3) (fun v71 M71 => if v71 = 0 then FX8_call_77 fu D M71 x1 x2 x3 else FX8_call_82 fu D M71 x1 x2 x3 0))))) else FX8_call_89 fu D M36)
set_option linter.unusedVariables false in
def FX8_call_30 (fu : Nat) (D : List LDen) (M : Mem) (x1 x2 x3 : Int32) : Option (Int32 × Mem) :=
  FX8_call_35 fu D M x1 x2 x3 1
set_option linter.unusedVariables false in
def FX8_call (fu : Nat) (D : List LDen) (M : Mem) (x1 x2 x3 : Int32) : Option (Int32 × Mem) :=
  lt (up M (5, 0, 0) 0 0) (fun M2 => bd (FX8_noCase fu D M2 x1) (fun v8 M8 => if v8 = 0 then bd (FX8_noBird fu D M8 x2) (fun v16 M16 => if v16 = 0 then bd (FX8_noBird fu D M16 x3) (fun v24 M24 => if v24 = 0 then FX8_call_35 fu D M24 x1 x2 x3 0 else FX8_call_30 fu D M24 x1 x2 x3) else FX8_call_30 fu D M16 x1 x2 x3) else FX8_call_30 fu D M8 x1 x2 x3))
set_option linter.unusedVariables false in
def FX8_hour_21 (fu : Nat) (D : List LDen) (M : Mem) (x1 t0 : Int32) : Option (Int32 × Mem) :=
  bd (FX8_throwsIf fu D M t0 1) (fun v22 M22 => if v22 = 0 then bd (FX8_remembers fu D M22) (fun _ M31 => gd 6 2180 (lt (M31 (5, 0, 1) 6) (fun y41 => gd 6 2180 (lt (up M31 (5, 0, 1) 6 x1) (fun M49 => some (y41, M49)))))) else some (0, M22))
set_option linter.unusedVariables false in
def FX8_hour (fu : Nat) (D : List LDen) (M : Mem) (x1 : Int32) : Option (Int32 × Mem) :=
  lt (up M (5, 0, 0) 0 0) (fun M2 => bd (FX8_in fu D M2 x1 0 23) (fun v10 M10 => if v10 = 0 then FX8_hour_21 fu D M10 x1 1 else FX8_hour_21 fu D M10 x1 0))
set_option linter.unusedVariables false in
def FX8_blow_40 (fu : Nat) (D : List LDen) (M : Mem) : Option (Int32 × Mem) :=
  some (0, M)
set_option linter.unusedVariables false in
def FX8_blow_33 (fu : Nat) (D : List LDen) (M : Mem) (x1 x2 t0 : Int32) : Option (Int32 × Mem) :=
  bd (FX8_throwsIf fu D M t0 2) (fun v34 M34 => if v34 = 0 then bd (FX8_remembers fu D M34) (fun _ M43 => gd (13 + x1) 2180 (lt (M43 (5, 0, 1) ((13 + x1).toNatClampNeg)) (fun y55 => gd (13 + x1) 2180 (lt (up M43 (5, 0, 1) ((13 + x1).toNatClampNeg) x2) (fun M65 => some (y55, M65)))))) else FX8_blow_40 fu D M34)
set_option linter.unusedVariables false in
def FX8_blow (fu : Nat) (D : List LDen) (M : Mem) (x1 x2 : Int32) : Option (Int32 × Mem) :=
  lt (up M (5, 0, 0) 0 0) (fun M2 => bd (FX8_noLevel fu D M2 x1) (fun v7 M7 => bd (FX8_throwsIf fu D M7 v7 1) (fun v11 M11 => if v11 = 0 then bd (FX8_in fu D M11 x2 (-3) 3) (fun v22 M22 => if v22 = 0 then FX8_blow_33 fu D M22 x1 x2 1 else FX8_blow_33 fu D M22 x1 x2 0) else FX8_blow_40 fu D M11)))
set_option linter.unusedVariables false in
def FX8_give_75 (fu : Nat) (D : List LDen) (M : Mem) : Option (Int32 × Mem) :=
  some (0, M)
set_option linter.unusedVariables false in
def FX8_give_68 (fu : Nat) (D : List LDen) (M : Mem) (x1 x2 x3 x4 t0 : Int32) : Option (Int32 × Mem) :=
  bd (FX8_throwsIf fu D M t0 2) (fun v69 M69 => if v69 = 0 then bd (FX8_remembers fu D M69) (fun _ M78 => bd (FX8_stockAt fu D M78 x1 x3) (fun v87 M87 => gd v87 2180 (gd v87 2180 (lt (up M87 (5, 0, 1) v87.toNatClampNeg ((M87 (5, 0, 1) v87.toNatClampNeg) - x4)) (fun M95 => bd (FX8_stockAt fu D M95 x2 x3) (fun v102 M102 => bd (FX8_stockOf fu D M102 x2 x3) (fun v110 M110 => gd v102 2180 (lt (up M110 (5, 0, 1) v102.toNatClampNeg (mn 99 (v110 + x4))) (fun M119 => bd (FX8_stockOf fu D M119 x2 x3) (fun v123 M123 => some (v123, M123))))))))))) else FX8_give_75 fu D M69)
set_option linter.unusedVariables false in
def FX8_give_63 (fu : Nat) (D : List LDen) (M : Mem) (x1 x2 x3 x4 : Int32) : Option (Int32 × Mem) :=
  FX8_give_68 fu D M x1 x2 x3 x4 1
set_option linter.unusedVariables false in
def FX8_give_35 (fu : Nat) (D : List LDen) (M : Mem) (x1 x2 x3 x4 t0 : Int32) : Option (Int32 × Mem) :=
  bd (FX8_throwsIf fu D M t0 1) (fun v36 M36 => if v36 = 0 then if x1 = x2 then FX8_give_63 fu D M36 x1 x2 x3 x4 else bd (FX8_stockOf fu D M36 x1 x3) (fun v54 M54 => bd (FX8_in fu D M54 x4 1 v54) (fun v57 M57 => if v57 = 0 then FX8_give_63 fu D M57 x1 x2 x3 x4 else FX8_give_68 fu D M57 x1 x2 x3 x4 0)) else FX8_give_75 fu D M36)
set_option linter.unusedVariables false in
def FX8_give_30 (fu : Nat) (D : List LDen) (M : Mem) (x1 x2 x3 x4 : Int32) : Option (Int32 × Mem) :=
  FX8_give_35 fu D M x1 x2 x3 x4 1
set_option linter.unusedVariables false in
def FX8_give (fu : Nat) (D : List LDen) (M : Mem) (x1 x2 x3 x4 : Int32) : Option (Int32 × Mem) :=
  lt (up M (5, 0, 0) 0 0) (fun M2 => bd (FX8_noCounsel fu D M2 x1) (fun v8 M8 => if v8 = 0 then bd (FX8_noCounsel fu D M8 x2) (fun v16 M16 => if v16 = 0 then bd (FX8_noBird fu D M16 x3) (fun v24 M24 => if v24 = 0 then FX8_give_35 fu D M24 x1 x2 x3 x4 0 else FX8_give_30 fu D M24 x1 x2 x3 x4) else FX8_give_30 fu D M16 x1 x2 x3 x4) else FX8_give_30 fu D M8 x1 x2 x3 x4))
set_option linter.unusedVariables false in
def FX8_appeal_31 (fu : Nat) (D : List LDen) (M : Mem) : Option (Int32 × Mem) :=
  some (0, M)
set_option linter.unusedVariables false in
def FX8_appeal (fu : Nat) (D : List LDen) (M : Mem) (x1 : Int32) : Option (Int32 × Mem) :=
  lt (up M (5, 0, 0) 0 0) (fun M2 => bd (FX8_noCase fu D M2 x1) (fun v8 M8 => bd (FX8_throwsIf fu D M8 v8 1) (fun v12 M12 => if v12 = 0 then bd (FX8_isOpen fu D M12 x1) (fun v21 M21 => bd (FX8_throwsIf fu D M21 v21 2) (fun v25 M25 => if v25 = 0 then bd (FX8_remembers fu D M25) (fun _ M34 => bd (FX8_ofCase fu D M34 x1 3) (fun v40 M40 => bd (FX8_caseAt fu D M40 x1 3) (fun v50 M50 => gd v50 2180 (lt (up M50 (5, 0, 1) v50.toNatClampNeg 0) (fun M54 => some (v40, M54)))))) else FX8_appeal_31 fu D M25)) else FX8_appeal_31 fu D M12)))
set_option linter.unusedVariables false in
def GX8_oneWeek_14 (fu : Nat) (D : List LDen) (kn14 : Mem × Int32 × Int32 × Int32 → Option (Int32 × Mem)) (kn4 : Mem × Int32 × Int32 → Option (Int32 × Mem)) (M : Mem) (x1 x2 x3 : Int32) : Option (Int32 × Mem) :=
  bd (FX8_birds fu D M) (fun v16 M16 => if v16 ≤ x3 then lt (x2 + 1) (fun y68 => kn4 (M16, x1, y68)) else bd (FX8_ofBird fu D M16 x3 3) (fun v25 M25 => bd (FX8_stockOf fu D M25 x2 x3) (fun v33 M33 => lt (mn v25 (99 - v33)) (fun y40 => bd (FX8_stockAt fu D M33 x2 x3) (fun v48 M48 => gd v48 2180 (gd v48 2180 (lt (up M48 (5, 0, 1) v48.toNatClampNeg ((M48 (5, 0, 1) v48.toNatClampNeg) + y40)) (fun M56 => lt (x1 + y40) (fun y61 => lt (x3 + 1) (fun y62 => kn14 (M56, y61, x2, y62)))))))))))
set_option linter.unusedVariables false in
def FX8_oneWeek_14 (fu : Nat) (D : List LDen) (kn4 : Mem × Int32 × Int32 → Option (Int32 × Mem)) (M : Mem) (x1 x2 x3 : Int32) : Option (Int32 × Mem) := lp (fun kn z => GX8_oneWeek_14 fu D kn kn4 z.1 z.2.1 z.2.2.1 z.2.2.2) fu (M, x1, x2, x3)
set_option linter.unusedVariables false in
def GX8_oneWeek_4 (fu : Nat) (D : List LDen) (kn4 : Mem × Int32 × Int32 → Option (Int32 × Mem)) (M : Mem) (x1 x2 : Int32) : Option (Int32 × Mem) :=
  bd (FX8_counsel fu D M) (fun v6 M6 => if v6 ≤ x2 then gd 5 2180 (gd 5 2180 (lt (up M6 (5, 0, 1) 5 (mn 9999 ((M6 (5, 0, 1) 5) + 1))) (fun M93 => some (x1, M93)))) else FX8_oneWeek_14 fu D kn4 M6 x1 x2 0)
set_option linter.unusedVariables false in
def FX8_oneWeek_4 (fu : Nat) (D : List LDen) (M : Mem) (x1 x2 : Int32) : Option (Int32 × Mem) := lp (fun kn z => GX8_oneWeek_4 fu D kn z.1 z.2.1 z.2.2) fu (M, x1, x2)
set_option linter.unusedVariables false in
def FX8_oneWeek (fu : Nat) (D : List LDen) (M : Mem) : Option (Int32 × Mem) :=
  FX8_oneWeek_4 fu D M 0 0
set_option linter.unusedVariables false in
def GX8_weeks_38 (fu : Nat) (D : List LDen) (kn38 : Mem × Int32 × Int32 × Int32 → Option (Int32 × Mem)) (M : Mem) (x1 x2 x3 : Int32) : Option (Int32 × Mem) :=
  if x1 ≤ x3 then some (x2, M) else bd (FX8_oneWeek fu D M) (fun v45 M45 => lt (x2 + v45) (fun y49 => lt (x3 + 1) (fun y50 => kn38 (M45, x1, y49, y50))))
set_option linter.unusedVariables false in
def FX8_weeks_38 (fu : Nat) (D : List LDen) (M : Mem) (x1 x2 x3 : Int32) : Option (Int32 × Mem) := lp (fun kn z => GX8_weeks_38 fu D kn z.1 z.2.1 z.2.2.1 z.2.2.2) fu (M, x1, x2, x3)
set_option linter.unusedVariables false in
def FX8_weeks_21 (fu : Nat) (D : List LDen) (M : Mem) (x1 t0 : Int32) : Option (Int32 × Mem) :=
  bd (FX8_throwsIf fu D M t0 1) (fun v22 M22 => if v22 = 0 then bd (FX8_remembers fu D M22) (fun _ M31 => FX8_weeks_38 fu D M31 x1 0 0) else some (0, M22))
set_option linter.unusedVariables false in
def FX8_weeks (fu : Nat) (D : List LDen) (M : Mem) (x1 : Int32) : Option (Int32 × Mem) :=
  lt (up M (5, 0, 0) 0 0) (fun M2 => bd (FX8_in fu D M2 x1 1 60) (fun v10 M10 => if v10 = 0 then FX8_weeks_21 fu D M10 x1 1 else FX8_weeks_21 fu D M10 x1 0))
set_option linter.unusedVariables false in
def FX8_isTold_80 (fu : Nat) (D : List LDen) (M : Mem) (x1 : Int32) : Option (Int32 × Mem) :=
  some (x1 &&& 1, M)
set_option linter.unusedVariables false in
def FX8_isTold_73 (fu : Nat) (D : List LDen) (kn26 : Mem × Int32 × Int32 → Option (Int32 × Mem)) (M : Mem) (x2 t0 : Int32) : Option (Int32 × Mem) :=
  lt (x2 + 2) (fun y74 => kn26 (M, t0, y74))
set_option linter.unusedVariables false in
def FX8_isTold_72 (fu : Nat) (D : List LDen) (kn26 : Mem × Int32 × Int32 → Option (Int32 × Mem)) (M : Mem) (x2 : Int32) : Option (Int32 × Mem) :=
  FX8_isTold_73 fu D kn26 M x2 0
set_option linter.unusedVariables false in
def GX8_isTold_26 (fu : Nat) (D : List LDen) (kn26 : Mem × Int32 × Int32 → Option (Int32 × Mem)) (M : Mem) (x1 x2 : Int32) : Option (Int32 × Mem) :=
  if (M (5, 0, 0) 11) ≤ x2 then FX8_isTold_80 fu D M x1 else if x1 = 0 then FX8_isTold_80 fu D M x1 else gd x2 400 (bd (FX8_in fu D M (M (5, 0, 6) x2.toNatClampNeg) 0 5) (fun v46 M46 => if v46 = 0 then FX8_isTold_72 fu D kn26 M46 x2 else gd (x2 + 1) 400 (bd (FX8_in fu D M46 (M46 (5, 0, 6) ((x2 + 1).toNatClampNeg)) 0 1) (fun v62 M62 => if v62 = 0 then FX8_isTold_72 fu D kn26 M62 x2 else FX8_isTold_73 fu D kn26 M62 x2 1))))
set_option linter.unusedVariables false in
def FX8_isTold_26 (fu : Nat) (D : List LDen) (M : Mem) (x1 x2 : Int32) : Option (Int32 × Mem) := lp (fun kn z => GX8_isTold_26 fu D kn z.1 z.2.1 z.2.2) fu (M, x1, x2)
set_option linter.unusedVariables false in
def FX8_isTold_23 (fu : Nat) (D : List LDen) (M : Mem) (t0 : Int32) : Option (Int32 × Mem) :=
  FX8_isTold_26 fu D M t0 0
set_option linter.unusedVariables false in
def FX8_isTold_22 (fu : Nat) (D : List LDen) (M : Mem) : Option (Int32 × Mem) :=
  FX8_isTold_23 fu D M 0
set_option linter.unusedVariables false in
def FX8_isTold (fu : Nat) (D : List LDen) (M : Mem) : Option (Int32 × Mem) :=
  if (rm (M (5, 0, 0) 11) 2) = 0 then if 40 < (M (5, 0, 0) 11) then FX8_isTold_22 fu D M else FX8_isTold_23 fu D M 1 else FX8_isTold_22 fu D M
set_option linter.unusedVariables false in
def FX8_songsOf_31 (fu : Nat) (D : List LDen) (kn4 : Mem × Int32 × Int32 × Int32 → Option (Int32 × Mem)) (M : Mem) (x1 x3 t0 t1 : Int32) : Option (Int32 × Mem) :=
  lt (t1 ||| t0) (fun y32 => lt (x3 + 1) (fun y33 => kn4 (M, x1, y32, y33)))
set_option linter.unusedVariables false in
def GX8_songsOf_4 (fu : Nat) (D : List LDen) (kn4 : Mem × Int32 × Int32 × Int32 → Option (Int32 × Mem)) (M : Mem) (x1 x2 x3 : Int32) : Option (Int32 × Mem) :=
  bd (FX8_birds fu D M) (fun v6 M6 => if v6 ≤ x3 then some (x2, M6) else bd (FX8_has fu D M6 x1 x3) (fun v15 M15 => if v15 = 0 then FX8_songsOf_31 fu D kn4 M15 x1 x3 0 x2 else bd (FX8_ofBird fu D M15 x3 2) (fun v24 M24 => FX8_songsOf_31 fu D kn4 M24 x1 x3 v24 x2)))
set_option linter.unusedVariables false in
def FX8_songsOf_4 (fu : Nat) (D : List LDen) (M : Mem) (x1 x2 x3 : Int32) : Option (Int32 × Mem) := lp (fun kn z => GX8_songsOf_4 fu D kn z.1 z.2.1 z.2.2.1 z.2.2.2) fu (M, x1, x2, x3)
set_option linter.unusedVariables false in
def FX8_songsOf (fu : Nat) (D : List LDen) (M : Mem) (x1 : Int32) : Option (Int32 × Mem) :=
  FX8_songsOf_4 fu D M x1 0 0
set_option linter.unusedVariables false in
def FX8_fits_61 (fu : Nat) (D : List LDen) (kn11 : Mem × Int32 × Int32 × Int32 → Option (Int32 × Mem)) (M : Mem) (x2 x4 t0 : Int32) : Option (Int32 × Mem) :=
  lt (x4 + 2) (fun y62 => kn11 (M, x2, t0, y62))
set_option linter.unusedVariables false in
def FX8_fits_60 (fu : Nat) (D : List LDen) (kn11 : Mem × Int32 × Int32 × Int32 → Option (Int32 × Mem)) (M : Mem) (x2 x4 : Int32) : Option (Int32 × Mem) :=
  FX8_fits_61 fu D kn11 M x2 x4 0
set_option linter.unusedVariables false in
def FX8_fits_53 (fu : Nat) (D : List LDen) (kn11 : Mem × Int32 × Int32 × Int32 → Option (Int32 × Mem)) (M : Mem) (x2 x4 t0 t1 : Int32) : Option (Int32 × Mem) :=
  if t1 = t0 then FX8_fits_61 fu D kn11 M x2 x4 1 else FX8_fits_60 fu D kn11 M x2 x4
set_option linter.unusedVariables false in
def GX8_fits_11 (fu : Nat) (D : List LDen) (kn11 : Mem × Int32 × Int32 × Int32 → Option (Int32 × Mem)) (M : Mem) (x2 x3 x4 : Int32) : Option (Int32 × Mem) :=
  if (M (5, 0, 0) 11) ≤ x4 then some (x3 &&& 1, M) else if x3 = 0 then FX8_fits_60 fu D kn11 M x2 x4 else gd x4 400 (bd (FX8_has fu D M x2 (M (5, 0, 6) x4.toNatClampNeg)) (fun v32 M32 => gd (x4 + 1) 400 (if (M32 (5, 0, 6) ((x4 + 1).toNatClampNeg)) = 1 then FX8_fits_53 fu D kn11 M32 x2 x4 1 v32 else FX8_fits_53 fu D kn11 M32 x2 x4 0 v32)))
set_option linter.unusedVariables false in
def FX8_fits_11 (fu : Nat) (D : List LDen) (M : Mem) (x2 x3 x4 : Int32) : Option (Int32 × Mem) := lp (fun kn z => GX8_fits_11 fu D kn z.1 z.2.1 z.2.2.1 z.2.2.2) fu (M, x2, x3, x4)
set_option linter.unusedVariables false in
def FX8_fits (fu : Nat) (D : List LDen) (M : Mem) (x1 : Int32) : Option (Int32 × Mem) :=
  bd (FX8_songsOf fu D M x1) (fun v2 M2 => FX8_fits_11 fu D M2 v2 1 0)
set_option linter.unusedVariables false in
def FX8_songs_94 (fu : Nat) (D : List LDen) (M : Mem) (t0 : Int32) : Option (Int32 × Mem) :=
  some (t0, M)
set_option linter.unusedVariables false in
def FX8_songs_71 (fu : Nat) (D : List LDen) (kn40 : Mem × Int32 × Int32 × Int32 × Int32 → Option (Int32 × Mem)) (M : Mem) (x1 x2 x3 x4 : Int32) : Option (Int32 × Mem) :=
  lt (x4 + 1) (fun y71 => kn40 (M, x1, x2, x3, y71))
set_option linter.unusedVariables false in
def GX8_songs_40 (fu : Nat) (D : List LDen) (kn40 : Mem × Int32 × Int32 × Int32 × Int32 → Option (Int32 × Mem)) (M : Mem) (x1 x2 x3 x4 : Int32) : Option (Int32 × Mem) :=
  bd (FX8_birds fu D M) (fun v44 M44 => if (1 <<< (v44 &&& 31)) ≤ x4 then if x1 = 0 then FX8_songs_94 fu D M44 x2 else if x2 = 0 then FX8_songs_94 fu D M44 0 else FX8_songs_94 fu D M44 x3 else bd (FX8_fits fu D M44 x4) (fun v54 M54 => if v54 = 0 then FX8_songs_71 fu D kn40 M54 x1 x2 x3 x4 else lt (x2 + 1) (fun y63 => lt (x3 &&& x4) (fun y70 => FX8_songs_71 fu D kn40 M54 x1 y63 y70 x4))))
set_option linter.unusedVariables false in
def FX8_songs_40 (fu : Nat) (D : List LDen) (M : Mem) (x1 x2 x3 x4 : Int32) : Option (Int32 × Mem) := lp (fun kn z => GX8_songs_40 fu D kn z.1 z.2.1 z.2.2.1 z.2.2.2.1 z.2.2.2.2) fu (M, x1, x2, x3, x4)
set_option linter.unusedVariables false in
def FX8_songs_17 (fu : Nat) (D : List LDen) (M : Mem) (x1 t0 : Int32) : Option (Int32 × Mem) :=
  bd (FX8_throwsIf fu D M t0 1) (fun v18 M18 => if v18 = 0 then bd (FX8_birds fu D M18) (fun v30 M30 => lt ((1 <<< (v30 &&& 31)) - 1) (fun y36 => FX8_songs_40 fu D M30 x1 0 y36 0)) else some (0, M18))
set_option linter.unusedVariables false in
def FX8_songs (fu : Nat) (D : List LDen) (M : Mem) (x1 : Int32) : Option (Int32 × Mem) :=
  bd (FX8_uses fu D M) (fun _ M1 => bd (FX8_isTold fu D M1) (fun v6 M6 => if v6 = 0 then FX8_songs_17 fu D M6 x1 1 else FX8_songs_17 fu D M6 x1 0))
set_option linter.unusedVariables false in
def FX8_ask_128 (fu : Nat) (D : List LDen) (kn34 : Mem × Int32 × Int32 × Int32 → Option (Int32 × Mem)) (M : Mem) (x1 x2 x3 : Int32) : Option (Int32 × Mem) :=
  lt (x3 + 1) (fun y128 => kn34 (M, x1, x2, y128))
set_option linter.unusedVariables false in
def FX8_ask_90 (fu : Nat) (D : List LDen) (kn49 : Mem × Int32 × Int32 × Int32 × Int32 × Int32 × Int32 → Option (Int32 × Mem)) (M : Mem) (x1 x2 x3 x4 x5 x6 : Int32) : Option (Int32 × Mem) :=
  lt (x6 + 1) (fun y90 => kn49 (M, x1, x2, x3, x4, x5, y90))
set_option linter.unusedVariables false in
def GX8_ask_49 (fu : Nat) (D : List LDen) (kn49 : Mem × Int32 × Int32 × Int32 × Int32 × Int32 × Int32 → Option (Int32 × Mem)) (kn34 : Mem × Int32 × Int32 × Int32 → Option (Int32 × Mem)) (M : Mem) (x1 x2 x3 x4 x5 x6 : Int32) : Option (Int32 × Mem) :=
  bd (FX8_birds fu D M) (fun v53 M53 => if (1 <<< (v53 &&& 31)) ≤ x6 then lt (mx x5 (x4 - x5)) (fun y106 => if x4 < 2 then FX8_ask_128 fu D kn34 M53 x1 x2 x3 else if y106 < x2 then FX8_ask_128 fu D kn34 M53 x3 y106 x3 else FX8_ask_128 fu D kn34 M53 x1 x2 x3) else bd (FX8_fits fu D M53 x6) (fun v63 M63 => if v63 = 0 then FX8_ask_90 fu D kn49 M63 x1 x2 x3 x4 x5 x6 else lt (x4 + 1) (fun y72 => bd (FX8_songsOf fu D M63 x6) (fun v80 M80 => lt (x5 + ((v80 >>> (x3 &&& 31)) &&& 1)) (fun y88 => FX8_ask_90 fu D kn49 M80 x1 x2 x3 y72 y88 x6)))))
set_option linter.unusedVariables false in
def FX8_ask_49 (fu : Nat) (D : List LDen) (kn34 : Mem × Int32 × Int32 × Int32 → Option (Int32 × Mem)) (M : Mem) (x1 x2 x3 x4 x5 x6 : Int32) : Option (Int32 × Mem) := lp (fun kn z => GX8_ask_49 fu D kn kn34 z.1 z.2.1 z.2.2.1 z.2.2.2.1 z.2.2.2.2.1 z.2.2.2.2.2.1 z.2.2.2.2.2.2) fu (M, x1, x2, x3, x4, x5, x6)
set_option linter.unusedVariables false in
def GX8_ask_34 (fu : Nat) (D : List LDen) (kn34 : Mem × Int32 × Int32 × Int32 → Option (Int32 × Mem)) (M : Mem) (x1 x2 x3 : Int32) : Option (Int32 × Mem) :=
  if 6 ≤ x3 then some (x1, M) else FX8_ask_49 fu D kn34 M x1 x2 x3 0 0 0
set_option linter.unusedVariables false in
def FX8_ask_34 (fu : Nat) (D : List LDen) (M : Mem) (x1 x2 x3 : Int32) : Option (Int32 × Mem) := lp (fun kn z => GX8_ask_34 fu D kn z.1 z.2.1 z.2.2.1 z.2.2.2) fu (M, x1, x2, x3)
set_option linter.unusedVariables false in
def FX8_ask_17 (fu : Nat) (D : List LDen) (M : Mem) (t0 : Int32) : Option (Int32 × Mem) :=
  bd (FX8_throwsIf fu D M t0 1) (fun v18 M18 => if v18 = 0 then FX8_ask_34 fu D M18 (-1) 999 0 else some (0, M18))
set_option linter.unusedVariables false in
def FX8_ask (fu : Nat) (D : List LDen) (M : Mem) : Option (Int32 × Mem) :=
  bd (FX8_uses fu D M) (fun _ M1 => bd (FX8_isTold fu D M1) (fun v6 M6 => if v6 = 0 then FX8_ask_17 fu D M6 1 else FX8_ask_17 fu D M6 0))
set_option linter.unusedVariables false in
def FX8_lasts_57 (fu : Nat) (D : List LDen) (M : Mem) : Option (Int32 × Mem) :=
  some (0, M)
set_option linter.unusedVariables false in
def FX8_lasts_105 (fu : Nat) (D : List LDen) (M : Mem) (t0 : Int32) : Option (Int32 × Mem) :=
  some (t0, M)
set_option linter.unusedVariables false in
def FX8_lasts_50 (fu : Nat) (D : List LDen) (M : Mem) (x1 x2 x3 t0 : Int32) : Option (Int32 × Mem) :=
  bd (FX8_throwsIf fu D M t0 2) (fun v51 M51 => if v51 = 0 then bd (FX8_stockOf fu D M51 x1 x2) (fun v63 M63 => lt (x3 - v63) (fun y67 => bd (FX8_ofBird fu D M63 x2 3) (fun v72 M72 => if 0 < y67 then if v72 = 0 then FX8_lasts_105 fu D M72 (-1) else nz v72 (FX8_lasts_105 fu D M72 (((y67 + v72) - 1) / v72)) else FX8_lasts_105 fu D M72 0))) else FX8_lasts_57 fu D M51)
set_option linter.unusedVariables false in
def FX8_lasts_27 (fu : Nat) (D : List LDen) (M : Mem) (x1 x2 x3 t0 : Int32) : Option (Int32 × Mem) :=
  bd (FX8_throwsIf fu D M t0 1) (fun v28 M28 => if v28 = 0 then bd (FX8_in fu D M28 x3 1 99) (fun v39 M39 => if v39 = 0 then FX8_lasts_50 fu D M39 x1 x2 x3 1 else FX8_lasts_50 fu D M39 x1 x2 x3 0) else FX8_lasts_57 fu D M28)
set_option linter.unusedVariables false in
def FX8_lasts_22 (fu : Nat) (D : List LDen) (M : Mem) (x1 x2 x3 : Int32) : Option (Int32 × Mem) :=
  FX8_lasts_27 fu D M x1 x2 x3 1
set_option linter.unusedVariables false in
def FX8_lasts (fu : Nat) (D : List LDen) (M : Mem) (x1 x2 x3 : Int32) : Option (Int32 × Mem) :=
  lt (up M (5, 0, 0) 0 0) (fun M2 => bd (FX8_noCounsel fu D M2 x1) (fun v8 M8 => if v8 = 0 then bd (FX8_noBird fu D M8 x2) (fun v16 M16 => if v16 = 0 then FX8_lasts_27 fu D M16 x1 x2 x3 0 else FX8_lasts_22 fu D M16 x1 x2 x3) else FX8_lasts_22 fu D M8 x1 x2 x3))
set_option linter.unusedVariables false in
def GX8_allOf_4 (fu : Nat) (D : List LDen) (kn4 : Mem × Int32 × Int32 × Int32 → Option (Int32 × Mem)) (M : Mem) (x1 x2 x3 : Int32) : Option (Int32 × Mem) :=
  bd (FX8_birds fu D M) (fun v6 M6 => if v6 ≤ x3 then some (x2, M6) else bd (FX8_stockOf fu D M6 x1 x3) (fun v16 M16 => lt (x2 + v16) (fun y20 => lt (x3 + 1) (fun y21 => kn4 (M16, x1, y20, y21)))))
set_option linter.unusedVariables false in
def FX8_allOf_4 (fu : Nat) (D : List LDen) (M : Mem) (x1 x2 x3 : Int32) : Option (Int32 × Mem) := lp (fun kn z => GX8_allOf_4 fu D kn z.1 z.2.1 z.2.2.1 z.2.2.2) fu (M, x1, x2, x3)
set_option linter.unusedVariables false in
def FX8_allOf (fu : Nat) (D : List LDen) (M : Mem) (x1 : Int32) : Option (Int32 × Mem) :=
  FX8_allOf_4 fu D M x1 0 0
set_option linter.unusedVariables false in
def FX8_rich_36 (fu : Nat) (D : List LDen) (kn9 : Mem × Int32 × Int32 → Option (Int32 × Mem)) (M : Mem) (x1 x2 : Int32) : Option (Int32 × Mem) :=
  lt (x2 + 1) (fun y36 => kn9 (M, x1, y36))
set_option linter.unusedVariables false in
def FX8_rich_34 (fu : Nat) (D : List LDen) (kn9 : Mem × Int32 × Int32 → Option (Int32 × Mem)) (M : Mem) (x2 : Int32) : Option (Int32 × Mem) :=
  FX8_rich_36 fu D kn9 M x2 x2
set_option linter.unusedVariables false in
def GX8_rich_9 (fu : Nat) (D : List LDen) (kn9 : Mem × Int32 × Int32 → Option (Int32 × Mem)) (M : Mem) (x1 x2 : Int32) : Option (Int32 × Mem) :=
  bd (FX8_counsel fu D M) (fun v11 M11 => if v11 ≤ x2 then some (x1, M11) else if x1 < 0 then FX8_rich_34 fu D kn9 M11 x2 else bd (FX8_allOf fu D M11 x2) (fun v23 M23 => bd (FX8_allOf fu D M23 x1) (fun v28 M28 => if v23 ≤ v28 then FX8_rich_36 fu D kn9 M28 x1 x2 else FX8_rich_34 fu D kn9 M28 x2)))
set_option linter.unusedVariables false in
def FX8_rich_9 (fu : Nat) (D : List LDen) (M : Mem) (x1 x2 : Int32) : Option (Int32 × Mem) := lp (fun kn z => GX8_rich_9 fu D kn z.1 z.2.1 z.2.2) fu (M, x1, x2)
set_option linter.unusedVariables false in
def FX8_rich (fu : Nat) (D : List LDen) (M : Mem) : Option (Int32 × Mem) :=
  lt (up M (5, 0, 0) 0 0) (fun M2 => FX8_rich_9 fu D M2 (-1) 0)
set_option linter.unusedVariables false in
def FX8_won_109 (fu : Nat) (D : List LDen) (kn25 : Mem × Int32 × Int32 × Int32 × Int32 → Option (Int32 × Mem)) (M : Mem) (x1 x2 x3 x4 : Int32) : Option (Int32 × Mem) :=
  lt (x4 + 1) (fun y109 => kn25 (M, x1, x2, x3, y109))
set_option linter.unusedVariables false in
def FX8_won_107 (fu : Nat) (D : List LDen) (kn25 : Mem × Int32 × Int32 × Int32 × Int32 → Option (Int32 × Mem)) (M : Mem) (x1 x2 x4 t0 t1 : Int32) : Option (Int32 × Mem) :=
  lt (t1 + t0) (fun y108 => FX8_won_109 fu D kn25 M x1 x2 y108 x4)
set_option linter.unusedVariables false in
def FX8_won_99 (fu : Nat) (D : List LDen) (kn25 : Mem × Int32 × Int32 × Int32 × Int32 → Option (Int32 × Mem)) (M : Mem) (x1 x2 x4 t0 t1 t2 : Int32) : Option (Int32 × Mem) :=
  if t1 = t0 then FX8_won_107 fu D kn25 M x1 x2 x4 1 t2 else FX8_won_107 fu D kn25 M x1 x2 x4 0 t2
set_option linter.unusedVariables false in
def FX8_won_76 (fu : Nat) (D : List LDen) (kn25 : Mem × Int32 × Int32 × Int32 × Int32 → Option (Int32 × Mem)) (M : Mem) (x1 x2 x3 x4 x5 : Int32) : Option (Int32 × Mem) :=
  bd (FX8_ofCase fu D M x4 1) (fun v80 M80 => if v80 = x1 then if x2 = 0 then FX8_won_99 fu D kn25 M80 x1 x2 x4 2 x5 x3 else FX8_won_99 fu D kn25 M80 x1 x2 x4 1 x5 x3 else FX8_won_109 fu D kn25 M80 x1 x2 x3 x4)
set_option linter.unusedVariables false in
def FX8_won_74 (fu : Nat) (D : List LDen) (kn25 : Mem × Int32 × Int32 × Int32 × Int32 → Option (Int32 × Mem)) (M : Mem) (x1 x2 x4 x5 t0 t1 : Int32) : Option (Int32 × Mem) :=
  lt (t1 + t0) (fun y75 => FX8_won_76 fu D kn25 M x1 x2 y75 x4 x5)
set_option linter.unusedVariables false in
def FX8_won_66 (fu : Nat) (D : List LDen) (kn25 : Mem × Int32 × Int32 × Int32 × Int32 → Option (Int32 × Mem)) (M : Mem) (x1 x2 x4 x5 t0 t1 t2 : Int32) : Option (Int32 × Mem) :=
  if t1 = t0 then FX8_won_74 fu D kn25 M x1 x2 x4 x5 1 t2 else FX8_won_74 fu D kn25 M x1 x2 x4 x5 0 t2
set_option linter.unusedVariables false in
def GX8_won_25 (fu : Nat) (D : List LDen) (kn25 : Mem × Int32 × Int32 × Int32 × Int32 → Option (Int32 × Mem)) (M : Mem) (x1 x2 x3 x4 : Int32) : Option (Int32 × Mem) :=
  bd (FX8_cases fu D M) (fun v28 M28 => if v28 ≤ x4 then some (x3, M28) else bd (FX8_ofCase fu D M28 x4 3) (fun v38 M38 => bd (FX8_ofCase fu D M38 x4 0) (fun v47 M47 => if v47 = x1 then if x2 = 0 then FX8_won_66 fu D kn25 M47 x1 x2 x4 v38 1 v38 x3 else FX8_won_66 fu D kn25 M47 x1 x2 x4 v38 2 v38 x3 else FX8_won_76 fu D kn25 M47 x1 x2 x3 x4 v38)))
set_option linter.unusedVariables false in
def FX8_won_25 (fu : Nat) (D : List LDen) (M : Mem) (x1 x2 x3 x4 : Int32) : Option (Int32 × Mem) := lp (fun kn z => GX8_won_25 fu D kn z.1 z.2.1 z.2.2.1 z.2.2.2.1 z.2.2.2.2) fu (M, x1, x2, x3, x4)
set_option linter.unusedVariables false in
def FX8_won (fu : Nat) (D : List LDen) (M : Mem) (x1 x2 : Int32) : Option (Int32 × Mem) :=
  lt (up M (5, 0, 0) 0 0) (fun M2 => bd (FX8_noCounsel fu D M2 x1) (fun v8 M8 => bd (FX8_throwsIf fu D M8 v8 1) (fun v12 M12 => if v12 = 0 then FX8_won_25 fu D M12 x1 x2 0 0 else some (0, M12))))
set_option linter.unusedVariables false in
def FX8_covers_31 (fu : Nat) (D : List LDen) (kn2 : Mem × Int32 × Int32 → Option (Int32 × Mem)) (M : Mem) (x1 x2 : Int32) : Option (Int32 × Mem) :=
  lt (x2 + 1) (fun y31 => kn2 (M, x1, y31))
set_option linter.unusedVariables false in
def GX8_covers_2 (fu : Nat) (D : List LDen) (kn2 : Mem × Int32 × Int32 → Option (Int32 × Mem)) (M : Mem) (x1 x2 : Int32) : Option (Int32 × Mem) :=
  bd (FX8_cases fu D M) (fun v4 M4 => if v4 ≤ x2 then some (1, M4) else bd (FX8_isOpen fu D M4 x2) (fun v12 M12 => if v12 = 0 then FX8_covers_31 fu D kn2 M12 x1 x2 else bd (FX8_ofCase fu D M12 x2 2) (fun v21 M21 => if (v21 &&& x1) = 0 then some (0, M21) else FX8_covers_31 fu D kn2 M21 x1 x2)))
set_option linter.unusedVariables false in
def FX8_covers_2 (fu : Nat) (D : List LDen) (M : Mem) (x1 x2 : Int32) : Option (Int32 × Mem) := lp (fun kn z => GX8_covers_2 fu D kn z.1 z.2.1 z.2.2) fu (M, x1, x2)
set_option linter.unusedVariables false in
def FX8_covers (fu : Nat) (D : List LDen) (M : Mem) (x1 : Int32) : Option (Int32 × Mem) :=
  FX8_covers_2 fu D M x1 0
set_option linter.unusedVariables false in
def FX8_cover_44 (fu : Nat) (D : List LDen) (kn9 : Mem × Int32 × Int32 → Option (Int32 × Mem)) (M : Mem) (x1 x2 : Int32) : Option (Int32 × Mem) :=
  lt (x2 + 1) (fun y44 => kn9 (M, x1, y44))
set_option linter.unusedVariables false in
def FX8_cover_42 (fu : Nat) (D : List LDen) (kn9 : Mem × Int32 × Int32 → Option (Int32 × Mem)) (M : Mem) (x2 : Int32) : Option (Int32 × Mem) :=
  FX8_cover_44 fu D kn9 M x2 x2
set_option linter.unusedVariables false in
def GX8_cover_9 (fu : Nat) (D : List LDen) (kn9 : Mem × Int32 × Int32 → Option (Int32 × Mem)) (M : Mem) (x1 x2 : Int32) : Option (Int32 × Mem) :=
  bd (FX8_birds fu D M) (fun v12 M12 => if (1 <<< (v12 &&& 31)) ≤ x2 then some (x1, M12) else bd (FX8_covers fu D M12 x2) (fun v21 M21 => if v21 = 0 then FX8_cover_44 fu D kn9 M21 x1 x2 else if x1 < 0 then FX8_cover_42 fu D kn9 M21 x2 else bd (FJ14_bitCount fu D M21 x2) (fun v32 M32 => bd (FJ14_bitCount fu D M32 x1) (fun v36 M36 => if v36 ≤ v32 then FX8_cover_44 fu D kn9 M36 x1 x2 else FX8_cover_42 fu D kn9 M36 x2))))
set_option linter.unusedVariables false in
def FX8_cover_9 (fu : Nat) (D : List LDen) (M : Mem) (x1 x2 : Int32) : Option (Int32 × Mem) := lp (fun kn z => GX8_cover_9 fu D kn z.1 z.2.1 z.2.2) fu (M, x1, x2)
set_option linter.unusedVariables false in
def FX8_cover (fu : Nat) (D : List LDen) (M : Mem) : Option (Int32 × Mem) :=
  lt (up M (5, 0, 0) 0 0) (fun M2 => FX8_cover_9 fu D M2 (-1) 0)
set_option linter.unusedVariables false in
def FX8_tries_29 (fu : Nat) (D : List LDen) (kn6 : Mem × Int32 × Int32 × Int32 × Int32 × Int32 → Option (Int32 × Mem)) (M : Mem) (x1 x2 x3 x5 t0 t1 : Int32) : Option (Int32 × Mem) :=
  lt (t1 + t0) (fun y30 => lt (x5 + 1) (fun y32 => kn6 (M, x1, x2, x3, y30, y32)))
set_option linter.unusedVariables false in
def GX8_tries_6 (fu : Nat) (D : List LDen) (kn6 : Mem × Int32 × Int32 × Int32 × Int32 × Int32 → Option (Int32 × Mem)) (M : Mem) (x1 x2 x3 x4 x5 : Int32) : Option (Int32 × Mem) :=
  if x3 ≤ x5 then some (x4, M) else bd (FX8_called fu D M x1 x2) (fun v17 M17 => if v17 = 1 then FX8_tries_29 fu D kn6 M17 x1 x2 x3 x5 1 x4 else FX8_tries_29 fu D kn6 M17 x1 x2 x3 x5 0 x4)
set_option linter.unusedVariables false in
def FX8_tries_6 (fu : Nat) (D : List LDen) (M : Mem) (x1 x2 x3 x4 x5 : Int32) : Option (Int32 × Mem) := lp (fun kn z => GX8_tries_6 fu D kn z.1 z.2.1 z.2.2.1 z.2.2.2.1 z.2.2.2.2.1 z.2.2.2.2.2) fu (M, x1, x2, x3, x4, x5)
set_option linter.unusedVariables false in
def FX8_tries (fu : Nat) (D : List LDen) (M : Mem) (x1 x2 x3 : Int32) : Option (Int32 × Mem) :=
  FX8_tries_6 fu D M x1 x2 x3 0 0
set_option linter.unusedVariables false in
def FX8_trial_57 (fu : Nat) (D : List LDen) (M : Mem) : Option (Int32 × Mem) :=
  some (0, M)
set_option linter.unusedVariables false in
def FX8_trial_50 (fu : Nat) (D : List LDen) (M : Mem) (x1 x2 x3 t0 : Int32) : Option (Int32 × Mem) :=
  bd (FX8_throwsIf fu D M t0 2) (fun v51 M51 => if v51 = 0 then gd 12 2180 (lt (M51 (5, 0, 1) 12) (fun y66 => bd (FX8_tries fu D M51 x1 x2 x3) (fun v72 M72 => gd 12 2180 (lt (up M72 (5, 0, 1) 12 y66) (fun M85 => some (v72, M85)))))) else FX8_trial_57 fu D M51)
set_option linter.unusedVariables false in
def FX8_trial_27 (fu : Nat) (D : List LDen) (M : Mem) (x1 x2 x3 t0 : Int32) : Option (Int32 × Mem) :=
  bd (FX8_throwsIf fu D M t0 1) (fun v28 M28 => if v28 = 0 then bd (FX8_in fu D M28 x3 0 40) (fun v39 M39 => if v39 = 0 then FX8_trial_50 fu D M39 x1 x2 x3 1 else FX8_trial_50 fu D M39 x1 x2 x3 0) else FX8_trial_57 fu D M28)
set_option linter.unusedVariables false in
def FX8_trial_22 (fu : Nat) (D : List LDen) (M : Mem) (x1 x2 x3 : Int32) : Option (Int32 × Mem) :=
  FX8_trial_27 fu D M x1 x2 x3 1
set_option linter.unusedVariables false in
def FX8_trial (fu : Nat) (D : List LDen) (M : Mem) (x1 x2 x3 : Int32) : Option (Int32 × Mem) :=
  lt (up M (5, 0, 0) 0 0) (fun M2 => bd (FX8_noBird fu D M2 x1) (fun v8 M8 => if v8 = 0 then bd (FX8_noBird fu D M8 x2) (fun v16 M16 => if v16 = 0 then FX8_trial_27 fu D M16 x1 x2 x3 0 else FX8_trial_22 fu D M16 x1 x2 x3) else FX8_trial_22 fu D M8 x1 x2 x3))
set_option linter.unusedVariables false in
def FX8_span_57 (fu : Nat) (D : List LDen) (M : Mem) : Option (Int32 × Mem) :=
  some (0, M)
set_option linter.unusedVariables false in
def FX8_span_131 (fu : Nat) (D : List LDen) (kn74 : Mem × Int32 × Int32 × Int32 × Int32 × Int32 × Int32 × Int32 → Option (Int32 × Mem)) (M : Mem) (x1 x2 x3 x4 x5 x7 t0 : Int32) : Option (Int32 × Mem) :=
  lt (x7 + 1) (fun y133 => kn74 (M, x1, x2, x3, x4, x5, t0, y133))
set_option linter.unusedVariables false in
def GX8_span_74 (fu : Nat) (D : List LDen) (kn74 : Mem × Int32 × Int32 × Int32 × Int32 × Int32 × Int32 × Int32 → Option (Int32 × Mem)) (M : Mem) (x1 x2 x3 x4 x5 x6 x7 : Int32) : Option (Int32 × Mem) :=
  if 6 < x7 then gd 12 2180 (lt (up M (5, 0, 1) 12 x5) (fun M147 => some (x6, M147))) else gd 12 2180 (lt (up M (5, 0, 1) 12 x7) (fun M89 => bd (FX8_tries fu D M89 x1 x2 x3) (fun v94 M94 => if 0 ≤ x6 then if x4 = 0 then FX8_span_131 fu D kn74 M94 x1 x2 x3 x4 x5 x7 (mn x6 v94) else FX8_span_131 fu D kn74 M94 x1 x2 x3 x4 x5 x7 (mx x6 v94) else FX8_span_131 fu D kn74 M94 x1 x2 x3 x4 x5 x7 v94)))
set_option linter.unusedVariables false in
def FX8_span_74 (fu : Nat) (D : List LDen) (M : Mem) (x1 x2 x3 x4 x5 x6 x7 : Int32) : Option (Int32 × Mem) := lp (fun kn z => GX8_span_74 fu D kn z.1 z.2.1 z.2.2.1 z.2.2.2.1 z.2.2.2.2.1 z.2.2.2.2.2.1 z.2.2.2.2.2.2.1 z.2.2.2.2.2.2.2) fu (M, x1, x2, x3, x4, x5, x6, x7)
set_option linter.unusedVariables false in
def FX8_span_50 (fu : Nat) (D : List LDen) (M : Mem) (x1 x2 x3 x4 t0 : Int32) : Option (Int32 × Mem) :=
  bd (FX8_throwsIf fu D M t0 2) (fun v51 M51 => if v51 = 0 then gd 12 2180 (lt (M51 (5, 0, 1) 12) (fun y66 => FX8_span_74 fu D M51 x1 x2 x3 x4 y66 (-1) 1)) else FX8_span_57 fu D M51)
set_option linter.unusedVariables false in
def FX8_span_27 (fu : Nat) (D : List LDen) (M : Mem) (x1 x2 x3 x4 t0 : Int32) : Option (Int32 × Mem) :=
  bd (FX8_throwsIf fu D M t0 1) (fun v28 M28 => if v28 = 0 then bd (FX8_in fu D M28 x3 0 40) (fun v39 M39 => if v39 = 0 then FX8_span_50 fu D M39 x1 x2 x3 x4 1 else FX8_span_50 fu D M39 x1 x2 x3 x4 0) else FX8_span_57 fu D M28)
set_option linter.unusedVariables false in
def FX8_span_22 (fu : Nat) (D : List LDen) (M : Mem) (x1 x2 x3 x4 : Int32) : Option (Int32 × Mem) :=
  FX8_span_27 fu D M x1 x2 x3 x4 1
set_option linter.unusedVariables false in
def FX8_span (fu : Nat) (D : List LDen) (M : Mem) (x1 x2 x3 x4 : Int32) : Option (Int32 × Mem) :=
  lt (up M (5, 0, 0) 0 0) (fun M2 => bd (FX8_noBird fu D M2 x1) (fun v8 M8 => if v8 = 0 then bd (FX8_noBird fu D M8 x2) (fun v16 M16 => if v16 = 0 then FX8_span_27 fu D M16 x1 x2 x3 x4 0 else FX8_span_22 fu D M16 x1 x2 x3 x4) else FX8_span_22 fu D M8 x1 x2 x3 x4))
set_option linter.unusedVariables false in
def FX8_ofLog (fu : Nat) (D : List LDen) (M : Mem) (x1 x2 : Int32) : Option (Int32 × Mem) :=
  gd ((122 + (6 * x1)) + x2) 2180 (some (M (5, 0, 1) (((122 + (6 * x1)) + x2).toNatClampNeg), M))
set_option linter.unusedVariables false in
def FX8_led_145 (fu : Nat) (D : List LDen) (kn25 : Mem × Int32 × Int32 × Int32 × Int32 → Option (Int32 × Mem)) (M : Mem) (x1 x2 x4 t0 t1 : Int32) : Option (Int32 × Mem) :=
  lt (t1 + t0) (fun y146 => lt (x4 + 1) (fun y147 => kn25 (M, x1, x2, y146, y147)))
set_option linter.unusedVariables false in
def FX8_led_140 (fu : Nat) (D : List LDen) (kn25 : Mem × Int32 × Int32 × Int32 × Int32 → Option (Int32 × Mem)) (M : Mem) (x1 x2 x4 t0 : Int32) : Option (Int32 × Mem) :=
  FX8_led_145 fu D kn25 M x1 x2 x4 1 t0
set_option linter.unusedVariables false in
def FX8_led_110 (fu : Nat) (D : List LDen) (kn25 : Mem × Int32 × Int32 × Int32 × Int32 → Option (Int32 × Mem)) (M : Mem) (x1 x2 x3 x4 x5 x6 t0 : Int32) : Option (Int32 × Mem) :=
  if x2 = 0 then if x5 = 0 then if x6 = 0 then FX8_led_145 fu D kn25 M x1 x2 x4 0 x3 else FX8_led_140 fu D kn25 M x1 x2 x4 x3 else FX8_led_140 fu D kn25 M x1 x2 x4 x3 else if t0 = 0 then FX8_led_145 fu D kn25 M x1 x2 x4 0 x3 else FX8_led_145 fu D kn25 M x1 x2 x4 1 x3
set_option linter.unusedVariables false in
def FX8_led_109 (fu : Nat) (D : List LDen) (kn25 : Mem × Int32 × Int32 × Int32 × Int32 → Option (Int32 × Mem)) (M : Mem) (x1 x2 x3 x4 x5 x6 : Int32) : Option (Int32 × Mem) :=
  FX8_led_110 fu D kn25 M x1 x2 x3 x4 x5 x6 0
set_option linter.unusedVariables false in
def FX8_led_105 (fu : Nat) (D : List LDen) (kn25 : Mem × Int32 × Int32 × Int32 × Int32 → Option (Int32 × Mem)) (M : Mem) (x1 x2 x3 x4 x5 x6 : Int32) : Option (Int32 × Mem) :=
  FX8_led_110 fu D kn25 M x1 x2 x3 x4 x5 x6 1
set_option linter.unusedVariables false in
def FX8_led_89 (fu : Nat) (D : List LDen) (kn25 : Mem × Int32 × Int32 × Int32 × Int32 → Option (Int32 × Mem)) (M : Mem) (x1 x2 x3 x4 x5 x6 : Int32) : Option (Int32 × Mem) :=
  if x6 = 0 then FX8_led_109 fu D kn25 M x1 x2 x3 x4 x5 x6 else bd (FX8_ofLog fu D M x4 4) (fun v98 M98 => if v98 = 2 then FX8_led_105 fu D kn25 M98 x1 x2 x3 x4 x5 x6 else FX8_led_109 fu D kn25 M98 x1 x2 x3 x4 x5 x6)
set_option linter.unusedVariables false in
def FX8_led_71 (fu : Nat) (D : List LDen) (kn25 : Mem × Int32 × Int32 × Int32 × Int32 → Option (Int32 × Mem)) (M : Mem) (x1 x2 x3 x4 x5 t0 : Int32) : Option (Int32 × Mem) :=
  if x5 = 0 then FX8_led_89 fu D kn25 M x1 x2 x3 x4 x5 t0 else bd (FX8_ofLog fu D M x4 4) (fun v82 M82 => if v82 = 1 then FX8_led_105 fu D kn25 M82 x1 x2 x3 x4 x5 t0 else FX8_led_89 fu D kn25 M82 x1 x2 x3 x4 x5 t0)
set_option linter.unusedVariables false in
def FX8_led_53 (fu : Nat) (D : List LDen) (kn25 : Mem × Int32 × Int32 × Int32 × Int32 → Option (Int32 × Mem)) (M : Mem) (x1 x2 x3 x4 t0 : Int32) : Option (Int32 × Mem) :=
  bd (FX8_ofLog fu D M x4 3) (fun v59 M59 => if v59 = x1 then FX8_led_71 fu D kn25 M59 x1 x2 x3 x4 t0 1 else FX8_led_71 fu D kn25 M59 x1 x2 x3 x4 t0 0)
set_option linter.unusedVariables false in
def GX8_led_25 (fu : Nat) (D : List LDen) (kn25 : Mem × Int32 × Int32 × Int32 × Int32 → Option (Int32 × Mem)) (M : Mem) (x1 x2 x3 x4 : Int32) : Option (Int32 × Mem) :=
  gd 11 2180 (if (M (5, 0, 1) 11) ≤ x4 then some (x3, M) else bd (FX8_ofLog fu D M x4 2) (fun v41 M41 => if v41 = x1 then FX8_led_53 fu D kn25 M41 x1 x2 x3 x4 1 else FX8_led_53 fu D kn25 M41 x1 x2 x3 x4 0))
set_option linter.unusedVariables false in
def FX8_led_25 (fu : Nat) (D : List LDen) (M : Mem) (x1 x2 x3 x4 : Int32) : Option (Int32 × Mem) := lp (fun kn z => GX8_led_25 fu D kn z.1 z.2.1 z.2.2.1 z.2.2.2.1 z.2.2.2.2) fu (M, x1, x2, x3, x4)
set_option linter.unusedVariables false in
def FX8_led (fu : Nat) (D : List LDen) (M : Mem) (x1 x2 : Int32) : Option (Int32 × Mem) :=
  lt (up M (5, 0, 0) 0 0) (fun M2 => bd (FX8_noBird fu D M2 x1) (fun v8 M8 => bd (FX8_throwsIf fu D M8 v8 1) (fun v12 M12 => if v12 = 0 then FX8_led_25 fu D M12 x1 x2 0 0 else some (0, M12))))
set_option linter.unusedVariables false in
def FX8_log_56 (fu : Nat) (D : List LDen) (M : Mem) (t0 : Int32) : Option (Int32 × Mem) :=
  some (t0, M)
set_option linter.unusedVariables false in
def FX8_log_20 (fu : Nat) (D : List LDen) (M : Mem) (x1 x2 t0 : Int32) : Option (Int32 × Mem) :=
  bd (FX8_throwsIf fu D M t0 1) (fun v21 M21 => if v21 = 0 then gd 11 2180 (bd (FX8_in fu D M21 x1 0 ((M21 (5, 0, 1) 11) - 1)) (fun v40 M40 => if v40 = 0 then FX8_log_56 fu D M40 (-1) else bd (FX8_ofLog fu D M40 x1 x2) (fun v49 M49 => FX8_log_56 fu D M49 v49))) else some (0, M21))
set_option linter.unusedVariables false in
def FX8_log (fu : Nat) (D : List LDen) (M : Mem) (x1 x2 : Int32) : Option (Int32 × Mem) :=
  lt (up M (5, 0, 0) 0 0) (fun M2 => bd (FX8_in fu D M2 x2 0 5) (fun v9 M9 => if v9 = 0 then FX8_log_20 fu D M9 x1 x2 1 else FX8_log_20 fu D M9 x1 x2 0))
set_option linter.unusedVariables false in
def FX8_seed (fu : Nat) (D : List LDen) (M : Mem) (x1 : Int32) : Option (Int32 × Mem) :=
  lt (up M (5, 0, 0) 0 0) (fun M2 => gd 12 2180 (lt (M2 (5, 0, 1) 12) (fun y12 => gd 12 2180 (lt (up M2 (5, 0, 1) 12 x1) (fun M20 => some (y12, M20))))))
set_option linter.unusedVariables false in
def FX8_openOnes_28 (fu : Nat) (D : List LDen) (kn4 : Mem × Int32 × Int32 → Option (Int32 × Mem)) (M : Mem) (x2 t0 t1 : Int32) : Option (Int32 × Mem) :=
  lt (t1 ||| t0) (fun y29 => lt (x2 + 1) (fun y30 => kn4 (M, y29, y30)))
set_option linter.unusedVariables false in
def GX8_openOnes_4 (fu : Nat) (D : List LDen) (kn4 : Mem × Int32 × Int32 → Option (Int32 × Mem)) (M : Mem) (x1 x2 : Int32) : Option (Int32 × Mem) :=
  bd (FX8_cases fu D M) (fun v6 M6 => if v6 ≤ x2 then some (x1, M6) else bd (FX8_isOpen fu D M6 x2) (fun v15 M15 => if v15 = 0 then FX8_openOnes_28 fu D kn4 M15 x2 0 x1 else FX8_openOnes_28 fu D kn4 M15 x2 (1 <<< (x2 &&& 31)) x1))
set_option linter.unusedVariables false in
def FX8_openOnes_4 (fu : Nat) (D : List LDen) (M : Mem) (x1 x2 : Int32) : Option (Int32 × Mem) := lp (fun kn z => GX8_openOnes_4 fu D kn z.1 z.2.1 z.2.2) fu (M, x1, x2)
set_option linter.unusedVariables false in
def FX8_openOnes (fu : Nat) (D : List LDen) (M : Mem) : Option (Int32 × Mem) :=
  FX8_openOnes_4 fu D M 0 0
set_option linter.unusedVariables false in
def FX8_isCalm_31 (fu : Nat) (D : List LDen) (kn4 : Mem × Int32 × Int32 → Option (Int32 × Mem)) (M : Mem) (x2 t0 : Int32) : Option (Int32 × Mem) :=
  lt (x2 + 1) (fun y32 => kn4 (M, t0, y32))
set_option linter.unusedVariables false in
def FX8_isCalm_30 (fu : Nat) (D : List LDen) (kn4 : Mem × Int32 × Int32 → Option (Int32 × Mem)) (M : Mem) (x2 : Int32) : Option (Int32 × Mem) :=
  FX8_isCalm_31 fu D kn4 M x2 0
set_option linter.unusedVariables false in
def GX8_isCalm_4 (fu : Nat) (D : List LDen) (kn4 : Mem × Int32 × Int32 → Option (Int32 × Mem)) (M : Mem) (x1 x2 : Int32) : Option (Int32 × Mem) :=
  if 13 ≤ x2 then some (x1 &&& 1, M) else if x1 = 0 then FX8_isCalm_30 fu D kn4 M x2 else gd (13 + x2) 2180 (if (M (5, 0, 1) ((13 + x2).toNatClampNeg)) = 0 then FX8_isCalm_31 fu D kn4 M x2 1 else FX8_isCalm_30 fu D kn4 M x2)
set_option linter.unusedVariables false in
def FX8_isCalm_4 (fu : Nat) (D : List LDen) (M : Mem) (x1 x2 : Int32) : Option (Int32 × Mem) := lp (fun kn z => GX8_isCalm_4 fu D kn z.1 z.2.1 z.2.2) fu (M, x1, x2)
set_option linter.unusedVariables false in
def FX8_isCalm (fu : Nat) (D : List LDen) (M : Mem) : Option (Int32 × Mem) :=
  FX8_isCalm_4 fu D M 1 0
set_option linter.unusedVariables false in
def FX8_count_176 (fu : Nat) (D : List LDen) (M : Mem) (t0 : Int32) : Option (Int32 × Mem) :=
  some (t0, M)
set_option linter.unusedVariables false in
def FX8_count_124 (fu : Nat) (D : List LDen) (M : Mem) (t0 : Int32) : Option (Int32 × Mem) :=
  some (t0, M)
set_option linter.unusedVariables false in
def FX8_count_142 (fu : Nat) (D : List LDen) (M : Mem) (t0 : Int32) : Option (Int32 × Mem) :=
  some (t0, M)
set_option linter.unusedVariables false in
def FX8_count (fu : Nat) (D : List LDen) (M : Mem) (x1 : Int32) : Option (Int32 × Mem) :=
  lt (up M (5, 0, 0) 0 0) (fun M2 => swt x1 0 [bd (FX8_birds fu D M2) (fun v81 M81 => some (v81, M81)), bd (FX8_counsel fu D M2) (fun v86 M86 => some (v86, M86)), bd (FX8_cases fu D M2) (fun v91 M91 => some (v91, M91)), gd 3 2180 (some (M2 (5, 0, 1) 3, M2)), gd 4 2180 (if (M2 (5, 0, 1) 4) = 1 then gd 482 2180 (FX8_count_124 fu D M2 (M2 (5, 0, 1) 482)) else FX8_count_124 fu D M2 (-1)), bd (FX8_in fu D M2 x1 5 10) (fun v160 M160 => if v160 = 0 then FX8_count_176 fu D M160 (-1) else gd x1 2180 (FX8_count_176 fu D M160 (M160 (5, 0, 1) x1.toNatClampNeg))), bd (FX8_in fu D M2 x1 5 10) (fun v160 M160 => if v160 = 0 then FX8_count_176 fu D M160 (-1) else gd x1 2180 (FX8_count_176 fu D M160 (M160 (5, 0, 1) x1.toNatClampNeg))), bd (FX8_in fu D M2 x1 5 10) (fun v160 M160 => if v160 = 0 then FX8_count_176 fu D M160 (-1) else gd x1 2180 (FX8_count_176 fu D M160 (M160 (5, 0, 1) x1.toNatClampNeg))), bd (FX8_in fu D M2 x1 5 10) (fun v160 M160 => if v160 = 0 then FX8_count_176 fu D M160 (-1) else gd x1 2180 (FX8_count_176 fu D M160 (M160 (5, 0, 1) x1.toNatClampNeg))), bd (FX8_in fu D M2 x1 5 10) (fun v160 M160 => if v160 = 0 then FX8_count_176 fu D M160 (-1) else gd x1 2180 (FX8_count_176 fu D M160 (M160 (5, 0, 1) x1.toNatClampNeg))), bd (FX8_in fu D M2 x1 5 10) (fun v160 M160 => if v160 = 0 then FX8_count_176 fu D M160 (-1) else gd x1 2180 (FX8_count_176 fu D M160 (M160 (5, 0, 1) x1.toNatClampNeg))), bd (FX8_openOnes fu D M2) (fun v126 M126 => some (v126, M126)), bd (FX8_isCalm fu D M2) (fun v131 M131 => if v131 = 0 then FX8_count_142 fu D M131 0 else FX8_count_142 fu D M131 1), gd 11 2180 (some (M2 (5, 0, 1) 11, M2)), some (M2 (5, 0, 0) 7, M2)] (bd (FX8_in fu D M2 x1 5 10) (fun v160 M160 => if v160 = 0 then FX8_count_176 fu D M160 (-1) else gd x1 2180 (FX8_count_176 fu D M160 (M160 (5, 0, 1) x1.toNatClampNeg)))))
