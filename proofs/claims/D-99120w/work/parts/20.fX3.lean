/-! State, Bird, Case: pure programs (printed by gen/gen.py) -/
set_option linter.unusedVariables false in
def FX4_be (fu : Nat) (D : List LDen) (s : Nat) (b : Nat) (o : Nat) (ob : Nat) (M : Mem) : Option (Int32 × Mem) :=
  lt (up M (1, s, b) 0 (M (1, o, ob) 0)) (fun M5 => lt (up M5 (1, s, b) 1 (M5 (1, o, ob) 1)) (fun M13 => lt (up M13 (1, s, b) 2 (M13 (1, o, ob) 2)) (fun M21 => lt (up M21 (1, s, b) 3 (M21 (1, o, ob) 3)) (fun M29 => some (0, M29)))))
set_option linter.unusedVariables false in
def FX5_be (fu : Nat) (D : List LDen) (s : Nat) (c : Nat) (o : Nat) (oc : Nat) (M : Mem) : Option (Int32 × Mem) :=
  lt (up M (2, s, c) 0 (M (2, o, oc) 0)) (fun M5 => lt (up M5 (2, s, c) 1 (M5 (2, o, oc) 1)) (fun M13 => lt (up M13 (2, s, c) 2 (M13 (2, o, oc) 2)) (fun M21 => lt (up M21 (2, s, c) 3 (M21 (2, o, oc) 3)) (fun M29 => some (0, M29)))))
set_option linter.unusedVariables false in
def FX3_draw (fu : Nat) (D : List LDen) (s : Nat) (M : Mem) (x1 : Int32) : Option (Int32 × Mem) :=
  lt (up M (0, s, 0) 18 ((1103515245 * (M (0, s, 0) 18)) + 12345)) (fun M12 => nz x1 (some (rm ((((M12 (0, s, 0) 18).toUInt32 >>> ((16 : Int32).toUInt32 &&& Int32.toUInt32 31)).toInt32) &&& 32767) x1, M12)))
set_option linter.unusedVariables false in
def FX3_isYard_21 (fu : Nat) (D : List LDen) (s : Nat) (M : Mem) (t0 : Int32) : Option (Int32 × Mem) :=
  some (t0 &&& 1, M)
set_option linter.unusedVariables false in
def FX3_isYard_20 (fu : Nat) (D : List LDen) (s : Nat) (M : Mem) : Option (Int32 × Mem) :=
  FX3_isYard_21 fu D s M 0
set_option linter.unusedVariables false in
def FX3_isYard (fu : Nat) (D : List LDen) (s : Nat) (M : Mem) (x1 : Int32) : Option (Int32 × Mem) :=
  if x1 < (M (0, s, 0) 14) then FX3_isYard_20 fu D s M else if (M (0, s, 0) 15) < x1 then FX3_isYard_20 fu D s M else FX3_isYard_21 fu D s M 1
set_option linter.unusedVariables false in
def FX3_tells_95 (fu : Nat) (D : List LDen) (s : Nat) (M : Mem) (t0 t1 : Int32) : Option (Int32 × Mem) :=
  gd t1 8 (lt (up M (0, s, 6) t1.toNatClampNeg t0) (fun M95 => some (0, M95)))
set_option linter.unusedVariables false in
def FX3_tells_75 (fu : Nat) (D : List LDen) (s : Nat) (M : Mem) (x3 t0 t1 : Int32) : Option (Int32 × Mem) :=
  gd t1 8 (lt (up M (0, s, 6) t1.toNatClampNeg t0) (fun M75 => bd (FX3_isYard fu D s M75 x3) (fun v84 M84 => if v84 = 0 then FX3_tells_95 fu D s M84 0 7 else FX3_tells_95 fu D s M84 1 7)))
set_option linter.unusedVariables false in
def FX3_tells (fu : Nat) (D : List LDen) (s : Nat) (M : Mem) (x1 x2 x3 x4 : Int32) : Option (Int32 × Mem) :=
  gd 0 8 (lt (up M (0, s, 6) 0 x1) (fun M6 => gd 1 8 (lt (up M6 (0, s, 6) 1 x2) (fun M13 => gd 2 8 (lt (up M13 (0, s, 6) 2 x3) (fun M20 => gd x1 6 (gd 3 8 (lt (up M20 (0, s, 6) 3 (M20 (1, s, x1.toNatClampNeg) 1)) (fun M35 => gd 4 8 (lt (up M35 (0, s, 6) 4 (M35 (0, s, 0) 16)) (fun M45 => gd 5 8 (lt (up M45 (0, s, 6) 5 x4) (fun M53 => if x2 ≤ ((M53 (0, s, 0) 13) / 2) then FX3_tells_75 fu D s M53 x3 0 6 else FX3_tells_75 fu D s M53 x3 1 6)))))))))))))
set_option linter.unusedVariables false in
def FX3_stock (fu : Nat) (D : List LDen) (s : Nat) (M : Mem) (x1 x2 : Int32) : Option (Int32 × Mem) :=
  gd ((6 * x1) + x2) 24 (some (M (0, s, 4) (((6 * x1) + x2).toNatClampNeg), M))
set_option linter.unusedVariables false in
def FX3_choices_56 (fu : Nat) (D : List LDen) (s : Nat) (kn13 : Mem × Int32 × Int32 × Int32 → Option (Int32 × Mem)) (n3 : Nat) (M : Mem) (x2 x5 t0 t1 : Int32) : Option (Int32 × Mem) :=
  lt (t1 ||| t0) (fun y57 => lt (x5 + 1) (fun y59 => kn13 (M, x2, y57, y59)))
set_option linter.unusedVariables false in
def FX3_choices_40 (fu : Nat) (D : List LDen) (s : Nat) (kn13 : Mem × Int32 × Int32 × Int32 → Option (Int32 × Mem)) (n3 : Nat) (M : Mem) (x2 x5 t0 t2 : Int32) : Option (Int32 × Mem) :=
  bd (FX3_stock fu D s M t0 x5) (fun v42 M42 => if v42 ≤ 0 then FX3_choices_56 fu D s kn13 n3 M42 x2 x5 0 t2 else FX3_choices_56 fu D s kn13 n3 M42 x2 x5 (1 <<< (x5 &&& 31)) t2)
set_option linter.unusedVariables false in
def GX3_choices_13 (fu : Nat) (D : List LDen) (s : Nat) (kn13 : Mem × Int32 × Int32 × Int32 → Option (Int32 × Mem)) (n3 : Nat) (M : Mem) (x2 x4 x5 : Int32) : Option (Int32 × Mem) :=
  if (M (0, s, 0) 7) ≤ x5 then some (x4 &&& (M (2, s, n3) 2), M) else if x2 = 0 then FX3_choices_40 fu D s kn13 n3 M x2 x5 (M (2, s, n3) 0) x4 else FX3_choices_40 fu D s kn13 n3 M x2 x5 (M (2, s, n3) 1) x4
set_option linter.unusedVariables false in
def FX3_choices_13 (fu : Nat) (D : List LDen) (s : Nat) (n3 : Nat) (M : Mem) (x2 x4 x5 : Int32) : Option (Int32 × Mem) := lp (fun kn z => GX3_choices_13 fu D s kn n3 z.1 z.2.1 z.2.2.1 z.2.2.2) fu (M, x2, x4, x5)
set_option linter.unusedVariables false in
def FX3_choices (fu : Nat) (D : List LDen) (s : Nat) (M : Mem) (x1 x2 : Int32) : Option (Int32 × Mem) :=
  gd x1 12 (FX3_choices_13 fu D s (x1.toNatClampNeg) M x2 0 0)
set_option linter.unusedVariables false in
def FX3_writes (fu : Nat) (D : List LDen) (s : Nat) (M : Mem) (x1 x2 x3 x4 x5 : Int32) : Option (Int32 × Mem) :=
  lt ((rm (M (0, s, 0) 19) 60) * 6) (fun y10 => gd y10 360 (lt (up M (0, s, 7) y10.toNatClampNeg (M (0, s, 0) 17)) (fun M22 => gd (y10 + 1) 360 (lt (up M22 (0, s, 7) ((y10 + 1).toNatClampNeg) x1) (fun M32 => gd (y10 + 2) 360 (lt (up M32 (0, s, 7) ((y10 + 2).toNatClampNeg) x2) (fun M42 => gd (y10 + 3) 360 (lt (up M42 (0, s, 7) ((y10 + 3).toNatClampNeg) x3) (fun M52 => gd (y10 + 4) 360 (lt (up M52 (0, s, 7) ((y10 + 4).toNatClampNeg) x4) (fun M63 => gd (y10 + 5) 360 (lt (up M63 (0, s, 7) ((y10 + 5).toNatClampNeg) x5) (fun M74 => lt (up M74 (0, s, 0) 19 ((M74 (0, s, 0) 19) + 1)) (fun M82 => some (0, M82)))))))))))))))
set_option linter.unusedVariables false in
def FX3_isKept_22 (fu : Nat) (D : List LDen) (s : Nat) (M : Mem) (t0 : Int32) : Option (Int32 × Mem) :=
  some (t0 &&& 1, M)
set_option linter.unusedVariables false in
def FX3_isKept_21 (fu : Nat) (D : List LDen) (s : Nat) (M : Mem) : Option (Int32 × Mem) :=
  FX3_isKept_22 fu D s M 0
set_option linter.unusedVariables false in
def FX3_isKept (fu : Nat) (D : List LDen) (s : Nat) (M : Mem) (x1 : Int32) : Option (Int32 × Mem) :=
  if x1 < 0 then FX3_isKept_21 fu D s M else if (mn 60 (M (0, s, 0) 19)) ≤ x1 then FX3_isKept_21 fu D s M else FX3_isKept_22 fu D s M 1
set_option linter.unusedVariables false in
def FX3_row_33 (fu : Nat) (D : List LDen) (s : Nat) (M : Mem) (t0 : Int32) : Option (Int32 × Mem) :=
  some (t0, M)
set_option linter.unusedVariables false in
def FX3_row (fu : Nat) (D : List LDen) (s : Nat) (M : Mem) (x1 x2 : Int32) : Option (Int32 × Mem) :=
  bd (FX3_isKept fu D s M x1) (fun v2 M2 => if v2 = 0 then FX3_row_33 fu D s M2 (-1) else gd (((rm (((M2 (0, s, 0) 19) - 1) - x1) 60) * 6) + x2) 360 (FX3_row_33 fu D s M2 (M2 (0, s, 7) ((((rm (((M2 (0, s, 0) 19) - 1) - x1) 60) * 6) + x2).toNatClampNeg))))
