/-! FeatherYard, Ways: pure programs (printed by gen/gen.py) -/
set_option maxRecDepth 100000
set_option linter.unusedVariables false in
def GX1_four_3 (fu : Nat) (D : List LDen) (kn3 : Mem × Int32 × Int32 → Option (Int32 × Mem)) (M : Mem) (x1 x2 : Int32) : Option (Int32 × Mem) :=
  if x2 < 0 then some (0, M) else gd (M (4, 0, 8) 6) 400 (lt (up M (4, 0, 9) ((M (4, 0, 8) 6).toNatClampNeg) (vp_nar .byte ((x1 >>> (x2 &&& 31)).toInt8.toInt32))) (fun M25 => lt (up M25 (4, 0, 8) 6 ((M25 (4, 0, 8) 6) + 1)) (fun M36 => lt (x2 + (-8)) (fun y39 => kn3 (M36, x1, y39)))))
set_option linter.unusedVariables false in
def FX1_four_3 (fu : Nat) (D : List LDen) (M : Mem) (x1 x2 : Int32) : Option (Int32 × Mem) := lp (fun kn z => GX1_four_3 fu D kn z.1 z.2.1 z.2.2) fu (M, x1, x2)
set_option linter.unusedVariables false in
def FX1_four (fu : Nat) (D : List LDen) (M : Mem) (x1 : Int32) : Option (Int32 × Mem) :=
  FX1_four_3 fu D M x1 24
set_option linter.unusedVariables false in
def FX1_feed (fu : Nat) (D : List LDen) (M : Mem) (x1 x2 x3 x4 x5 : Int32) : Option (Int32 × Mem) :=
  if ((M (4, 0, 8) 6) + 20) ≤ 400 then bd (FX1_four fu D M x1) (fun _ M20 => bd (FX1_four fu D M20 x2) (fun _ M25 => bd (FX1_four fu D M25 x3) (fun _ M30 => bd (FX1_four fu D M30 x4) (fun _ M36 => bd (FX1_four fu D M36 x5) (fun _ M42 => some (M42 (4, 0, 8) 6, M42)))))) else some ((-1), M)
set_option linter.unusedVariables false in
def FX1_isIn_15 (fu : Nat) (D : List LDen) (M : Mem) (t0 : Int32) : Option (Int32 × Mem) :=
  some (t0 &&& 1, M)
set_option linter.unusedVariables false in
def FX1_isIn_14 (fu : Nat) (D : List LDen) (M : Mem) : Option (Int32 × Mem) :=
  FX1_isIn_15 fu D M 0
set_option linter.unusedVariables false in
def FX1_isIn (fu : Nat) (D : List LDen) (M : Mem) (x0 x1 x2 : Int32) : Option (Int32 × Mem) :=
  if x0 < x1 then FX1_isIn_14 fu D M else if x2 < x0 then FX1_isIn_14 fu D M else FX1_isIn_15 fu D M 1
set_option linter.unusedVariables false in
def FX1_end (fu : Nat) (D : List LDen) (M : Mem) (x1 : Int32) : Option (Int32 × Mem) :=
  bd (FX1_isIn fu D M x1 0 (M (4, 0, 8) 6)) (fun v9 M9 => if v9 = 0 then some (0, M9) else lt (up M9 (4, 0, 8) 6 x1) (fun M22 => some (1, M22)))
set_option linter.unusedVariables false in
def FX1_fault (fu : Nat) (D : List LDen) (M : Mem) : Option (Int32 × Mem) :=
  some (M (4, 0, 0) 12, M)
set_option linter.unusedVariables false in
def FX7_ends_51 (fu : Nat) (D : List LDen) (w : Nat) (M : Mem) : Option (Int32 × Mem) :=
  some (0, M)
set_option linter.unusedVariables false in
def FX7_ends (fu : Nat) (D : List LDen) (w : Nat) (M : Mem) (x1 x2 x3 : Int32) : Option (Int32 × Mem) :=
  gd x1 16 (gd x1 16 (lt (up M (3, w, 2) x1.toNatClampNeg ((M (3, w, 2) x1.toNatClampNeg) + x3)) (fun M9 => gd ((16 * x2) + x1) 128 (gd ((16 * x2) + x1) 128 (lt (up M9 (3, w, 3) (((16 * x2) + x1).toNatClampNeg) ((M9 (3, w, 3) (((16 * x2) + x1).toNatClampNeg)) + x3)) (fun M24 => bd (FX3_isYard fu D 0 M24 x1) (fun v33 M33 => if v33 = 0 then FX7_ends_51 fu D w M33 else gd (x2 + 1) 9 (gd (x2 + 1) 9 (lt (up M33 (3, w, 1) ((x2 + 1).toNatClampNeg) ((M33 (3, w, 1) ((x2 + 1).toNatClampNeg)) + x3)) (fun M50 => FX7_ends_51 fu D w M50))))))))))
set_option linter.unusedVariables false in
def FX7_goes_157 (fu : Nat) (D : List LDen) (w : Nat) (kn52 : Mem × Int32 × Int32 × Int32 × Int32 × Int32 × Int32 × Int32 × Int32 → Option (Int32 × Mem)) (M : Mem) (x1 x3 x4 x5 x6 x7 x8 x9 : Int32) : Option (Int32 × Mem) :=
  lt (x9 + 1) (fun y157 => kn52 (M, x1, x3, x4, x5, x6, x7, x8, y157))
set_option linter.unusedVariables false in
def FX7_goes_101 (fu : Nat) (D : List LDen) (w : Nat) (kn52 : Mem × Int32 × Int32 × Int32 × Int32 × Int32 × Int32 × Int32 × Int32 → Option (Int32 × Mem)) (M : Mem) (x1 x3 x4 x5 x6 x7 x8 x9 : Int32) : Option (Int32 × Mem) :=
  lt (up M (3, w, 0) 5 ((M (3, w, 0) 5) + (x6 * x5))) (fun M112 => FX7_goes_157 fu D w kn52 M112 x1 x3 x4 x5 x6 x7 x8 x9)
set_option linter.unusedVariables false in
def FX7_goes_86 (fu : Nat) (D : List LDen) (w : Nat) (kn52 : Mem × Int32 × Int32 × Int32 × Int32 × Int32 × Int32 × Int32 × Int32 → Option (Int32 × Mem)) (M : Mem) (x1 x3 x4 x5 x6 x7 x8 x9 t0 t1 : Int32) : Option (Int32 × Mem) :=
  lt (t1 + t0) (fun y87 => if y87 < 0 then FX7_goes_101 fu D w kn52 M x1 x3 x4 x5 x6 x7 x8 x9 else if y87 < 16 then if x7 ≤ 0 then bd (FX7_ends fu D w M y87 x4 (x6 * x5)) (fun _ M154 => FX7_goes_157 fu D w kn52 M154 x1 x3 x4 x5 x6 x7 x8 x9) else gd ((16 * x7) + y87) 208 (gd ((16 * x7) + y87) 208 (lt (up M (3, w, 5) (((16 * x7) + y87).toNatClampNeg) ((M (3, w, 5) (((16 * x7) + y87).toNatClampNeg)) + x6)) (fun M140 => FX7_goes_157 fu D w kn52 M140 x1 x3 x4 x5 x6 x7 x8 x9))) else FX7_goes_101 fu D w kn52 M x1 x3 x4 x5 x6 x7 x8 x9)
set_option linter.unusedVariables false in
def GX7_goes_52 (fu : Nat) (D : List LDen) (w : Nat) (kn52 : Mem × Int32 × Int32 × Int32 × Int32 × Int32 × Int32 × Int32 × Int32 → Option (Int32 × Mem)) (M : Mem) (x1 x3 x4 x5 x6 x7 x8 x9 : Int32) : Option (Int32 × Mem) :=
  if 1 < x9 then some (0, M) else gd x1 6 (if (M (1, 0, x1.toNatClampNeg) 1) ≤ 0 then FX7_goes_86 fu D w kn52 M x1 x3 x4 x5 x6 x7 x8 x9 0 (x3 + x8) else FX7_goes_86 fu D w kn52 M x1 x3 x4 x5 x6 x7 x8 x9 x9 (x3 + x8))
set_option linter.unusedVariables false in
def FX7_goes_52 (fu : Nat) (D : List LDen) (w : Nat) (M : Mem) (x1 x3 x4 x5 x6 x7 x8 x9 : Int32) : Option (Int32 × Mem) := lp (fun kn z => GX7_goes_52 fu D w kn z.1 z.2.1 z.2.2.1 z.2.2.2.1 z.2.2.2.2.1 z.2.2.2.2.2.1 z.2.2.2.2.2.2.1 z.2.2.2.2.2.2.2.1 z.2.2.2.2.2.2.2.2) fu (M, x1, x3, x4, x5, x6, x7, x8, x9)
set_option linter.unusedVariables false in
def FX7_goes (fu : Nat) (D : List LDen) (w : Nat) (M : Mem) (x1 x2 x3 x4 x5 : Int32) : Option (Int32 × Mem) :=
  gd ((16 * x2) + x3) 208 (lt (M (3, w, 4) (((16 * x2) + x3).toNatClampNeg)) (fun y11 => bd (FX3_sinks fu D 0 M x1 x2 x3 x4) (fun v26 M26 => lt (x2 - v26) (fun y30 => bd (FX3_carried fu D 0 M26 x1 x2 x3 x4) (fun v44 M44 => FX7_goes_52 fu D w M44 x1 x3 x4 x5 y11 y30 v44 (-1))))))
set_option linter.unusedVariables false in
def GX7_counts_247 (fu : Nat) (D : List LDen) (w : Nat) (kn247 : Mem × Int32 → Option (Int32 × Mem)) (M : Mem) (x3 : Int32) : Option (Int32 × Mem) :=
  if 208 ≤ x3 then some (0, M) else gd x3 208 (lt (up M (3, w, 0) 6 ((M (3, w, 0) 6) + (M (3, w, 4) x3.toNatClampNeg))) (fun M268 => lt (x3 + 1) (fun y271 => kn247 (M268, y271))))
set_option linter.unusedVariables false in
def FX7_counts_247 (fu : Nat) (D : List LDen) (w : Nat) (M : Mem) (x3 : Int32) : Option (Int32 × Mem) := lp (fun kn z => GX7_counts_247 fu D w kn z.1 z.2) fu (M, x3)
set_option linter.unusedVariables false in
def FX7_counts_210 (fu : Nat) (D : List LDen) (w : Nat) (kn173 : Mem × Int32 × Int32 × Int32 × Int32 → Option (Int32 × Mem)) (M : Mem) (x1 x2 x3 x4 : Int32) : Option (Int32 × Mem) :=
  lt (x4 + 1) (fun y210 => kn173 (M, x1, x2, x3, y210))
set_option linter.unusedVariables false in
def GX7_counts_173 (fu : Nat) (D : List LDen) (w : Nat) (kn173 : Mem × Int32 × Int32 × Int32 × Int32 → Option (Int32 × Mem)) (kn136 : Mem × Int32 × Int32 × Int32 → Option (Int32 × Mem)) (M : Mem) (x1 x2 x3 x4 : Int32) : Option (Int32 × Mem) :=
  if 208 ≤ x4 then lt (cp M (3, w, 5) (3, w, 4) 208) (fun M231 => lt (x2 / 3) (fun y237 => lt (x3 + 1) (fun y238 => kn136 (M231, x1, y237, y238)))) else gd x4 208 (if (M (3, w, 4) x4.toNatClampNeg) ≤ 0 then FX7_counts_210 fu D w kn173 M x1 x2 x3 x4 else bd (FX7_goes fu D w M x1 (x4 / 16) (rm x4 16) x3 x2) (fun _ M207 => FX7_counts_210 fu D w kn173 M207 x1 x2 x3 x4))
set_option linter.unusedVariables false in
def FX7_counts_173 (fu : Nat) (D : List LDen) (w : Nat) (kn136 : Mem × Int32 × Int32 × Int32 → Option (Int32 × Mem)) (M : Mem) (x1 x2 x3 x4 : Int32) : Option (Int32 × Mem) := lp (fun kn z => GX7_counts_173 fu D w kn kn136 z.1 z.2.1 z.2.2.1 z.2.2.2.1 z.2.2.2.2) fu (M, x1, x2, x3, x4)
set_option linter.unusedVariables false in
def GX7_counts_145 (fu : Nat) (D : List LDen) (w : Nat) (kn145 : Mem × Int32 × Int32 × Int32 × Int32 → Option (Int32 × Mem)) (kn136 : Mem × Int32 × Int32 × Int32 → Option (Int32 × Mem)) (M : Mem) (x1 x2 x3 x4 : Int32) : Option (Int32 × Mem) :=
  if 208 ≤ x4 then FX7_counts_173 fu D w kn136 M x1 x2 x3 16 else gd x4 208 (lt (up M (3, w, 5) x4.toNatClampNeg 0) (fun M162 => lt (x4 + 1) (fun y163 => kn145 (M162, x1, x2, x3, y163))))
set_option linter.unusedVariables false in
def FX7_counts_145 (fu : Nat) (D : List LDen) (w : Nat) (kn136 : Mem × Int32 × Int32 × Int32 → Option (Int32 × Mem)) (M : Mem) (x1 x2 x3 x4 : Int32) : Option (Int32 × Mem) := lp (fun kn z => GX7_counts_145 fu D w kn kn136 z.1 z.2.1 z.2.2.1 z.2.2.2.1 z.2.2.2.2) fu (M, x1, x2, x3, x4)
set_option linter.unusedVariables false in
def GX7_counts_136 (fu : Nat) (D : List LDen) (w : Nat) (kn136 : Mem × Int32 × Int32 × Int32 → Option (Int32 × Mem)) (M : Mem) (x1 x2 x3 : Int32) : Option (Int32 × Mem) :=
  if 8 ≤ x3 then FX7_counts_247 fu D w M 16 else FX7_counts_145 fu D w kn136 M x1 x2 x3 0
set_option linter.unusedVariables false in
def FX7_counts_136 (fu : Nat) (D : List LDen) (w : Nat) (M : Mem) (x1 x2 x3 : Int32) : Option (Int32 × Mem) := lp (fun kn z => GX7_counts_136 fu D w kn z.1 z.2.1 z.2.2.1 z.2.2.2) fu (M, x1, x2, x3)
set_option linter.unusedVariables false in
def GX7_counts_68 (fu : Nat) (D : List LDen) (w : Nat) (kn68 : Mem × Int32 × Int32 → Option (Int32 × Mem)) (M : Mem) (x1 x2 : Int32) : Option (Int32 × Mem) :=
  if 128 ≤ x2 then lt (up M (3, w, 0) 5 0) (fun M92 => lt (up M92 (3, w, 0) 6 0) (fun M97 => gd ((16 * (M97 (0, 0, 0) 13)) + (M97 (0, 0, 0) 12)) 208 (lt (up M97 (3, w, 4) (((16 * (M97 (0, 0, 0) 13)) + (M97 (0, 0, 0) 12)).toNatClampNeg) 1) (fun M129 => FX7_counts_136 fu D w M129 x1 2187 0)))) else gd x2 128 (lt (up M (3, w, 3) x2.toNatClampNeg 0) (fun M83 => lt (x2 + 1) (fun y84 => kn68 (M83, x1, y84))))
set_option linter.unusedVariables false in
def FX7_counts_68 (fu : Nat) (D : List LDen) (w : Nat) (M : Mem) (x1 x2 : Int32) : Option (Int32 × Mem) := lp (fun kn z => GX7_counts_68 fu D w kn z.1 z.2.1 z.2.2) fu (M, x1, x2)
set_option linter.unusedVariables false in
def GX7_counts_44 (fu : Nat) (D : List LDen) (w : Nat) (kn44 : Mem × Int32 × Int32 → Option (Int32 × Mem)) (M : Mem) (x1 x2 : Int32) : Option (Int32 × Mem) :=
  if 208 ≤ x2 then FX7_counts_68 fu D w M x1 0 else gd x2 208 (lt (up M (3, w, 4) x2.toNatClampNeg 0) (fun M59 => lt (x2 + 1) (fun y60 => kn44 (M59, x1, y60))))
set_option linter.unusedVariables false in
def FX7_counts_44 (fu : Nat) (D : List LDen) (w : Nat) (M : Mem) (x1 x2 : Int32) : Option (Int32 × Mem) := lp (fun kn z => GX7_counts_44 fu D w kn z.1 z.2.1 z.2.2) fu (M, x1, x2)
set_option linter.unusedVariables false in
def GX7_counts_23 (fu : Nat) (D : List LDen) (w : Nat) (kn23 : Mem × Int32 × Int32 → Option (Int32 × Mem)) (M : Mem) (x1 x2 : Int32) : Option (Int32 × Mem) :=
  if 16 ≤ x2 then FX7_counts_44 fu D w M x1 0 else gd x2 16 (lt (up M (3, w, 2) x2.toNatClampNeg 0) (fun M35 => lt (x2 + 1) (fun y36 => kn23 (M35, x1, y36))))
set_option linter.unusedVariables false in
def FX7_counts_23 (fu : Nat) (D : List LDen) (w : Nat) (M : Mem) (x1 x2 : Int32) : Option (Int32 × Mem) := lp (fun kn z => GX7_counts_23 fu D w kn z.1 z.2.1 z.2.2) fu (M, x1, x2)
set_option linter.unusedVariables false in
def GX7_counts_2 (fu : Nat) (D : List LDen) (w : Nat) (kn2 : Mem × Int32 × Int32 → Option (Int32 × Mem)) (M : Mem) (x1 x2 : Int32) : Option (Int32 × Mem) :=
  if 8 < x2 then FX7_counts_23 fu D w M x1 0 else gd x2 9 (lt (up M (3, w, 1) x2.toNatClampNeg 0) (fun M14 => lt (x2 + 1) (fun y15 => kn2 (M14, x1, y15))))
set_option linter.unusedVariables false in
def FX7_counts_2 (fu : Nat) (D : List LDen) (w : Nat) (M : Mem) (x1 x2 : Int32) : Option (Int32 × Mem) := lp (fun kn z => GX7_counts_2 fu D w kn z.1 z.2.1 z.2.2) fu (M, x1, x2)
set_option linter.unusedVariables false in
def FX7_counts (fu : Nat) (D : List LDen) (w : Nat) (M : Mem) (x1 : Int32) : Option (Int32 × Mem) :=
  FX7_counts_2 fu D w M x1 0
set_option linter.unusedVariables false in
def FX1_alike_109 (fu : Nat) (D : List LDen) (kn27 : Mem × Int32 × Int32 × Int32 → Option (Int32 × Mem)) (M : Mem) (x2 x3 t0 t1 : Int32) : Option (Int32 × Mem) :=
  lt (t1 + t0) (fun y110 => lt (x3 + 1) (fun y111 => kn27 (M, y110, x2, y111)))
set_option linter.unusedVariables false in
def FX1_alike_89 (fu : Nat) (D : List LDen) (kn52 : Mem × Int32 × Int32 × Int32 × Int32 × Int32 → Option (Int32 × Mem)) (M : Mem) (x1 x2 x3 x5 t0 t1 : Int32) : Option (Int32 × Mem) :=
  lt (t1 &&& t0) (fun y90 => lt (x5 + 1) (fun y92 => kn52 (M, x1, x2, x3, y90, y92)))
set_option linter.unusedVariables false in
def GX1_alike_52 (fu : Nat) (D : List LDen) (kn52 : Mem × Int32 × Int32 × Int32 × Int32 × Int32 → Option (Int32 × Mem)) (kn27 : Mem × Int32 × Int32 × Int32 → Option (Int32 × Mem)) (M : Mem) (x1 x2 x3 x4 x5 : Int32) : Option (Int32 × Mem) :=
  if 8 < x5 then if x4 = 0 then FX1_alike_109 fu D kn27 M x2 x3 0 x1 else FX1_alike_109 fu D kn27 M x2 x3 1 x1 else gd x5 9 (gd x5 9 (if (M (3, 0, 1) x5.toNatClampNeg) = (M (3, 1, 1) x5.toNatClampNeg) then FX1_alike_89 fu D kn52 M x1 x2 x3 x5 1 x4 else FX1_alike_89 fu D kn52 M x1 x2 x3 x5 0 x4))
set_option linter.unusedVariables false in
def FX1_alike_52 (fu : Nat) (D : List LDen) (kn27 : Mem × Int32 × Int32 × Int32 → Option (Int32 × Mem)) (M : Mem) (x1 x2 x3 x4 x5 : Int32) : Option (Int32 × Mem) := lp (fun kn z => GX1_alike_52 fu D kn kn27 z.1 z.2.1 z.2.2.1 z.2.2.2.1 z.2.2.2.2.1 z.2.2.2.2.2) fu (M, x1, x2, x3, x4, x5)
set_option linter.unusedVariables false in
def GX1_alike_27 (fu : Nat) (D : List LDen) (kn27 : Mem × Int32 × Int32 × Int32 → Option (Int32 × Mem)) (kn4 : Mem × Int32 × Int32 → Option (Int32 × Mem)) (M : Mem) (x1 x2 x3 : Int32) : Option (Int32 × Mem) :=
  if (M (0, 0, 0) 7) ≤ x3 then lt (x2 + 1) (fun y117 => kn4 (M, x1, y117)) else bd (FX7_counts fu D 1 M x3) (fun _ M43 => FX1_alike_52 fu D kn27 M43 x1 x2 x3 1 1)
set_option linter.unusedVariables false in
def FX1_alike_27 (fu : Nat) (D : List LDen) (kn4 : Mem × Int32 × Int32 → Option (Int32 × Mem)) (M : Mem) (x1 x2 x3 : Int32) : Option (Int32 × Mem) := lp (fun kn z => GX1_alike_27 fu D kn kn4 z.1 z.2.1 z.2.2.1 z.2.2.2) fu (M, x1, x2, x3)
set_option linter.unusedVariables false in
def GX1_alike_4 (fu : Nat) (D : List LDen) (kn4 : Mem × Int32 × Int32 → Option (Int32 × Mem)) (M : Mem) (x1 x2 : Int32) : Option (Int32 × Mem) :=
  if (M (0, 0, 0) 7) ≤ x2 then some (x1, M) else bd (FX7_counts fu D 0 M x2) (fun _ M20 => lt (x2 + 1) (fun y26 => FX1_alike_27 fu D kn4 M20 x1 x2 y26))
set_option linter.unusedVariables false in
def FX1_alike_4 (fu : Nat) (D : List LDen) (M : Mem) (x1 x2 : Int32) : Option (Int32 × Mem) := lp (fun kn z => GX1_alike_4 fu D kn z.1 z.2.1 z.2.2) fu (M, x1, x2)
set_option linter.unusedVariables false in
def FX1_alike (fu : Nat) (D : List LDen) (M : Mem) : Option (Int32 × Mem) :=
  FX1_alike_4 fu D M 0 0
set_option linter.unusedVariables false in
def GX1_feathers_4 (fu : Nat) (D : List LDen) (kn4 : Mem × Int32 × Int32 × Int32 → Option (Int32 × Mem)) (M : Mem) (x1 x2 x3 : Int32) : Option (Int32 × Mem) :=
  if (M (0, 0, 0) 7) ≤ x3 then some (x2, M) else bd (FX3_stock fu D 0 M x1 x3) (fun v22 M22 => lt (x2 + v22) (fun y26 => lt (x3 + 1) (fun y27 => kn4 (M22, x1, y26, y27))))
set_option linter.unusedVariables false in
def FX1_feathers_4 (fu : Nat) (D : List LDen) (M : Mem) (x1 x2 x3 : Int32) : Option (Int32 × Mem) := lp (fun kn z => GX1_feathers_4 fu D kn z.1 z.2.1 z.2.2.1 z.2.2.2) fu (M, x1, x2, x3)
set_option linter.unusedVariables false in
def FX1_feathers (fu : Nat) (D : List LDen) (M : Mem) (x1 : Int32) : Option (Int32 × Mem) :=
  FX1_feathers_4 fu D M x1 0 0
set_option linter.unusedVariables false in
def FX1_rich_35 (fu : Nat) (D : List LDen) (kn4 : Mem × Int32 × Int32 → Option (Int32 × Mem)) (M : Mem) (x1 x2 : Int32) : Option (Int32 × Mem) :=
  lt (x2 + 1) (fun y35 => kn4 (M, x1, y35))
set_option linter.unusedVariables false in
def FX1_rich_33 (fu : Nat) (D : List LDen) (kn4 : Mem × Int32 × Int32 → Option (Int32 × Mem)) (M : Mem) (x2 : Int32) : Option (Int32 × Mem) :=
  FX1_rich_35 fu D kn4 M x2 x2
set_option linter.unusedVariables false in
def GX1_rich_4 (fu : Nat) (D : List LDen) (kn4 : Mem × Int32 × Int32 → Option (Int32 × Mem)) (M : Mem) (x1 x2 : Int32) : Option (Int32 × Mem) :=
  if (M (0, 0, 0) 8) ≤ x2 then some (x1, M) else if x1 = (-1) then FX1_rich_33 fu D kn4 M x2 else bd (FX1_feathers fu D M x2) (fun v22 M22 => bd (FX1_feathers fu D M22 x1) (fun v27 M27 => if v22 ≤ v27 then FX1_rich_35 fu D kn4 M27 x1 x2 else FX1_rich_33 fu D kn4 M27 x2))
set_option linter.unusedVariables false in
def FX1_rich_4 (fu : Nat) (D : List LDen) (M : Mem) (x1 x2 : Int32) : Option (Int32 × Mem) := lp (fun kn z => GX1_rich_4 fu D kn z.1 z.2.1 z.2.2) fu (M, x1, x2)
set_option linter.unusedVariables false in
def FX1_rich (fu : Nat) (D : List LDen) (M : Mem) : Option (Int32 × Mem) :=
  FX1_rich_4 fu D M (-1) 0
set_option linter.unusedVariables false in
def FX1_cover_113 (fu : Nat) (D : List LDen) (kn4 : Mem × Int32 × Int32 → Option (Int32 × Mem)) (M : Mem) (x2 t0 : Int32) : Option (Int32 × Mem) :=
  lt (x2 + 1) (fun y114 => kn4 (M, t0, y114))
set_option linter.unusedVariables false in
def FX1_cover_104 (fu : Nat) (D : List LDen) (kn4 : Mem × Int32 × Int32 → Option (Int32 × Mem)) (M : Mem) (x1 x2 x3 : Int32) : Option (Int32 × Mem) :=
  if x3 = 0 then FX1_cover_113 fu D kn4 M x2 x1 else FX1_cover_113 fu D kn4 M x2 x2
set_option linter.unusedVariables false in
def FX1_cover_97 (fu : Nat) (D : List LDen) (kn42 : Mem × Int32 × Int32 × Int32 × Int32 → Option (Int32 × Mem)) (M : Mem) (x1 x2 x4 t0 : Int32) : Option (Int32 × Mem) :=
  lt (x4 + 1) (fun y98 => kn42 (M, x1, x2, t0, y98))
set_option linter.unusedVariables false in
def FX1_cover_92 (fu : Nat) (D : List LDen) (kn42 : Mem × Int32 × Int32 × Int32 × Int32 → Option (Int32 × Mem)) (M : Mem) (x1 x2 x4 : Int32) : Option (Int32 × Mem) :=
  FX1_cover_97 fu D kn42 M x1 x2 x4 1
set_option linter.unusedVariables false in
def GX1_cover_42 (fu : Nat) (D : List LDen) (kn42 : Mem × Int32 × Int32 × Int32 × Int32 → Option (Int32 × Mem)) (kn4 : Mem × Int32 × Int32 → Option (Int32 × Mem)) (M : Mem) (x1 x2 x3 x4 : Int32) : Option (Int32 × Mem) :=
  if (M (0, 0, 0) 9) ≤ x4 then FX1_cover_104 fu D kn4 M x1 x2 x3 else if x3 = 0 then FX1_cover_104 fu D kn4 M x1 x2 x3 else gd x4 12 (if (M (2, 0, x4.toNatClampNeg) 3) = 0 then gd x4 12 (if ((M (2, 0, x4.toNatClampNeg) 2) &&& x2) = 0 then FX1_cover_97 fu D kn42 M x1 x2 x4 0 else FX1_cover_92 fu D kn42 M x1 x2 x4) else FX1_cover_92 fu D kn42 M x1 x2 x4)
set_option linter.unusedVariables false in
def FX1_cover_42 (fu : Nat) (D : List LDen) (kn4 : Mem × Int32 × Int32 → Option (Int32 × Mem)) (M : Mem) (x1 x2 x3 x4 : Int32) : Option (Int32 × Mem) := lp (fun kn z => GX1_cover_42 fu D kn kn4 z.1 z.2.1 z.2.2.1 z.2.2.2.1 z.2.2.2.2) fu (M, x1, x2, x3, x4)
set_option linter.unusedVariables false in
def FX1_cover_38 (fu : Nat) (D : List LDen) (kn4 : Mem × Int32 × Int32 → Option (Int32 × Mem)) (M : Mem) (x1 x2 t0 : Int32) : Option (Int32 × Mem) :=
  FX1_cover_42 fu D kn4 M x1 x2 t0 0
set_option linter.unusedVariables false in
def FX1_cover_33 (fu : Nat) (D : List LDen) (kn4 : Mem × Int32 × Int32 → Option (Int32 × Mem)) (M : Mem) (x1 x2 : Int32) : Option (Int32 × Mem) :=
  FX1_cover_38 fu D kn4 M x1 x2 1
set_option linter.unusedVariables false in
def GX1_cover_4 (fu : Nat) (D : List LDen) (kn4 : Mem × Int32 × Int32 → Option (Int32 × Mem)) (M : Mem) (x1 x2 : Int32) : Option (Int32 × Mem) :=
  if (1 <<< ((M (0, 0, 0) 7) &&& 31)) ≤ x2 then some (x1, M) else if x1 = (-1) then FX1_cover_33 fu D kn4 M x1 x2 else bd (FJ14_bitCount fu D M x2) (fun v23 M23 => bd (FJ14_bitCount fu D M23 x1) (fun v27 M27 => if v27 ≤ v23 then FX1_cover_38 fu D kn4 M27 x1 x2 0 else FX1_cover_33 fu D kn4 M27 x1 x2))
set_option linter.unusedVariables false in
def FX1_cover_4 (fu : Nat) (D : List LDen) (M : Mem) (x1 x2 : Int32) : Option (Int32 × Mem) := lp (fun kn z => GX1_cover_4 fu D kn z.1 z.2.1 z.2.2) fu (M, x1, x2)
set_option linter.unusedVariables false in
def FX1_cover (fu : Nat) (D : List LDen) (M : Mem) : Option (Int32 × Mem) :=
  FX1_cover_4 fu D M (-1) 0
set_option linter.unusedVariables false in
def FX1_seed (fu : Nat) (D : List LDen) (M : Mem) (x1 : Int32) : Option (Int32 × Mem) :=
  lt (M (0, 0, 0) 18) (fun y7 => lt (up M (0, 0, 0) 18 x1) (fun M13 => some (y7, M13)))
set_option linter.unusedVariables false in
def FX1_undo (fu : Nat) (D : List LDen) (M : Mem) : Option (Int32 × Mem) :=
  if (M (4, 0, 0) 13) = 0 then some (0, M) else lt (up M (4, 0, 0) 13 ((M (4, 0, 0) 13) - 1)) (fun M16 => lt (up M16 (4, 0, 0) 14 (rm (((M16 (4, 0, 0) 14) + 12) - 1) 12)) (fun M32 => gd (M32 (4, 0, 0) 14) 12 (bd (FX3_be fu D 0 (((M32 (4, 0, 0) 14).toNatClampNeg) + 3) M32) (fun _ M48 => some (1, M48)))))
set_option linter.unusedVariables false in
def FX1_image (fu : Nat) (D : List LDen) (M : Mem) : Option (Int32 × Mem) :=
  bd (FX3_be fu D 1 0 M) (fun _ M8 => lt (up M8 (4, 0, 0) 15 1) (fun M13 => some (0, M13)))
set_option linter.unusedVariables false in
def FX1_back (fu : Nat) (D : List LDen) (M : Mem) : Option (Int32 × Mem) :=
  if (M (4, 0, 0) 15) = 0 then some (0, M) else bd (FX3_be fu D 0 1 M) (fun _ M17 => lt (up M17 (4, 0, 0) 13 0) (fun M22 => some (1, M22)))
set_option linter.unusedVariables false in
def FX1_openOnes_38 (fu : Nat) (D : List LDen) (kn4 : Mem × Int32 × Int32 → Option (Int32 × Mem)) (M : Mem) (x2 t0 t1 : Int32) : Option (Int32 × Mem) :=
  lt (t1 ||| t0) (fun y39 => lt (x2 + 1) (fun y40 => kn4 (M, y39, y40)))
set_option linter.unusedVariables false in
def GX1_openOnes_4 (fu : Nat) (D : List LDen) (kn4 : Mem × Int32 × Int32 → Option (Int32 × Mem)) (M : Mem) (x1 x2 : Int32) : Option (Int32 × Mem) :=
  if (M (0, 0, 0) 9) ≤ x2 then some (x1, M) else gd x2 12 (if (M (2, 0, x2.toNatClampNeg) 3) = 0 then FX1_openOnes_38 fu D kn4 M x2 (1 <<< (x2 &&& 31)) x1 else FX1_openOnes_38 fu D kn4 M x2 0 x1)
set_option linter.unusedVariables false in
def FX1_openOnes_4 (fu : Nat) (D : List LDen) (M : Mem) (x1 x2 : Int32) : Option (Int32 × Mem) := lp (fun kn z => GX1_openOnes_4 fu D kn z.1 z.2.1 z.2.2) fu (M, x1, x2)
set_option linter.unusedVariables false in
def FX1_openOnes (fu : Nat) (D : List LDen) (M : Mem) : Option (Int32 × Mem) :=
  FX1_openOnes_4 fu D M 0 0
set_option linter.unusedVariables false in
def FX1_calm_45 (fu : Nat) (D : List LDen) (M : Mem) (t0 : Int32) : Option (Int32 × Mem) :=
  some (t0, M)
set_option linter.unusedVariables false in
def FX1_calm_28 (fu : Nat) (D : List LDen) (kn4 : Mem × Int32 × Int32 → Option (Int32 × Mem)) (M : Mem) (x2 t0 t1 : Int32) : Option (Int32 × Mem) :=
  lt (t1 &&& t0) (fun y29 => lt (x2 + 1) (fun y30 => kn4 (M, y29, y30)))
set_option linter.unusedVariables false in
def GX1_calm_4 (fu : Nat) (D : List LDen) (kn4 : Mem × Int32 × Int32 → Option (Int32 × Mem)) (M : Mem) (x1 x2 : Int32) : Option (Int32 × Mem) :=
  if 12 < x2 then if x1 = 0 then FX1_calm_45 fu D M 0 else FX1_calm_45 fu D M 1 else gd x2 13 (if (M (0, 0, 5) x2.toNatClampNeg) = 0 then FX1_calm_28 fu D kn4 M x2 1 x1 else FX1_calm_28 fu D kn4 M x2 0 x1)
set_option linter.unusedVariables false in
def FX1_calm_4 (fu : Nat) (D : List LDen) (M : Mem) (x1 x2 : Int32) : Option (Int32 × Mem) := lp (fun kn z => GX1_calm_4 fu D kn z.1 z.2.1 z.2.2) fu (M, x1, x2)
set_option linter.unusedVariables false in
def FX1_calm (fu : Nat) (D : List LDen) (M : Mem) : Option (Int32 × Mem) :=
  FX1_calm_4 fu D M 1 0
set_option linter.unusedVariables false in
def FX1_count (fu : Nat) (D : List LDen) (M : Mem) (x1 : Int32) : Option (Int32 × Mem) :=
  swt x1 0 [some (M (0, 0, 0) 7, M), some (M (0, 0, 0) 8, M), some (M (0, 0, 0) 9, M), some (M (0, 0, 0) 11, M), some (M (0, 0, 0) 10, M), some (M (0, 0, 0) 17, M), some (M (0, 0, 0) 16, M), some (M (0, 0, 0) 12, M), some (M (0, 0, 0) 13, M), some (M (0, 0, 0) 14, M), some (M (0, 0, 0) 15, M), bd (FX1_openOnes fu D M) (fun v165 M165 => some (v165, M165)), bd (FX1_calm fu D M) (fun v170 M170 => some (v170, M170)), some (mn 60 (M (0, 0, 0) 19), M), some (M (4, 0, 0) 13, M)] (some ((-1), M))
set_option linter.unusedVariables false in
def FX1_took (fu : Nat) (D : List LDen) (M : Mem) : Option (Int32 × Mem) :=
  lt (M (4, 0, 8) 6) (fun y7 => lt (up M (4, 0, 8) 6 0) (fun M13 => some (y7, M13)))
set_option linter.unusedVariables false in
def FX1_mayBe (fu : Nat) (D : List LDen) (M : Mem) (x0 : Int32) : Option TR :=
  if x0 = 0 then some (2, 0, M) else some (0, 0, M)
set_option linter.unusedVariables false in
def FX1_mustBe (fu : Nat) (D : List LDen) (M : Mem) (x0 : Int32) : Option TR :=
  if x0 = 0 then some (3, 0, M) else some (0, 0, M)
set_option linter.unusedVariables false in
def FX1_birdAt (fu : Nat) (D : List LDen) (M : Mem) (x1 : Int32) : Option TR :=
  bd (FX1_isIn fu D M x1 0 ((M (0, 0, 0) 7) - 1)) (fun v11 M11 => bx (FX1_mustBe fu D M11 v11) (fun _ M14 => gd x1 6 (some (0, x1, M14))))
set_option linter.unusedVariables false in
def FX1_bird (fu : Nat) (D : List LDen) (M : Mem) (x1 x2 : Int32) : Option TR :=
  bx (FX1_birdAt fu D M x1) (fun v2 M2 => gd v2 6 (swt x2 0 [some (0, M2 (1, 0, v2.toNatClampNeg) 0, M2), some (0, M2 (1, 0, v2.toNatClampNeg) 1, M2), some (0, M2 (1, 0, v2.toNatClampNeg) 2, M2), some (0, M2 (1, 0, v2.toNatClampNeg) 3, M2)] (some (4, 0, M2))))
set_option linter.unusedVariables false in
def FX1_isCounsel (fu : Nat) (D : List LDen) (M : Mem) (x1 : Int32) : Option TR :=
  bd (FX1_isIn fu D M x1 0 ((M (0, 0, 0) 8) - 1)) (fun v11 M11 => bx (FX1_mustBe fu D M11 v11) (fun _ M14 => some (0, 0, M14)))
set_option linter.unusedVariables false in
def FX1_stock (fu : Nat) (D : List LDen) (M : Mem) (x1 x2 : Int32) : Option TR :=
  bx (FX1_isCounsel fu D M x1) (fun _ M2 => bx (FX1_birdAt fu D M2 x2) (fun v7 M7 => gd v7 6 (bd (FX3_stock fu D 0 M7 x1 x2) (fun v17 M17 => some (0, v17, M17)))))
set_option linter.unusedVariables false in
def FX1_caseAt (fu : Nat) (D : List LDen) (M : Mem) (x1 : Int32) : Option TR :=
  bd (FX1_isIn fu D M x1 0 ((M (0, 0, 0) 9) - 1)) (fun v11 M11 => bx (FX1_mustBe fu D M11 v11) (fun _ M14 => gd x1 12 (some (0, x1, M14))))
set_option linter.unusedVariables false in
def FX1_matter (fu : Nat) (D : List LDen) (M : Mem) (x1 x2 : Int32) : Option TR :=
  bx (FX1_caseAt fu D M x1) (fun v2 M2 => gd v2 12 (swt x2 0 [some (0, M2 (2, 0, v2.toNatClampNeg) 0, M2), some (0, M2 (2, 0, v2.toNatClampNeg) 1, M2), some (0, M2 (2, 0, v2.toNatClampNeg) 2, M2), some (0, M2 (2, 0, v2.toNatClampNeg) 3, M2), bd (FX3_choices fu D 0 M2 x1 0) (fun v70 M70 => some (0, v70, M70)), bd (FX3_choices fu D 0 M2 x1 1) (fun v80 M80 => some (0, v80, M80))] (some (4, 0, M2))))
set_option linter.unusedVariables false in
def FX1_wind (fu : Nat) (D : List LDen) (M : Mem) (x1 : Int32) : Option TR :=
  bd (FX1_isIn fu D M x1 0 12) (fun v4 M4 => bx (FX1_mustBe fu D M4 v4) (fun _ M7 => gd x1 13 (some (0, M7 (0, 0, 5) x1.toNatClampNeg, M7))))
set_option linter.unusedVariables false in
def FX1_must (fu : Nat) (D : List LDen) (M : Mem) (x0 : Int32) : Option TR :=
  if x0 = 0 then some (1, 0, M) else some (0, 0, M)
set_option linter.unusedVariables false in
def FX1_moves_77 (fu : Nat) (D : List LDen) (M : Mem) (t0 : Int32) : Option TR :=
  some (0, t0, M)
set_option linter.unusedVariables false in
def FX1_moves_31 (fu : Nat) (D : List LDen) (M : Mem) (x1 x2 x3 x4 x5 t0 : Int32) : Option TR :=
  bx (FX1_mustBe fu D M t0) (fun _ M31 => bd (FX1_isIn fu D M31 x4 0 7) (fun v39 M39 => bx (FX1_must fu D M39 v39) (fun _ M42 => if x5 = 0 then bd (FX3_sinks fu D 0 M42 x1 x2 x3 x4) (fun v74 M74 => FX1_moves_77 fu D M74 v74) else bd (FX3_carried fu D 0 M42 x1 x2 x3 x4) (fun v59 M59 => FX1_moves_77 fu D M59 v59))))
set_option linter.unusedVariables false in
def FX1_moves_30 (fu : Nat) (D : List LDen) (M : Mem) (x1 x2 x3 x4 x5 : Int32) : Option TR :=
  FX1_moves_31 fu D M x1 x2 x3 x4 x5 0
set_option linter.unusedVariables false in
def FX1_moves (fu : Nat) (D : List LDen) (M : Mem) (x1 x2 x3 x4 x5 : Int32) : Option TR :=
  bx (FX1_birdAt fu D M x1) (fun v2 M2 => gd v2 6 (bd (FX1_isIn fu D M2 x2 1 12) (fun v10 M10 => if v10 = 0 then FX1_moves_30 fu D M10 x1 x2 x3 x4 x5 else bd (FX1_isIn fu D M10 x3 0 15) (fun v20 M20 => if v20 = 0 then FX1_moves_30 fu D M20 x1 x2 x3 x4 x5 else FX1_moves_31 fu D M20 x1 x2 x3 x4 x5 1))))
set_option linter.unusedVariables false in
def FX1_can (fu : Nat) (D : List LDen) (M : Mem) (x0 : Int32) : Option TR :=
  if x0 = 0 then some (5, 0, M) else some (0, 0, M)
set_option linter.unusedVariables false in
def FX1_remembers (fu : Nat) (D : List LDen) (M : Mem) : Option (Int32 × Mem) :=
  gd (M (4, 0, 0) 14) 12 (bd (FX3_be fu D (((M (4, 0, 0) 14).toNatClampNeg) + 3) 0 M) (fun _ M13 => lt (up M13 (4, 0, 0) 14 (rm ((M13 (4, 0, 0) 14) + 1) 12)) (fun M26 => lt (up M26 (4, 0, 0) 13 (mn 12 ((M26 (4, 0, 0) 13) + 1))) (fun M41 => some (0, M41)))))
set_option linter.unusedVariables false in
def FX1_breathes_171 (fu : Nat) (D : List LDen) (M : Mem) : Option (Int32 × Mem) :=
  some (0, M)
set_option linter.unusedVariables false in
def FX1_breathes_109 (fu : Nat) (D : List LDen) (M : Mem) (x1 x3 t0 t1 t2 t3 : Int32) : Option (Int32 × Mem) :=
  gd t3 2 (lt (up M (4, 0, 5) t3.toNatClampNeg (t2 + (t1 + t0))) (fun M111 => gd x1 2 (bd (FX1_isIn fu D M111 (M111 (4, 0, 5) x1.toNatClampNeg) 0 15) (fun v121 M121 => if v121 = 0 then gd x1 2 (lt (up M121 (4, 0, 4) x1.toNatClampNeg 0) (fun M133 => FX1_breathes_171 fu D M133)) else gd x1 2 (if 0 < (M121 (4, 0, 4) x1.toNatClampNeg) then FX1_breathes_171 fu D M121 else gd x1 2 (bd (FX3_isYard fu D 0 M121 (M121 (4, 0, 5) x1.toNatClampNeg)) (fun v156 M156 => if v156 = 0 then FX1_breathes_171 fu D M156 else gd x1 2 (lt (up M156 (4, 0, 6) x1.toNatClampNeg (x3 + 1)) (fun M170 => FX1_breathes_171 fu D M170)))))))))
set_option linter.unusedVariables false in
def FX1_breathes (fu : Nat) (D : List LDen) (M : Mem) (x1 x2 x3 : Int32) : Option (Int32 × Mem) :=
  gd x1 2 (if 0 < (M (4, 0, 4) x1.toNatClampNeg) then bd (FX3_draw fu D 0 M 3) (fun v15 M15 => lt (v15 - 1) (fun y20 => gd x1 2 (gd x1 2 (bd (FX3_sinks fu D 0 M15 x2 (M15 (4, 0, 4) x1.toNatClampNeg) (M15 (4, 0, 5) x1.toNatClampNeg) x3) (fun v40 M40 => gd x1 2 (gd x1 2 (bd (FX3_carried fu D 0 M40 x2 (M40 (4, 0, 4) x1.toNatClampNeg) (M40 (4, 0, 5) x1.toNatClampNeg) x3) (fun v63 M63 => gd x1 2 (gd x1 2 (lt (up M63 (4, 0, 4) x1.toNatClampNeg ((M63 (4, 0, 4) x1.toNatClampNeg) - v40)) (fun M78 => gd x1 2 (gd x2 6 (if (M78 (1, 0, x2.toNatClampNeg) 1) ≤ 0 then FX1_breathes_109 fu D M78 x1 x3 0 v63 (M78 (4, 0, 5) x1.toNatClampNeg) x1 else FX1_breathes_109 fu D M78 x1 x3 y20 v63 (M78 (4, 0, 5) x1.toNatClampNeg) x1))))))))))))) else some (0, M))
set_option linter.unusedVariables false in
def FX1_flies_142 (fu : Nat) (D : List LDen) (M : Mem) (t0 : Int32) : Option (Int32 × Mem) :=
  some (t0, M)
set_option linter.unusedVariables false in
def FX1_flies_137 (fu : Nat) (D : List LDen) (M : Mem) : Option (Int32 × Mem) :=
  FX1_flies_142 fu D M 1
set_option linter.unusedVariables false in
def FX1_flies_141 (fu : Nat) (D : List LDen) (M : Mem) : Option (Int32 × Mem) :=
  FX1_flies_142 fu D M 2
set_option linter.unusedVariables false in
def FX1_flies_103 (fu : Nat) (D : List LDen) (M : Mem) (t0 : Int32) : Option (Int32 × Mem) :=
  some (t0, M)
set_option linter.unusedVariables false in
def GX1_flies_48 (fu : Nat) (D : List LDen) (kn48 : Mem × Int32 × Int32 × Int32 → Option (Int32 × Mem)) (M : Mem) (x1 x2 x3 : Int32) : Option (Int32 × Mem) :=
  if 8 ≤ x3 then gd 0 2 (gd 1 2 (if (M (4, 0, 6) 0) = (M (4, 0, 6) 1) then gd 0 2 (if (M (4, 0, 6) 0) = 0 then FX1_flies_103 fu D M 4 else FX1_flies_103 fu D M 3) else gd 1 2 (if (M (4, 0, 6) 1) = 0 then FX1_flies_137 fu D M else gd 0 2 (if (M (4, 0, 6) 0) ≤ 0 then FX1_flies_141 fu D M else gd 0 2 (gd 1 2 (if (M (4, 0, 6) 1) ≤ (M (4, 0, 6) 0) then FX1_flies_141 fu D M else FX1_flies_137 fu D M)))))) else bd (FX1_breathes fu D M 0 x1 x3) (fun _ M58 => bd (FX1_breathes fu D M58 1 x2 x3) (fun _ M65 => lt (x3 + 1) (fun y68 => kn48 (M65, x1, x2, y68))))
set_option linter.unusedVariables false in
def FX1_flies_48 (fu : Nat) (D : List LDen) (M : Mem) (x1 x2 x3 : Int32) : Option (Int32 × Mem) := lp (fun kn z => GX1_flies_48 fu D kn z.1 z.2.1 z.2.2.1 z.2.2.2) fu (M, x1, x2, x3)
set_option linter.unusedVariables false in
def GX1_flies_2 (fu : Nat) (D : List LDen) (kn2 : Mem × Int32 × Int32 × Int32 → Option (Int32 × Mem)) (M : Mem) (x1 x2 x3 : Int32) : Option (Int32 × Mem) :=
  if 2 ≤ x3 then FX1_flies_48 fu D M x1 x2 0 else gd x3 2 (lt (up M (4, 0, 4) x3.toNatClampNeg (M (0, 0, 0) 13)) (fun M19 => gd x3 2 (lt (up M19 (4, 0, 5) x3.toNatClampNeg (M19 (0, 0, 0) 12)) (fun M32 => gd x3 2 (lt (up M32 (4, 0, 6) x3.toNatClampNeg 0) (fun M39 => lt (x3 + 1) (fun y40 => kn2 (M39, x1, x2, y40))))))))
set_option linter.unusedVariables false in
def FX1_flies_2 (fu : Nat) (D : List LDen) (M : Mem) (x1 x2 x3 : Int32) : Option (Int32 × Mem) := lp (fun kn z => GX1_flies_2 fu D kn z.1 z.2.1 z.2.2.1 z.2.2.2) fu (M, x1, x2, x3)
set_option linter.unusedVariables false in
def FX1_flies (fu : Nat) (D : List LDen) (M : Mem) (x1 x2 : Int32) : Option (Int32 × Mem) :=
  FX1_flies_2 fu D M x1 x2 0
set_option linter.unusedVariables false in
def FX1_call_176 (fu : Nat) (D : List LDen) (n4 : Nat) (M : Mem) (x1 x2 x3 t0 : Int32) : Option TR :=
  bd (FX3_writes fu D 0 M x1 x2 x3 (M (2, 0, n4) 3) t0) (fun _ M192 => some (0, M192 (2, 0, n4) 3, M192))
set_option linter.unusedVariables false in
def FX1_call_161 (fu : Nat) (D : List LDen) (n4 : Nat) (M : Mem) (x1 x2 x3 : Int32) : Option TR :=
  gd 1 2 (FX1_call_176 fu D n4 M x1 x2 x3 (M (4, 0, 6) 1))
set_option linter.unusedVariables false in
def FX1_call_170 (fu : Nat) (D : List LDen) (n4 : Nat) (M : Mem) (x1 x2 x3 : Int32) : Option TR :=
  gd 0 2 (FX1_call_176 fu D n4 M x1 x2 x3 (M (4, 0, 6) 0))
set_option linter.unusedVariables false in
def FX1_call_66 (fu : Nat) (D : List LDen) (n4 : Nat) (M : Mem) (x1 x2 x3 t0 : Int32) : Option TR :=
  bx (FX1_can fu D M t0) (fun _ M66 => bd (FX1_remembers fu D M66) (fun _ M70 => gd ((6 * (M70 (2, 0, n4) 0)) + x2) 24 (gd ((6 * (M70 (2, 0, n4) 0)) + x2) 24 (lt (up M70 (0, 0, 4) (((6 * (M70 (2, 0, n4) 0)) + x2).toNatClampNeg) ((M70 (0, 0, 4) (((6 * (M70 (2, 0, n4) 0)) + x2).toNatClampNeg)) - 1)) (fun M94 => gd ((6 * (M94 (2, 0, n4) 1)) + x3) 24 (gd ((6 * (M94 (2, 0, n4) 1)) + x3) 24 (lt (up M94 (0, 0, 4) (((6 * (M94 (2, 0, n4) 1)) + x3).toNatClampNeg) ((M94 (0, 0, 4) (((6 * (M94 (2, 0, n4) 1)) + x3).toNatClampNeg)) - 1)) (fun M116 => bd (FX1_flies fu D M116 x2 x3) (fun v122 M122 => lt (up M122 (2, 0, n4) 3 v122) (fun M125 => gd 0 2 (if (M125 (4, 0, 6) 0) = 0 then FX1_call_161 fu D n4 M125 x1 x2 x3 else gd 1 2 (if (M125 (4, 0, 6) 1) ≤ 0 then FX1_call_170 fu D n4 M125 x1 x2 x3 else gd 1 2 (gd 0 2 (if (M125 (4, 0, 6) 0) ≤ (M125 (4, 0, 6) 1) then FX1_call_170 fu D n4 M125 x1 x2 x3 else FX1_call_161 fu D n4 M125 x1 x2 x3))))))))))))))
set_option linter.unusedVariables false in
def FX1_call_65 (fu : Nat) (D : List LDen) (n4 : Nat) (M : Mem) (x1 x2 x3 : Int32) : Option TR :=
  FX1_call_66 fu D n4 M x1 x2 x3 0
set_option linter.unusedVariables false in
def FX1_call (fu : Nat) (D : List LDen) (M : Mem) (x1 x2 x3 : Int32) : Option TR :=
  bx (FX1_caseAt fu D M x1) (fun v2 M2 => gd v2 12 (bx (FX1_birdAt fu D M2 x2) (fun v9 M9 => gd v9 6 (bx (FX1_birdAt fu D M9 x3) (fun v15 M15 => gd v15 6 (if (M15 (2, 0, v2.toNatClampNeg) 3) = 0 then bd (FX3_choices fu D 0 M15 x1 0) (fun v33 M33 => if ((v33 >>> (x2 &&& 31)) &&& 1) = 1 then bd (FX3_choices fu D 0 M33 x1 1) (fun v50 M50 => if ((v50 >>> (x3 &&& 31)) &&& 1) = 1 then FX1_call_66 fu D (v2.toNatClampNeg) M50 x1 x2 x3 1 else FX1_call_65 fu D (v2.toNatClampNeg) M50 x1 x2 x3) else FX1_call_65 fu D (v2.toNatClampNeg) M33 x1 x2 x3) else FX1_call_65 fu D (v2.toNatClampNeg) M15 x1 x2 x3))))))
set_option linter.unusedVariables false in
def FX1_hour (fu : Nat) (D : List LDen) (M : Mem) (x1 : Int32) : Option TR :=
  bd (FX1_isIn fu D M x1 0 23) (fun v4 M4 => bx (FX1_must fu D M4 v4) (fun _ M7 => bd (FX1_remembers fu D M7) (fun _ M11 => lt (M11 (0, 0, 0) 16) (fun y21 => lt (up M11 (0, 0, 0) 16 x1) (fun M27 => some (0, y21, M27))))))
set_option linter.unusedVariables false in
def FX1_blow (fu : Nat) (D : List LDen) (M : Mem) (x1 x2 : Int32) : Option TR :=
  bd (FX1_isIn fu D M x1 0 12) (fun v4 M4 => bx (FX1_mustBe fu D M4 v4) (fun _ M7 => bd (FX1_isIn fu D M7 x2 (-3) 3) (fun v14 M14 => bx (FX1_must fu D M14 v14) (fun _ M17 => bd (FX1_remembers fu D M17) (fun _ M21 => gd x1 13 (lt (M21 (0, 0, 5) x1.toNatClampNeg) (fun y33 => gd x1 13 (lt (up M21 (0, 0, 5) x1.toNatClampNeg x2) (fun M43 => some (0, y33, M43))))))))))
set_option linter.unusedVariables false in
def FX1_give_44 (fu : Nat) (D : List LDen) (M : Mem) (x1 x2 x3 x4 t0 : Int32) : Option TR :=
  bx (FX1_must fu D M t0) (fun _ M44 => bd (FX1_remembers fu D M44) (fun _ M48 => gd ((6 * x1) + x3) 24 (gd ((6 * x1) + x3) 24 (lt (up M48 (0, 0, 4) (((6 * x1) + x3).toNatClampNeg) ((M48 (0, 0, 4) (((6 * x1) + x3).toNatClampNeg)) - x4)) (fun M69 => bd (FX3_stock fu D 0 M69 x2 x3) (fun v91 M91 => gd ((6 * x2) + x3) 24 (lt (up M91 (0, 0, 4) (((6 * x2) + x3).toNatClampNeg) (mn 99 (v91 + x4))) (fun M100 => bd (FX3_stock fu D 0 M100 x2 x3) (fun v107 M107 => some (0, v107, M107))))))))))
set_option linter.unusedVariables false in
def FX1_give_43 (fu : Nat) (D : List LDen) (M : Mem) (x1 x2 x3 x4 : Int32) : Option TR :=
  FX1_give_44 fu D M x1 x2 x3 x4 0
set_option linter.unusedVariables false in
def FX1_give (fu : Nat) (D : List LDen) (M : Mem) (x1 x2 x3 x4 : Int32) : Option TR :=
  bx (FX1_isCounsel fu D M x1) (fun _ M2 => bx (FX1_isCounsel fu D M2 x2) (fun _ M7 => bx (FX1_birdAt fu D M7 x3) (fun v12 M12 => gd v12 6 (if x1 = x2 then FX1_give_43 fu D M12 x1 x2 x3 x4 else bd (FX3_stock fu D 0 M12 x1 x3) (fun v30 M30 => bd (FX1_isIn fu D M30 x4 1 v30) (fun v33 M33 => if v33 = 0 then FX1_give_43 fu D M33 x1 x2 x3 x4 else FX1_give_44 fu D M33 x1 x2 x3 x4 1))))))
set_option linter.unusedVariables false in
def FX1_appeal_18 (fu : Nat) (D : List LDen) (n2 : Nat) (M : Mem) (t0 : Int32) : Option TR :=
  bx (FX1_can fu D M t0) (fun _ M18 => bd (FX1_remembers fu D M18) (fun _ M22 => lt (M22 (2, 0, n2) 3) (fun y29 => lt (up M22 (2, 0, n2) 3 0) (fun M32 => some (0, y29, M32)))))
set_option linter.unusedVariables false in
def FX1_appeal (fu : Nat) (D : List LDen) (M : Mem) (x1 : Int32) : Option TR :=
  bx (FX1_caseAt fu D M x1) (fun v2 M2 => gd v2 12 (if (M2 (2, 0, v2.toNatClampNeg) 3) = 0 then FX1_appeal_18 fu D (v2.toNatClampNeg) M2 0 else FX1_appeal_18 fu D (v2.toNatClampNeg) M2 1))
set_option linter.unusedVariables false in
def GX1_weeks_32 (fu : Nat) (D : List LDen) (kn32 : Mem × Int32 × Int32 × Int32 × Int32 → Option TR) (kn18 : Mem × Int32 × Int32 × Int32 → Option TR) (M : Mem) (x1 x2 x3 x4 : Int32) : Option TR :=
  if (M (0, 0, 0) 7) ≤ x4 then lt (x3 + 1) (fun y116 => kn18 (M, x1, x2, y116)) else bd (FX3_stock fu D 0 M x3 x4) (fun v53 M53 => gd x4 6 (lt (mn 99 (v53 + (x1 * (M53 (1, 0, x4.toNatClampNeg) 3)))) (fun y75 => bd (FX3_stock fu D 0 M53 x3 x4) (fun v87 M87 => lt (x2 + (y75 - v87)) (fun y92 => gd ((6 * x3) + x4) 24 (lt (up M87 (0, 0, 4) (((6 * x3) + x4).toNatClampNeg) y75) (fun M109 => lt (x4 + 1) (fun y110 => kn32 (M109, x1, y92, x3, y110)))))))))
set_option linter.unusedVariables false in
def FX1_weeks_32 (fu : Nat) (D : List LDen) (kn18 : Mem × Int32 × Int32 × Int32 → Option TR) (M : Mem) (x1 x2 x3 x4 : Int32) : Option TR := lp (fun kn z => GX1_weeks_32 fu D kn kn18 z.1 z.2.1 z.2.2.1 z.2.2.2.1 z.2.2.2.2) fu (M, x1, x2, x3, x4)
set_option linter.unusedVariables false in
def GX1_weeks_18 (fu : Nat) (D : List LDen) (kn18 : Mem × Int32 × Int32 × Int32 → Option TR) (M : Mem) (x1 x2 x3 : Int32) : Option TR :=
  if (M (0, 0, 0) 8) ≤ x3 then lt (up M (0, 0, 0) 17 (mn 9999 ((M (0, 0, 0) 17) + x1))) (fun M141 => some (0, x2, M141)) else FX1_weeks_32 fu D kn18 M x1 x2 x3 0
set_option linter.unusedVariables false in
def FX1_weeks_18 (fu : Nat) (D : List LDen) (M : Mem) (x1 x2 x3 : Int32) : Option TR := lp (fun kn z => GX1_weeks_18 fu D kn z.1 z.2.1 z.2.2.1 z.2.2.2) fu (M, x1, x2, x3)
set_option linter.unusedVariables false in
def FX1_weeks (fu : Nat) (D : List LDen) (M : Mem) (x1 : Int32) : Option TR :=
  bd (FX1_isIn fu D M x1 1 60) (fun v4 M4 => bx (FX1_must fu D M4 v4) (fun _ M7 => bd (FX1_remembers fu D M7) (fun _ M11 => FX1_weeks_18 fu D M11 x1 0 0)))
set_option linter.unusedVariables false in
def FX1_thereIs (fu : Nat) (D : List LDen) (M : Mem) (x0 : Int32) : Option TR :=
  if x0 = 0 then some (4, 0, M) else some (0, 0, M)
set_option linter.unusedVariables false in
def GX7_good_4 (fu : Nat) (D : List LDen) (w : Nat) (kn4 : Mem × Int32 × Int32 → Option (Int32 × Mem)) (M : Mem) (x1 x2 : Int32) : Option (Int32 × Mem) :=
  if 8 < x2 then some (x1, M) else gd x2 9 (lt (x1 + (M (3, w, 1) x2.toNatClampNeg)) (fun y18 => lt (x2 + 1) (fun y19 => kn4 (M, y18, y19))))
set_option linter.unusedVariables false in
def FX7_good_4 (fu : Nat) (D : List LDen) (w : Nat) (M : Mem) (x1 x2 : Int32) : Option (Int32 × Mem) := lp (fun kn z => GX7_good_4 fu D w kn z.1 z.2.1 z.2.2) fu (M, x1, x2)
set_option linter.unusedVariables false in
def FX7_good (fu : Nat) (D : List LDen) (w : Nat) (M : Mem) : Option (Int32 × Mem) :=
  FX7_good_4 fu D w M 0 1
set_option linter.unusedVariables false in
def FX1_ways_90 (fu : Nat) (D : List LDen) (M : Mem) (t0 : Int32) : Option TR :=
  some (0, t0, M)
set_option linter.unusedVariables false in
def FX1_ways (fu : Nat) (D : List LDen) (M : Mem) (x1 x2 : Int32) : Option TR :=
  bx (FX1_birdAt fu D M x1) (fun v2 M2 => gd v2 6 (bd (FX1_isIn fu D M2 x2 0 3) (fun v9 M9 => bx (FX1_thereIs fu D M9 v9) (fun _ M12 => bd (FX7_counts fu D 0 M12 x1) (fun _ M20 => bd (FX7_good fu D 0 M20) (fun v27 M27 => if x2 = 0 then FX1_ways_90 fu D M27 v27 else if x2 = 1 then FX1_ways_90 fu D M27 (M27 (3, 0, 0) 5) else if x2 = 2 then FX1_ways_90 fu D M27 (M27 (3, 0, 0) 6) else FX1_ways_90 fu D M27 (((6561 - v27) - (M27 (3, 0, 0) 5)) - (M27 (3, 0, 0) 6))))))))
set_option linter.unusedVariables false in
def FX1_lands (fu : Nat) (D : List LDen) (M : Mem) (x1 x2 : Int32) : Option TR :=
  bx (FX1_birdAt fu D M x1) (fun v2 M2 => gd v2 6 (bd (FX1_isIn fu D M2 x2 0 15) (fun v10 M10 => bx (FX1_mustBe fu D M10 v10) (fun _ M13 => bd (FX7_counts fu D 0 M13 x1) (fun _ M21 => gd x2 16 (some (0, M21 (3, 0, 2) x2.toNatClampNeg, M21)))))))
set_option linter.unusedVariables false in
def FX1_good (fu : Nat) (D : List LDen) (M : Mem) (x1 x2 : Int32) : Option TR :=
  bx (FX1_birdAt fu D M x1) (fun v2 M2 => gd v2 6 (bd (FX1_isIn fu D M2 x2 1 8) (fun v10 M10 => bx (FX1_must fu D M10 v10) (fun _ M13 => bd (FX7_counts fu D 0 M13 x1) (fun _ M21 => gd x2 9 (some (0, M21 (3, 0, 1) x2.toNatClampNeg, M21)))))))
set_option linter.unusedVariables false in
def FX1_straight_101 (fu : Nat) (D : List LDen) (M : Mem) (t0 : Int32) : Option TR :=
  some (0, t0, M)
set_option linter.unusedVariables false in
def GX1_straight_26 (fu : Nat) (D : List LDen) (kn26 : Mem × Int32 × Int32 × Int32 × Int32 × Int32 → Option TR) (M : Mem) (x1 x2 x3 x4 x5 : Int32) : Option TR :=
  if 8 ≤ x5 then some (0, (-1), M) else bd (FX3_sinks fu D 0 M x1 x3 x4 x5) (fun v43 M43 => bd (FX3_carried fu D 0 M43 x1 x3 x4 x5) (fun v60 M60 => lt (x4 + v60) (fun y64 => lt (x3 - v43) (fun y70 => bd (FX1_isIn fu D M60 y64 0 15) (fun v76 M76 => if v76 = 0 then some (0, (-1), M76) else if 0 < y70 then lt (x5 + 1) (fun y102 => kn26 (M76, x1, x2, y70, y64, y102)) else if x2 = 0 then FX1_straight_101 fu D M76 y64 else FX1_straight_101 fu D M76 (x5 + 1))))))
set_option linter.unusedVariables false in
def FX1_straight_26 (fu : Nat) (D : List LDen) (M : Mem) (x1 x2 x3 x4 x5 : Int32) : Option TR := lp (fun kn z => GX1_straight_26 fu D kn z.1 z.2.1 z.2.2.1 z.2.2.2.1 z.2.2.2.2.1 z.2.2.2.2.2) fu (M, x1, x2, x3, x4, x5)
set_option linter.unusedVariables false in
def FX1_straight (fu : Nat) (D : List LDen) (M : Mem) (x1 x2 : Int32) : Option TR :=
  bx (FX1_birdAt fu D M x1) (fun v2 M2 => gd v2 6 (lt (M2 (0, 0, 0) 13) (fun y13 => lt (M2 (0, 0, 0) 12) (fun y21 => FX1_straight_26 fu D M2 x1 x2 y13 y21 0))))
set_option linter.unusedVariables false in
def GX1_hasIt_10 (fu : Nat) (D : List LDen) (w : Nat) (w2 : Nat) (kn10 : Mem × Int32 × Int32 × Int32 → Option (Int32 × Mem)) (M : Mem) (x3 x4 x5 : Int32) : Option (Int32 × Mem) :=
  if 8 < x5 then some (x3, M) else gd x5 9 (lt (x4 - (M (3, w2, 1) x5.toNatClampNeg)) (fun y27 => gd x5 9 (lt (x3 + ((M (3, w, 1) x5.toNatClampNeg) * y27)) (fun y41 => lt (x5 + 1) (fun y42 => kn10 (M, y41, y27, y42))))))
set_option linter.unusedVariables false in
def FX1_hasIt_10 (fu : Nat) (D : List LDen) (w : Nat) (w2 : Nat) (M : Mem) (x3 x4 x5 : Int32) : Option (Int32 × Mem) := lp (fun kn z => GX1_hasIt_10 fu D w w2 kn z.1 z.2.1 z.2.2.1 z.2.2.2) fu (M, x3, x4, x5)
set_option linter.unusedVariables false in
def FX1_hasIt (fu : Nat) (D : List LDen) (w : Nat) (w2 : Nat) (M : Mem) : Option (Int32 × Mem) :=
  FX1_hasIt_10 fu D w w2 M 0 6561 1
set_option linter.unusedVariables false in
def FX1_firstHas (fu : Nat) (D : List LDen) (M : Mem) (x1 x2 : Int32) : Option (Int32 × Mem) :=
  bd (FX7_counts fu D 0 M x1) (fun _ M5 => bd (FX7_counts fu D 1 M5 x2) (fun _ M13 => bd (FX1_hasIt fu D 0 1 M13) (fun v25 M25 => some (v25, M25))))
set_option linter.unusedVariables false in
def FX1_odds_132 (fu : Nat) (D : List LDen) (M : Mem) (t0 : Int32) : Option TR :=
  some (0, t0, M)
set_option linter.unusedVariables false in
def GX1_odds_60 (fu : Nat) (D : List LDen) (kn60 : Mem × Int32 × Int32 × Int32 → Option TR) (M : Mem) (x3 x5 x6 : Int32) : Option TR :=
  if 8 < x6 then if x3 = 2 then FX1_odds_132 fu D M x5 else bd (FX7_good fu D 0 M) (fun v116 M116 => bd (FX7_good fu D 1 M116) (fun v127 M127 => FX1_odds_132 fu D M127 ((6561 - v116) * (6561 - v127)))) else gd x6 9 (gd x6 9 (lt (x5 + ((M (3, 0, 1) x6.toNatClampNeg) * (M (3, 1, 1) x6.toNatClampNeg))) (fun y91 => lt (x6 + 1) (fun y93 => kn60 (M, x3, y91, y93)))))
set_option linter.unusedVariables false in
def FX1_odds_60 (fu : Nat) (D : List LDen) (M : Mem) (x3 x5 x6 : Int32) : Option TR := lp (fun kn z => GX1_odds_60 fu D kn z.1 z.2.1 z.2.2.1 z.2.2.2) fu (M, x3, x5, x6)
set_option linter.unusedVariables false in
def FX1_odds (fu : Nat) (D : List LDen) (M : Mem) (x1 x2 x3 : Int32) : Option TR :=
  bx (FX1_birdAt fu D M x1) (fun v2 M2 => gd v2 6 (bx (FX1_birdAt fu D M2 x2) (fun v8 M8 => gd v8 6 (bd (FX1_isIn fu D M8 x3 0 3) (fun v15 M15 => bx (FX1_thereIs fu D M15 v15) (fun _ M18 => bd (FX1_firstHas fu D M18 x1 x2) (fun v24 M24 => if x3 = 0 then some (0, v24, M24) else if x3 = 1 then bd (FX1_hasIt fu D 1 0 M24) (fun v50 M50 => some (0, v50, M50)) else FX1_odds_60 fu D M24 x3 0 1)))))))
set_option linter.unusedVariables false in
def FX1_best_66 (fu : Nat) (D : List LDen) (kn14 : Mem × Int32 × Int32 × Int32 × Int32 × Int32 → Option TR) (M : Mem) (x1 x2 x3 x4 x5 : Int32) : Option TR :=
  lt (x5 + 1) (fun y66 => kn14 (M, x1, x2, x3, x4, y66))
set_option linter.unusedVariables false in
def FX1_best_47 (fu : Nat) (D : List LDen) (kn14 : Mem × Int32 × Int32 × Int32 × Int32 × Int32 → Option TR) (M : Mem) (x1 x2 x3 x4 x5 t0 : Int32) : Option TR :=
  if x4 < t0 then FX1_best_66 fu D kn14 M x1 x2 x5 t0 x5 else FX1_best_66 fu D kn14 M x1 x2 x3 x4 x5
set_option linter.unusedVariables false in
def GX1_best_14 (fu : Nat) (D : List LDen) (kn14 : Mem × Int32 × Int32 × Int32 × Int32 × Int32 → Option TR) (M : Mem) (x1 x2 x3 x4 x5 : Int32) : Option TR :=
  if (M (0, 0, 0) 7) ≤ x5 then some (0, x3, M) else if ((x2 >>> (x5 &&& 31)) &&& 1) = 1 then bd (FX1_firstHas fu D M x5 x1) (fun v40 M40 => FX1_best_47 fu D kn14 M40 x1 x2 x3 x4 x5 v40) else FX1_best_47 fu D kn14 M x1 x2 x3 x4 x5 (-1)
set_option linter.unusedVariables false in
def FX1_best_14 (fu : Nat) (D : List LDen) (M : Mem) (x1 x2 x3 x4 x5 : Int32) : Option TR := lp (fun kn z => GX1_best_14 fu D kn z.1 z.2.1 z.2.2.1 z.2.2.2.1 z.2.2.2.2.1 z.2.2.2.2.2) fu (M, x1, x2, x3, x4, x5)
set_option linter.unusedVariables false in
def FX1_best (fu : Nat) (D : List LDen) (M : Mem) (x1 x2 : Int32) : Option TR :=
  bx (FX1_birdAt fu D M x1) (fun v2 M2 => gd v2 6 (FX1_best_14 fu D M2 x1 x2 (-1) (-1) 0))
set_option linter.unusedVariables false in
def FX1_when_71 (fu : Nat) (D : List LDen) (kn29 : Mem × Int32 × Int32 × Int32 × Int32 × Int32 × Int32 → Option TR) (M : Mem) (x1 x2 x3 x4 x5 x6 : Int32) : Option TR :=
  lt (x6 + 1) (fun y71 => kn29 (M, x1, x2, x3, x4, x5, y71))
set_option linter.unusedVariables false in
def GX1_when_29 (fu : Nat) (D : List LDen) (kn29 : Mem × Int32 × Int32 × Int32 × Int32 × Int32 × Int32 → Option TR) (M : Mem) (x1 x2 x3 x4 x5 x6 : Int32) : Option TR :=
  if 24 ≤ x6 then lt (up M (0, 0, 0) 16 x3) (fun M82 => some (0, x4, M82)) else lt (up M (0, 0, 0) 16 x6) (fun M42 => bd (FX1_firstHas fu D M42 x1 x2) (fun v48 M48 => if x5 < v48 then FX1_when_71 fu D kn29 M48 x1 x2 x3 x6 v48 x6 else FX1_when_71 fu D kn29 M48 x1 x2 x3 x4 x5 x6))
set_option linter.unusedVariables false in
def FX1_when_29 (fu : Nat) (D : List LDen) (M : Mem) (x1 x2 x3 x4 x5 x6 : Int32) : Option TR := lp (fun kn z => GX1_when_29 fu D kn z.1 z.2.1 z.2.2.1 z.2.2.2.1 z.2.2.2.2.1 z.2.2.2.2.2.1 z.2.2.2.2.2.2) fu (M, x1, x2, x3, x4, x5, x6)
set_option linter.unusedVariables false in
def FX1_when (fu : Nat) (D : List LDen) (M : Mem) (x1 x2 : Int32) : Option TR :=
  bx (FX1_birdAt fu D M x1) (fun v2 M2 => gd v2 6 (bx (FX1_birdAt fu D M2 x2) (fun v8 M8 => gd v8 6 (lt (M8 (0, 0, 0) 16) (fun y19 => FX1_when_29 fu D M8 x1 x2 y19 0 (-1) 0)))))
set_option linter.unusedVariables false in
def FX1_isOpen_16 (fu : Nat) (D : List LDen) (M : Mem) (t0 : Int32) : Option TR :=
  bx (FX1_can fu D M t0) (fun _ M16 => some (0, 0, M16))
set_option linter.unusedVariables false in
def FX1_isOpen (fu : Nat) (D : List LDen) (M : Mem) (x1 : Int32) : Option TR :=
  bx (FX1_caseAt fu D M x1) (fun v2 M2 => gd v2 12 (if (M2 (2, 0, v2.toNatClampNeg) 3) = 0 then FX1_isOpen_16 fu D M2 1 else FX1_isOpen_16 fu D M2 0))
set_option linter.unusedVariables false in
def FX1_compares_117 (fu : Nat) (D : List LDen) (kn38 : Mem × Int32 × Int32 × Int32 × Int32 → Option (Int32 × Mem)) (M : Mem) (x2 x3 x4 x5 : Int32) : Option (Int32 × Mem) :=
  lt (x5 + 1) (fun y117 => kn38 (M, x2, x3, x4, y117))
set_option linter.unusedVariables false in
def GX1_compares_38 (fu : Nat) (D : List LDen) (kn38 : Mem × Int32 × Int32 × Int32 × Int32 → Option (Int32 × Mem)) (kn23 : Mem × Int32 × Int32 × Int32 → Option (Int32 × Mem)) (M : Mem) (x2 x3 x4 x5 : Int32) : Option (Int32 × Mem) :=
  if (M (0, 0, 0) 7) ≤ x5 then lt (x4 + 1) (fun y123 => kn23 (M, x2, x3, y123)) else if ((x2 >>> (x4 &&& 31)) &&& 1) = 0 then FX1_compares_117 fu D kn38 M x2 x3 x4 x5 else if ((x3 >>> (x5 &&& 31)) &&& 1) = 0 then FX1_compares_117 fu D kn38 M x2 x3 x4 x5 else bd (FX1_firstHas fu D M x4 x5) (fun v88 M88 => gd ((6 * x4) + x5) 36 (lt (up M88 (4, 0, 2) (((6 * x4) + x5).toNatClampNeg) v88) (fun M91 => bd (FX1_hasIt fu D 1 0 M91) (fun v113 M113 => gd ((6 * x4) + x5) 36 (lt (up M113 (4, 0, 3) (((6 * x4) + x5).toNatClampNeg) v113) (fun M116 => FX1_compares_117 fu D kn38 M116 x2 x3 x4 x5))))))
set_option linter.unusedVariables false in
def FX1_compares_38 (fu : Nat) (D : List LDen) (kn23 : Mem × Int32 × Int32 × Int32 → Option (Int32 × Mem)) (M : Mem) (x2 x3 x4 x5 : Int32) : Option (Int32 × Mem) := lp (fun kn z => GX1_compares_38 fu D kn kn23 z.1 z.2.1 z.2.2.1 z.2.2.2.1 z.2.2.2.2) fu (M, x2, x3, x4, x5)
set_option linter.unusedVariables false in
def GX1_compares_23 (fu : Nat) (D : List LDen) (kn23 : Mem × Int32 × Int32 × Int32 → Option (Int32 × Mem)) (M : Mem) (x2 x3 x4 : Int32) : Option (Int32 × Mem) :=
  if (M (0, 0, 0) 7) ≤ x4 then some (0, M) else FX1_compares_38 fu D kn23 M x2 x3 x4 0
set_option linter.unusedVariables false in
def FX1_compares_23 (fu : Nat) (D : List LDen) (M : Mem) (x2 x3 x4 : Int32) : Option (Int32 × Mem) := lp (fun kn z => GX1_compares_23 fu D kn z.1 z.2.1 z.2.2.1 z.2.2.2) fu (M, x2, x3, x4)
set_option linter.unusedVariables false in
def FX1_compares (fu : Nat) (D : List LDen) (M : Mem) (x1 : Int32) : Option (Int32 × Mem) :=
  bd (FX3_choices fu D 0 M x1 0) (fun v6 M6 => bd (FX3_choices fu D 0 M6 x1 1) (fun v16 M16 => FX1_compares_23 fu D M16 v6 v16 0))
set_option linter.unusedVariables false in
def FX1_leastBy_68 (fu : Nat) (D : List LDen) (kn8 : Mem × Int32 × Int32 × Int32 × Int32 × Int32 → Option (Int32 × Mem)) (M : Mem) (x1 x2 x3 x4 x5 : Int32) : Option (Int32 × Mem) :=
  lt (x5 + 1) (fun y68 => kn8 (M, x1, x2, x3, x4, y68))
set_option linter.unusedVariables false in
def FX1_leastBy_63 (fu : Nat) (D : List LDen) (kn8 : Mem × Int32 × Int32 × Int32 × Int32 × Int32 → Option (Int32 × Mem)) (M : Mem) (x1 x2 x3 x5 t0 t1 : Int32) : Option (Int32 × Mem) :=
  lt (mn t1 t0) (fun y66 => FX1_leastBy_68 fu D kn8 M x1 x2 x3 y66 x5)
set_option linter.unusedVariables false in
def GX1_leastBy_8 (fu : Nat) (D : List LDen) (kn8 : Mem × Int32 × Int32 × Int32 × Int32 × Int32 → Option (Int32 × Mem)) (M : Mem) (x1 x2 x3 x4 x5 : Int32) : Option (Int32 × Mem) :=
  if (M (0, 0, 0) 7) ≤ x5 then some ((((100) * (x4.toInt64)) / (43046721)).toInt32, M) else if ((x2 >>> (x5 &&& 31)) &&& 1) = 1 then if x3 = 0 then gd ((6 * x1) + x5) 36 (FX1_leastBy_63 fu D kn8 M x1 x2 x3 x5 (M (4, 0, 2) (((6 * x1) + x5).toNatClampNeg)) x4) else gd ((6 * x5) + x1) 36 (FX1_leastBy_63 fu D kn8 M x1 x2 x3 x5 (M (4, 0, 3) (((6 * x5) + x1).toNatClampNeg)) x4) else FX1_leastBy_68 fu D kn8 M x1 x2 x3 x4 x5
set_option linter.unusedVariables false in
def FX1_leastBy_8 (fu : Nat) (D : List LDen) (M : Mem) (x1 x2 x3 x4 x5 : Int32) : Option (Int32 × Mem) := lp (fun kn z => GX1_leastBy_8 fu D kn z.1 z.2.1 z.2.2.1 z.2.2.2.1 z.2.2.2.2.1 z.2.2.2.2.2) fu (M, x1, x2, x3, x4, x5)
set_option linter.unusedVariables false in
def FX1_leastBy (fu : Nat) (D : List LDen) (M : Mem) (x1 x2 x3 : Int32) : Option (Int32 × Mem) :=
  FX1_leastBy_8 fu D M x1 x2 x3 1000000000 0
set_option linter.unusedVariables false in
def FX1_surest_129 (fu : Nat) (D : List LDen) (M : Mem) (t0 : Int32) : Option TR :=
  some (0, t0, M)
set_option linter.unusedVariables false in
def FX1_surest_112 (fu : Nat) (D : List LDen) (kn56 : Mem × Int32 × Int32 × Int32 × Int32 × Int32 × Int32 × Int32 → Option TR) (M : Mem) (x2 x3 x4 x5 x6 x7 x8 : Int32) : Option TR :=
  lt (x8 + 1) (fun y112 => kn56 (M, x2, x3, x4, x5, x6, x7, y112))
set_option linter.unusedVariables false in
def FX1_surest_92 (fu : Nat) (D : List LDen) (kn56 : Mem × Int32 × Int32 × Int32 × Int32 × Int32 × Int32 × Int32 → Option TR) (M : Mem) (x2 x3 x4 x5 x6 x7 x8 t0 : Int32) : Option TR :=
  if x7 < t0 then FX1_surest_112 fu D kn56 M x2 x3 x4 x5 x8 t0 x8 else FX1_surest_112 fu D kn56 M x2 x3 x4 x5 x6 x7 x8
set_option linter.unusedVariables false in
def GX1_surest_56 (fu : Nat) (D : List LDen) (kn56 : Mem × Int32 × Int32 × Int32 × Int32 × Int32 × Int32 × Int32 → Option TR) (M : Mem) (x2 x3 x4 x5 x6 x7 x8 : Int32) : Option TR :=
  if (M (0, 0, 0) 7) ≤ x8 then if x3 = 0 then FX1_surest_129 fu D M x6 else FX1_surest_129 fu D M x7 else if ((x4 >>> (x8 &&& 31)) &&& 1) = 1 then bd (FX1_leastBy fu D M x8 x5 x2) (fun v85 M85 => FX1_surest_92 fu D kn56 M85 x2 x3 x4 x5 x6 x7 x8 v85) else FX1_surest_92 fu D kn56 M x2 x3 x4 x5 x6 x7 x8 (-1)
set_option linter.unusedVariables false in
def FX1_surest_56 (fu : Nat) (D : List LDen) (M : Mem) (x2 x3 x4 x5 x6 x7 x8 : Int32) : Option TR := lp (fun kn z => GX1_surest_56 fu D kn z.1 z.2.1 z.2.2.1 z.2.2.2.1 z.2.2.2.2.1 z.2.2.2.2.2.1 z.2.2.2.2.2.2.1 z.2.2.2.2.2.2.2) fu (M, x2, x3, x4, x5, x6, x7, x8)
set_option linter.unusedVariables false in
def FX1_surest_30 (fu : Nat) (D : List LDen) (M : Mem) (x1 x2 x3 x4 t0 t1 : Int32) : Option TR :=
  bd (FX3_choices fu D 0 M t1 t0) (fun v30 M30 => if v30 = 0 then some (0, (-1), M30) else bd (FX1_compares fu D M30 x1) (fun _ M44 => FX1_surest_56 fu D M44 x2 x3 x4 v30 (-1) (-1) 0))
set_option linter.unusedVariables false in
def FX1_surest (fu : Nat) (D : List LDen) (M : Mem) (x1 x2 x3 : Int32) : Option TR :=
  bx (FX1_isOpen fu D M x1) (fun _ M2 => bd (FX3_choices fu D 0 M2 x1 x2) (fun v11 M11 => if x2 = 0 then FX1_surest_30 fu D M11 x1 x2 x3 v11 1 x1 else FX1_surest_30 fu D M11 x1 x2 x3 v11 0 x1))
set_option linter.unusedVariables false in
def FX1_isRest_106 (fu : Nat) (D : List LDen) (kn6 : Mem × Int32 × Int32 × Int32 × Int32 × Int32 × Int32 → Option (Int32 × Mem)) (M : Mem) (x1 x2 x3 x4 x6 t0 t1 : Int32) : Option (Int32 × Mem) :=
  lt (t1 &&& t0) (fun y107 => lt (x6 + 1) (fun y109 => kn6 (M, x1, x2, x3, x4, y107, y109)))
set_option linter.unusedVariables false in
def FX1_isRest_101 (fu : Nat) (D : List LDen) (kn6 : Mem × Int32 × Int32 × Int32 × Int32 × Int32 × Int32 → Option (Int32 × Mem)) (M : Mem) (x1 x2 x3 x4 x6 t0 : Int32) : Option (Int32 × Mem) :=
  FX1_isRest_106 fu D kn6 M x1 x2 x3 x4 x6 1 t0
set_option linter.unusedVariables false in
def FX1_isRest_60 (fu : Nat) (D : List LDen) (kn6 : Mem × Int32 × Int32 × Int32 × Int32 × Int32 × Int32 → Option (Int32 × Mem)) (M : Mem) (x1 x2 x3 x4 x6 t0 t1 : Int32) : Option (Int32 × Mem) :=
  lt (t1 &&& t0) (fun y61 => if ((x4 >>> (x6 &&& 31)) &&& 1) = 0 then FX1_isRest_101 fu D kn6 M x1 x2 x3 x4 x6 y61 else gd ((6 * x1) + x6) 36 (gd ((6 * x1) + x2) 36 (if (M (4, 0, 3) (((6 * x1) + x2).toNatClampNeg)) < (M (4, 0, 3) (((6 * x1) + x6).toNatClampNeg)) then FX1_isRest_106 fu D kn6 M x1 x2 x3 x4 x6 0 y61 else FX1_isRest_101 fu D kn6 M x1 x2 x3 x4 x6 y61)))
set_option linter.unusedVariables false in
def FX1_isRest_55 (fu : Nat) (D : List LDen) (kn6 : Mem × Int32 × Int32 × Int32 × Int32 × Int32 × Int32 → Option (Int32 × Mem)) (M : Mem) (x1 x2 x3 x4 x6 t0 : Int32) : Option (Int32 × Mem) :=
  FX1_isRest_60 fu D kn6 M x1 x2 x3 x4 x6 1 t0
set_option linter.unusedVariables false in
def GX1_isRest_6 (fu : Nat) (D : List LDen) (kn6 : Mem × Int32 × Int32 × Int32 × Int32 × Int32 × Int32 → Option (Int32 × Mem)) (M : Mem) (x1 x2 x3 x4 x5 x6 : Int32) : Option (Int32 × Mem) :=
  if (M (0, 0, 0) 7) ≤ x6 then some (x5 &&& 1, M) else if ((x3 >>> (x6 &&& 31)) &&& 1) = 0 then FX1_isRest_55 fu D kn6 M x1 x2 x3 x4 x6 x5 else gd ((6 * x6) + x2) 36 (gd ((6 * x1) + x2) 36 (if (M (4, 0, 2) (((6 * x1) + x2).toNatClampNeg)) < (M (4, 0, 2) (((6 * x6) + x2).toNatClampNeg)) then FX1_isRest_60 fu D kn6 M x1 x2 x3 x4 x6 0 x5 else FX1_isRest_55 fu D kn6 M x1 x2 x3 x4 x6 x5))
set_option linter.unusedVariables false in
def FX1_isRest_6 (fu : Nat) (D : List LDen) (M : Mem) (x1 x2 x3 x4 x5 x6 : Int32) : Option (Int32 × Mem) := lp (fun kn z => GX1_isRest_6 fu D kn z.1 z.2.1 z.2.2.1 z.2.2.2.1 z.2.2.2.2.1 z.2.2.2.2.2.1 z.2.2.2.2.2.2) fu (M, x1, x2, x3, x4, x5, x6)
set_option linter.unusedVariables false in
def FX1_isRest (fu : Nat) (D : List LDen) (M : Mem) (x1 x2 x3 x4 : Int32) : Option (Int32 × Mem) :=
  FX1_isRest_6 fu D M x1 x2 x3 x4 1 0
set_option linter.unusedVariables false in
def FX1_rests_138 (fu : Nat) (D : List LDen) (M : Mem) (t0 : Int32) : Option TR :=
  some (0, t0, M)
set_option linter.unusedVariables false in
def FX1_rests_121 (fu : Nat) (D : List LDen) (kn40 : Mem × Int32 × Int32 × Int32 × Int32 × Int32 × Int32 → Option TR) (M : Mem) (x2 x3 x4 x5 x6 x7 : Int32) : Option TR :=
  lt (x7 + 1) (fun y121 => kn40 (M, x2, x3, x4, x5, x6, y121))
set_option linter.unusedVariables false in
def FX1_rests_119 (fu : Nat) (D : List LDen) (kn40 : Mem × Int32 × Int32 × Int32 × Int32 × Int32 × Int32 → Option TR) (M : Mem) (x2 x3 x4 x5 x7 t0 : Int32) : Option TR :=
  FX1_rests_121 fu D kn40 M x2 x3 x4 x5 t0 x7
set_option linter.unusedVariables false in
def GX1_rests_40 (fu : Nat) (D : List LDen) (kn40 : Mem × Int32 × Int32 × Int32 × Int32 × Int32 × Int32 → Option TR) (M : Mem) (x2 x3 x4 x5 x6 x7 : Int32) : Option TR :=
  if 36 ≤ x7 then if x2 = 0 then FX1_rests_138 fu D M x5 else FX1_rests_138 fu D M x6 else lt (x7 / 6) (fun y52 => lt (rm x7 6) (fun y59 => if ((x3 >>> (y52 &&& 31)) &&& 1) = 0 then FX1_rests_121 fu D kn40 M x2 x3 x4 x5 x6 x7 else if ((x4 >>> (y59 &&& 31)) &&& 1) = 0 then FX1_rests_121 fu D kn40 M x2 x3 x4 x5 x6 x7 else bd (FX1_isRest fu D M y52 y59 x3 x4) (fun v88 M88 => if v88 = 0 then FX1_rests_121 fu D kn40 M88 x2 x3 x4 x5 x6 x7 else lt (x5 + 1) (fun y97 => if x6 = (-1) then FX1_rests_119 fu D kn40 M88 x2 x3 x4 y97 x7 ((10 * y52) + y59) else FX1_rests_119 fu D kn40 M88 x2 x3 x4 y97 x7 x6))))
set_option linter.unusedVariables false in
def FX1_rests_40 (fu : Nat) (D : List LDen) (M : Mem) (x2 x3 x4 x5 x6 x7 : Int32) : Option TR := lp (fun kn z => GX1_rests_40 fu D kn z.1 z.2.1 z.2.2.1 z.2.2.2.1 z.2.2.2.2.1 z.2.2.2.2.2.1 z.2.2.2.2.2.2) fu (M, x2, x3, x4, x5, x6, x7)
set_option linter.unusedVariables false in
def FX1_rests (fu : Nat) (D : List LDen) (M : Mem) (x1 x2 : Int32) : Option TR :=
  bx (FX1_isOpen fu D M x1) (fun _ M2 => bd (FX1_compares fu D M2 x1) (fun _ M7 => bd (FX3_choices fu D 0 M7 x1 0) (fun v16 M16 => bd (FX3_choices fu D 0 M16 x1 1) (fun v26 M26 => FX1_rests_40 fu D M26 x2 v16 v26 0 (-1) 0))))
set_option linter.unusedVariables false in
def FX1_fair_125 (fu : Nat) (D : List LDen) (kn41 : Mem × Int32 × Int32 × Int32 × Int32 × Int32 → Option TR) (M : Mem) (x2 x3 x4 x5 x6 : Int32) : Option TR :=
  lt (x6 + 1) (fun y125 => kn41 (M, x2, x3, x4, x5, y125))
set_option linter.unusedVariables false in
def GX1_fair_41 (fu : Nat) (D : List LDen) (kn41 : Mem × Int32 × Int32 × Int32 × Int32 × Int32 → Option TR) (M : Mem) (x2 x3 x4 x5 x6 : Int32) : Option TR :=
  if 36 ≤ x6 then some (0, x5, M) else if ((x2 >>> ((x6 / 6) &&& 31)) &&& 1) = 0 then FX1_fair_125 fu D kn41 M x2 x3 x4 x5 x6 else if ((x3 >>> ((rm x6 6) &&& 31)) &&& 1) = 0 then FX1_fair_125 fu D kn41 M x2 x3 x4 x5 x6 else gd x6 36 (gd x6 36 (lt (ab ((M (4, 0, 2) x6.toNatClampNeg) - (M (4, 0, 3) x6.toNatClampNeg))) (fun y93 => if y93 < x4 then lt ((10 * (x6 / 6)) + (rm x6 6)) (fun y123 => FX1_fair_125 fu D kn41 M x2 x3 y93 y123 x6) else FX1_fair_125 fu D kn41 M x2 x3 x4 x5 x6)))
set_option linter.unusedVariables false in
def FX1_fair_41 (fu : Nat) (D : List LDen) (M : Mem) (x2 x3 x4 x5 x6 : Int32) : Option TR := lp (fun kn z => GX1_fair_41 fu D kn z.1 z.2.1 z.2.2.1 z.2.2.2.1 z.2.2.2.2.1 z.2.2.2.2.2) fu (M, x2, x3, x4, x5, x6)
set_option linter.unusedVariables false in
def FX1_fair (fu : Nat) (D : List LDen) (M : Mem) (x1 : Int32) : Option TR :=
  bx (FX1_isOpen fu D M x1) (fun _ M2 => bd (FX1_compares fu D M2 x1) (fun _ M7 => bd (FX3_choices fu D 0 M7 x1 0) (fun v16 M16 => bd (FX3_choices fu D 0 M16 x1 1) (fun v26 M26 => FX1_fair_41 fu D M26 v16 v26 1000000000 (-1) 0))))
set_option linter.unusedVariables false in
def FX1_sung_41 (fu : Nat) (D : List LDen) (kn4 : Mem × Int32 × Int32 × Int32 → Option (Int32 × Mem)) (M : Mem) (x1 x3 t0 t1 : Int32) : Option (Int32 × Mem) :=
  lt (t1 ||| t0) (fun y42 => lt (x3 + 1) (fun y43 => kn4 (M, x1, y42, y43)))
set_option linter.unusedVariables false in
def GX1_sung_4 (fu : Nat) (D : List LDen) (kn4 : Mem × Int32 × Int32 × Int32 → Option (Int32 × Mem)) (M : Mem) (x1 x2 x3 : Int32) : Option (Int32 × Mem) :=
  if (M (0, 0, 0) 7) ≤ x3 then some (x2, M) else if ((x1 >>> (x3 &&& 31)) &&& 1) = 1 then gd x3 6 (FX1_sung_41 fu D kn4 M x1 x3 (M (1, 0, x3.toNatClampNeg) 2) x2) else FX1_sung_41 fu D kn4 M x1 x3 0 x2
set_option linter.unusedVariables false in
def FX1_sung_4 (fu : Nat) (D : List LDen) (M : Mem) (x1 x2 x3 : Int32) : Option (Int32 × Mem) := lp (fun kn z => GX1_sung_4 fu D kn z.1 z.2.1 z.2.2.1 z.2.2.2) fu (M, x1, x2, x3)
set_option linter.unusedVariables false in
def FX1_sung (fu : Nat) (D : List LDen) (M : Mem) (x1 : Int32) : Option (Int32 × Mem) :=
  FX1_sung_4 fu D M x1 0 0
set_option linter.unusedVariables false in
def FX1_told_192 (fu : Nat) (D : List LDen) (kn83 : Mem × Int32 × Int32 × Int32 → Option TR) (M : Mem) (x1 x4 t0 t1 : Int32) : Option TR :=
  lt (t1 + t0) (fun y193 => lt (x4 + 1) (fun y194 => kn83 (M, x1, y193, y194)))
set_option linter.unusedVariables false in
def FX1_told_176 (fu : Nat) (D : List LDen) (kn83 : Mem × Int32 × Int32 × Int32 → Option TR) (M : Mem) (x1 x3 x4 : Int32) : Option TR :=
  gd x4 64 (if (M (4, 0, 7) x4.toNatClampNeg) = 0 then FX1_told_192 fu D kn83 M x1 x4 0 x3 else FX1_told_192 fu D kn83 M x1 x4 1 x3)
set_option linter.unusedVariables false in
def FX1_told_169 (fu : Nat) (D : List LDen) (kn108 : Mem × Int32 × Int32 × Int32 × Int32 → Option TR) (M : Mem) (x1 x3 x4 x5 t0 t1 : Int32) : Option TR :=
  gd t1 64 (lt (up M (4, 0, 7) t1.toNatClampNeg (vp_nar .boolean t0)) (fun M169 => lt (x5 + 2) (fun y170 => kn108 (M169, x1, x3, x4, y170))))
set_option linter.unusedVariables false in
def GX1_told_108 (fu : Nat) (D : List LDen) (kn108 : Mem × Int32 × Int32 × Int32 × Int32 → Option TR) (kn83 : Mem × Int32 × Int32 × Int32 → Option TR) (M : Mem) (x1 x3 x4 x5 : Int32) : Option TR :=
  if x1 ≤ x5 then FX1_told_176 fu D kn83 M x1 x3 x4 else gd x4 64 (if (M (4, 0, 7) x4.toNatClampNeg) = 0 then FX1_told_176 fu D kn83 M x1 x3 x4 else bd (FX1_sung fu D M x4) (fun v133 M133 => gd x5 400 (gd (x5 + 1) 400 (if ((v133 >>> ((M133 (4, 0, 9) x5.toNatClampNeg) &&& 31)) &&& 1) = (M133 (4, 0, 9) ((x5 + 1).toNatClampNeg)) then FX1_told_169 fu D kn108 M133 x1 x3 x4 x5 1 x4 else FX1_told_169 fu D kn108 M133 x1 x3 x4 x5 0 x4))))
set_option linter.unusedVariables false in
def FX1_told_108 (fu : Nat) (D : List LDen) (kn83 : Mem × Int32 × Int32 × Int32 → Option TR) (M : Mem) (x1 x3 x4 x5 : Int32) : Option TR := lp (fun kn z => GX1_told_108 fu D kn kn83 z.1 z.2.1 z.2.2.1 z.2.2.2.1 z.2.2.2.2) fu (M, x1, x3, x4, x5)
set_option linter.unusedVariables false in
def GX1_told_83 (fu : Nat) (D : List LDen) (kn83 : Mem × Int32 × Int32 × Int32 → Option TR) (M : Mem) (x1 x3 x4 : Int32) : Option TR :=
  if (1 <<< ((M (0, 0, 0) 7) &&& 31)) ≤ x4 then some (0, x3, M) else gd x4 64 (lt (up M (4, 0, 7) x4.toNatClampNeg (vp_nar .boolean 1)) (fun M104 => FX1_told_108 fu D kn83 M104 x1 x3 x4 0))
set_option linter.unusedVariables false in
def FX1_told_83 (fu : Nat) (D : List LDen) (M : Mem) (x1 x3 x4 : Int32) : Option TR := lp (fun kn z => GX1_told_83 fu D kn z.1 z.2.1 z.2.2.1 z.2.2.2) fu (M, x1, x3, x4)
set_option linter.unusedVariables false in
def FX1_told_74 (fu : Nat) (D : List LDen) (M : Mem) (x1 x2 : Int32) : Option TR :=
  bx (FX1_must fu D M x2) (fun _ M75 => FX1_told_83 fu D M75 x1 0 0)
set_option linter.unusedVariables false in
def FX1_told_67 (fu : Nat) (D : List LDen) (kn25 : Mem × Int32 × Int32 × Int32 → Option TR) (M : Mem) (x1 x3 t0 : Int32) : Option TR :=
  lt (x3 + 1) (fun y68 => kn25 (M, x1, t0, y68))
set_option linter.unusedVariables false in
def FX1_told_59 (fu : Nat) (D : List LDen) (kn25 : Mem × Int32 × Int32 × Int32 → Option TR) (M : Mem) (x1 x3 t0 t1 : Int32) : Option TR :=
  if t0 ≤ t1 then FX1_told_67 fu D kn25 M x1 x3 0 else FX1_told_67 fu D kn25 M x1 x3 1
set_option linter.unusedVariables false in
def GX1_told_25 (fu : Nat) (D : List LDen) (kn25 : Mem × Int32 × Int32 × Int32 → Option TR) (M : Mem) (x1 x2 x3 : Int32) : Option TR :=
  if x1 ≤ x3 then FX1_told_74 fu D M x1 x2 else if x2 = 0 then FX1_told_74 fu D M x1 x2 else gd x3 400 (if (rm x3 2) = 0 then FX1_told_59 fu D kn25 M x1 x3 6 ((M (4, 0, 9) x3.toNatClampNeg) &&& 255) else FX1_told_59 fu D kn25 M x1 x3 2 ((M (4, 0, 9) x3.toNatClampNeg) &&& 255))
set_option linter.unusedVariables false in
def FX1_told_25 (fu : Nat) (D : List LDen) (M : Mem) (x1 x2 x3 : Int32) : Option TR := lp (fun kn z => GX1_told_25 fu D kn z.1 z.2.1 z.2.2.1 z.2.2.2) fu (M, x1, x2, x3)
set_option linter.unusedVariables false in
def FX1_told_22 (fu : Nat) (D : List LDen) (M : Mem) (x1 t0 : Int32) : Option TR :=
  FX1_told_25 fu D M x1 t0 0
set_option linter.unusedVariables false in
def FX1_told_21 (fu : Nat) (D : List LDen) (M : Mem) (x1 : Int32) : Option TR :=
  FX1_told_22 fu D M x1 0
set_option linter.unusedVariables false in
def FX1_told (fu : Nat) (D : List LDen) (M : Mem) : Option TR :=
  bd (FX1_took fu D M) (fun v1 M1 => if (rm v1 2) = 0 then if 40 < v1 then FX1_told_21 fu D M1 v1 else FX1_told_22 fu D M1 v1 1 else FX1_told_21 fu D M1 v1)
set_option linter.unusedVariables false in
def FX1_songs_63 (fu : Nat) (D : List LDen) (kn34 : Mem × Int32 × Int32 → Option TR) (M : Mem) (x3 x4 : Int32) : Option TR :=
  lt (x4 + 1) (fun y63 => kn34 (M, x3, y63))
set_option linter.unusedVariables false in
def GX1_songs_34 (fu : Nat) (D : List LDen) (kn34 : Mem × Int32 × Int32 → Option TR) (M : Mem) (x3 x4 : Int32) : Option TR :=
  if (1 <<< ((M (0, 0, 0) 7) &&& 31)) ≤ x4 then some (0, x3, M) else gd x4 64 (if (M (4, 0, 7) x4.toNatClampNeg) = 0 then FX1_songs_63 fu D kn34 M x3 x4 else lt (x3 &&& x4) (fun y62 => FX1_songs_63 fu D kn34 M y62 x4))
set_option linter.unusedVariables false in
def FX1_songs_34 (fu : Nat) (D : List LDen) (M : Mem) (x3 x4 : Int32) : Option TR := lp (fun kn z => GX1_songs_34 fu D kn z.1 z.2.1 z.2.2) fu (M, x3, x4)
set_option linter.unusedVariables false in
def FX1_songs_30 (fu : Nat) (D : List LDen) (M : Mem) (t0 : Int32) : Option TR :=
  FX1_songs_34 fu D M t0 0
set_option linter.unusedVariables false in
def FX1_songs (fu : Nat) (D : List LDen) (M : Mem) (x1 : Int32) : Option TR :=
  bx (FX1_told fu D M) (fun v1 M1 => if x1 = 0 then some (0, v1, M1) else if v1 = 0 then FX1_songs_30 fu D M1 0 else FX1_songs_30 fu D M1 ((1 <<< ((M1 (0, 0, 0) 7) &&& 31)) - 1))
set_option linter.unusedVariables false in
def FX1_ask_117 (fu : Nat) (D : List LDen) (M : Mem) (x2 : Int32) : Option TR :=
  some (0, x2, M)
set_option linter.unusedVariables false in
def FX1_ask_111 (fu : Nat) (D : List LDen) (kn14 : Mem × Int32 × Int32 × Int32 × Int32 → Option TR) (M : Mem) (x1 x2 x3 x4 : Int32) : Option TR :=
  lt (x4 + 1) (fun y111 => kn14 (M, x1, x2, x3, y111))
set_option linter.unusedVariables false in
def FX1_ask_73 (fu : Nat) (D : List LDen) (kn32 : Mem × Int32 × Int32 × Int32 × Int32 × Int32 × Int32 → Option TR) (M : Mem) (x1 x2 x3 x4 x6 t0 t1 : Int32) : Option TR :=
  lt (t1 + t0) (fun y74 => lt (x6 + 1) (fun y76 => kn32 (M, x1, x2, x3, x4, y74, y76)))
set_option linter.unusedVariables false in
def GX1_ask_32 (fu : Nat) (D : List LDen) (kn32 : Mem × Int32 × Int32 × Int32 × Int32 × Int32 × Int32 → Option TR) (kn14 : Mem × Int32 × Int32 × Int32 × Int32 → Option TR) (M : Mem) (x1 x2 x3 x4 x5 x6 : Int32) : Option TR :=
  if (1 <<< ((M (0, 0, 0) 7) &&& 31)) ≤ x6 then if (mx x5 (x1 - x5)) < x3 then lt (mx x5 (x1 - x5)) (fun y107 => FX1_ask_111 fu D kn14 M x1 x4 y107 x4) else FX1_ask_111 fu D kn14 M x1 x2 x3 x4 else gd x6 64 (if (M (4, 0, 7) x6.toNatClampNeg) = 0 then FX1_ask_73 fu D kn32 M x1 x2 x3 x4 x6 0 x5 else bd (FX1_sung fu D M x6) (fun v61 M61 => FX1_ask_73 fu D kn32 M61 x1 x2 x3 x4 x6 ((v61 >>> (x4 &&& 31)) &&& 1) x5))
set_option linter.unusedVariables false in
def FX1_ask_32 (fu : Nat) (D : List LDen) (kn14 : Mem × Int32 × Int32 × Int32 × Int32 → Option TR) (M : Mem) (x1 x2 x3 x4 x5 x6 : Int32) : Option TR := lp (fun kn z => GX1_ask_32 fu D kn kn14 z.1 z.2.1 z.2.2.1 z.2.2.2.1 z.2.2.2.2.1 z.2.2.2.2.2.1 z.2.2.2.2.2.2) fu (M, x1, x2, x3, x4, x5, x6)
set_option linter.unusedVariables false in
def GX1_ask_14 (fu : Nat) (D : List LDen) (kn14 : Mem × Int32 × Int32 × Int32 × Int32 → Option TR) (M : Mem) (x1 x2 x3 x4 : Int32) : Option TR :=
  if 6 ≤ x4 then FX1_ask_117 fu D M x2 else if x1 ≤ 1 then FX1_ask_117 fu D M x2 else FX1_ask_32 fu D kn14 M x1 x2 x3 x4 0 0
set_option linter.unusedVariables false in
def FX1_ask_14 (fu : Nat) (D : List LDen) (M : Mem) (x1 x2 x3 x4 : Int32) : Option TR := lp (fun kn z => GX1_ask_14 fu D kn z.1 z.2.1 z.2.2.1 z.2.2.2.1 z.2.2.2.2) fu (M, x1, x2, x3, x4)
set_option linter.unusedVariables false in
def FX1_ask (fu : Nat) (D : List LDen) (M : Mem) : Option TR :=
  bx (FX1_told fu D M) (fun v1 M1 => FX1_ask_14 fu D M1 v1 (-1) 1000000000 0)
set_option linter.unusedVariables false in
def FX1_tell_74 (fu : Nat) (D : List LDen) (kn25 : Mem × Int32 × Int32 × Int32 × Int32 → Option TR) (M : Mem) (x1 x2 x4 t0 t1 : Int32) : Option TR :=
  lt (t1 ||| t0) (fun y75 => lt (x4 + 1) (fun y76 => kn25 (M, x1, x2, y75, y76)))
set_option linter.unusedVariables false in
def GX1_tell_25 (fu : Nat) (D : List LDen) (kn25 : Mem × Int32 × Int32 × Int32 × Int32 → Option TR) (M : Mem) (x1 x2 x3 x4 : Int32) : Option TR :=
  if (M (0, 0, 0) 7) ≤ x4 then some (0, x3, M) else bd (FX7_counts fu D 0 M x4) (fun _ M43 => gd ((16 * (x2 - 1)) + x1) 128 (if (M43 (3, 0, 3) (((16 * (x2 - 1)) + x1).toNatClampNeg)) ≤ 0 then FX1_tell_74 fu D kn25 M43 x1 x2 x4 0 x3 else FX1_tell_74 fu D kn25 M43 x1 x2 x4 (1 <<< (x4 &&& 31)) x3))
set_option linter.unusedVariables false in
def FX1_tell_25 (fu : Nat) (D : List LDen) (M : Mem) (x1 x2 x3 x4 : Int32) : Option TR := lp (fun kn z => GX1_tell_25 fu D kn z.1 z.2.1 z.2.2.1 z.2.2.2.1 z.2.2.2.2) fu (M, x1, x2, x3, x4)
set_option linter.unusedVariables false in
def FX1_tell (fu : Nat) (D : List LDen) (M : Mem) (x1 x2 : Int32) : Option TR :=
  bd (FX1_isIn fu D M x1 0 15) (fun v4 M4 => bx (FX1_mustBe fu D M4 v4) (fun _ M7 => bd (FX1_isIn fu D M7 x2 1 8) (fun v14 M14 => bx (FX1_must fu D M14 v14) (fun _ M17 => FX1_tell_25 fu D M17 x1 x2 0 0))))
set_option linter.unusedVariables false in
def GX1_lasts_24 (fu : Nat) (D : List LDen) (kn24 : Mem × Int32 × Int32 × Int32 × Int32 → Option TR) (M : Mem) (x1 x2 x3 x4 : Int32) : Option TR :=
  if 99 < x4 then some (0, (-1), M) else bd (FX3_stock fu D 0 M x1 x2) (fun v37 M37 => gd x2 6 (if (v37 + (x4 * (M37 (1, 0, x2.toNatClampNeg) 3))) < x3 then lt (x4 + 1) (fun y63 => kn24 (M37, x1, x2, x3, y63)) else some (0, x4, M37)))
set_option linter.unusedVariables false in
def FX1_lasts_24 (fu : Nat) (D : List LDen) (M : Mem) (x1 x2 x3 x4 : Int32) : Option TR := lp (fun kn z => GX1_lasts_24 fu D kn z.1 z.2.1 z.2.2.1 z.2.2.2.1 z.2.2.2.2) fu (M, x1, x2, x3, x4)
set_option linter.unusedVariables false in
def FX1_lasts (fu : Nat) (D : List LDen) (M : Mem) (x1 x2 x3 : Int32) : Option TR :=
  bx (FX1_isCounsel fu D M x1) (fun _ M2 => bx (FX1_birdAt fu D M2 x2) (fun v7 M7 => gd v7 6 (bd (FX1_isIn fu D M7 x3 1 99) (fun v15 M15 => bx (FX1_must fu D M15 v15) (fun _ M18 => FX1_lasts_24 fu D M18 x1 x2 x3 0)))))
set_option linter.unusedVariables false in
def FX1_won_97 (fu : Nat) (D : List LDen) (kn10 : Mem × Int32 × Int32 × Int32 × Int32 → Option TR) (M : Mem) (x1 x2 x3 x4 : Int32) : Option TR :=
  lt (x4 + 1) (fun y97 => kn10 (M, x1, x2, x3, y97))
set_option linter.unusedVariables false in
def FX1_won_95 (fu : Nat) (D : List LDen) (kn10 : Mem × Int32 × Int32 × Int32 × Int32 → Option TR) (M : Mem) (x1 x2 x4 t0 t1 : Int32) : Option TR :=
  lt (t1 + t0) (fun y96 => FX1_won_97 fu D kn10 M x1 x2 y96 x4)
set_option linter.unusedVariables false in
def FX1_won_87 (fu : Nat) (D : List LDen) (kn10 : Mem × Int32 × Int32 × Int32 × Int32 → Option TR) (M : Mem) (x1 x2 x4 t0 t1 t2 : Int32) : Option TR :=
  if t1 = t0 then FX1_won_95 fu D kn10 M x1 x2 x4 1 t2 else FX1_won_95 fu D kn10 M x1 x2 x4 0 t2
set_option linter.unusedVariables false in
def FX1_won_61 (fu : Nat) (D : List LDen) (kn10 : Mem × Int32 × Int32 × Int32 × Int32 → Option TR) (n5 : Nat) (M : Mem) (x1 x2 x3 x4 t0 : Int32) : Option TR :=
  if t0 ≤ 0 then FX1_won_97 fu D kn10 M x1 x2 x3 x4 else if x2 = 0 then FX1_won_87 fu D kn10 M x1 x2 x4 t0 (M (2, 0, n5) 3) x3 else FX1_won_87 fu D kn10 M x1 x2 x4 (3 - t0) (M (2, 0, n5) 3) x3
set_option linter.unusedVariables false in
def GX1_won_10 (fu : Nat) (D : List LDen) (kn10 : Mem × Int32 × Int32 × Int32 × Int32 → Option TR) (M : Mem) (x1 x2 x3 x4 : Int32) : Option TR :=
  if (M (0, 0, 0) 9) ≤ x4 then some (0, x3, M) else gd x4 12 (if (M (2, 0, x4.toNatClampNeg) 0) = x1 then FX1_won_61 fu D kn10 (x4.toNatClampNeg) M x1 x2 x3 x4 1 else if (M (2, 0, x4.toNatClampNeg) 1) = x1 then FX1_won_61 fu D kn10 (x4.toNatClampNeg) M x1 x2 x3 x4 2 else FX1_won_61 fu D kn10 (x4.toNatClampNeg) M x1 x2 x3 x4 0)
set_option linter.unusedVariables false in
def FX1_won_10 (fu : Nat) (D : List LDen) (M : Mem) (x1 x2 x3 x4 : Int32) : Option TR := lp (fun kn z => GX1_won_10 fu D kn z.1 z.2.1 z.2.2.1 z.2.2.2.1 z.2.2.2.2) fu (M, x1, x2, x3, x4)
set_option linter.unusedVariables false in
def FX1_won (fu : Nat) (D : List LDen) (M : Mem) (x1 x2 : Int32) : Option TR :=
  bx (FX1_isCounsel fu D M x1) (fun _ M2 => FX1_won_10 fu D M2 x1 x2 0 0)
set_option linter.unusedVariables false in
def FX1_widest_104 (fu : Nat) (D : List LDen) (kn39 : Mem × Int32 × Int32 × Int32 × Int32 × Int32 × Int32 → Option TR) (M : Mem) (x1 x2 x3 x4 x5 x6 : Int32) : Option TR :=
  lt (x6 + 1) (fun y104 => kn39 (M, x1, x2, x3, x4, x5, y104))
set_option linter.unusedVariables false in
def GX1_widest_39 (fu : Nat) (D : List LDen) (kn39 : Mem × Int32 × Int32 × Int32 × Int32 × Int32 × Int32 → Option TR) (M : Mem) (x1 x2 x3 x4 x5 x6 : Int32) : Option TR :=
  if 16 ≤ (x6 + x3) then lt (up M (0, 0, 0) 14 x2) (fun M115 => lt (up M115 (0, 0, 0) 15 (x2 + x3)) (fun M125 => some (0, x4, M125))) else lt (up M (0, 0, 0) 14 x6) (fun M54 => lt (up M54 (0, 0, 0) 15 (x6 + x3)) (fun M65 => bd (FX7_counts fu D 0 M65 x1) (fun _ M73 => bd (FX7_good fu D 0 M73) (fun v80 M80 => if x5 < v80 then bd (FX7_good fu D 0 M80) (fun v95 M95 => FX1_widest_104 fu D kn39 M95 x1 x2 x3 x6 v95 x6) else FX1_widest_104 fu D kn39 M80 x1 x2 x3 x4 x5 x6))))
set_option linter.unusedVariables false in
def FX1_widest_39 (fu : Nat) (D : List LDen) (M : Mem) (x1 x2 x3 x4 x5 x6 : Int32) : Option TR := lp (fun kn z => GX1_widest_39 fu D kn z.1 z.2.1 z.2.2.1 z.2.2.2.1 z.2.2.2.2.1 z.2.2.2.2.2.1 z.2.2.2.2.2.2) fu (M, x1, x2, x3, x4, x5, x6)
set_option linter.unusedVariables false in
def FX1_widest (fu : Nat) (D : List LDen) (M : Mem) (x1 : Int32) : Option TR :=
  bx (FX1_birdAt fu D M x1) (fun v2 M2 => gd v2 6 (lt (M2 (0, 0, 0) 14) (fun y13 => lt ((M2 (0, 0, 0) 15) - (M2 (0, 0, 0) 14)) (fun y29 => FX1_widest_39 fu D M2 x1 y13 y29 0 (-1) 0))))
set_option linter.unusedVariables false in
def FX1_calls_29 (fu : Nat) (D : List LDen) (kn6 : Mem × Int32 × Int32 × Int32 × Int32 × Int32 → Option (Int32 × Mem)) (M : Mem) (x1 x2 x3 x5 t0 t1 : Int32) : Option (Int32 × Mem) :=
  lt (t1 + t0) (fun y30 => lt (x5 + 1) (fun y32 => kn6 (M, x1, x2, x3, y30, y32)))
set_option linter.unusedVariables false in
def GX1_calls_6 (fu : Nat) (D : List LDen) (kn6 : Mem × Int32 × Int32 × Int32 × Int32 × Int32 → Option (Int32 × Mem)) (M : Mem) (x1 x2 x3 x4 x5 : Int32) : Option (Int32 × Mem) :=
  if x3 ≤ x5 then some (x4, M) else bd (FX1_flies fu D M x1 x2) (fun v17 M17 => if v17 = 1 then FX1_calls_29 fu D kn6 M17 x1 x2 x3 x5 1 x4 else FX1_calls_29 fu D kn6 M17 x1 x2 x3 x5 0 x4)
set_option linter.unusedVariables false in
def FX1_calls_6 (fu : Nat) (D : List LDen) (M : Mem) (x1 x2 x3 x4 x5 : Int32) : Option (Int32 × Mem) := lp (fun kn z => GX1_calls_6 fu D kn z.1 z.2.1 z.2.2.1 z.2.2.2.1 z.2.2.2.2.1 z.2.2.2.2.2) fu (M, x1, x2, x3, x4, x5)
set_option linter.unusedVariables false in
def FX1_calls (fu : Nat) (D : List LDen) (M : Mem) (x1 x2 x3 : Int32) : Option (Int32 × Mem) :=
  FX1_calls_6 fu D M x1 x2 x3 0 0
set_option linter.unusedVariables false in
def FX1_trial (fu : Nat) (D : List LDen) (M : Mem) (x1 x2 x3 : Int32) : Option TR :=
  bx (FX1_birdAt fu D M x1) (fun v2 M2 => gd v2 6 (bx (FX1_birdAt fu D M2 x2) (fun v8 M8 => gd v8 6 (bd (FX1_isIn fu D M8 x3 0 40) (fun v16 M16 => bx (FX1_must fu D M16 v16) (fun _ M19 => lt (M19 (0, 0, 0) 18) (fun y29 => bd (FX1_calls fu D M19 x1 x2 x3) (fun v35 M35 => lt (up M35 (0, 0, 0) 18 y29) (fun M46 => some (0, v35, M46))))))))))
set_option linter.unusedVariables false in
def FX1_span_95 (fu : Nat) (D : List LDen) (kn48 : Mem × Int32 × Int32 × Int32 × Int32 × Int32 × Int32 × Int32 → Option TR) (M : Mem) (x1 x2 x3 x4 x5 x7 t0 : Int32) : Option TR :=
  lt (x7 + 1) (fun y97 => kn48 (M, x1, x2, x3, x4, x5, t0, y97))
set_option linter.unusedVariables false in
def GX1_span_48 (fu : Nat) (D : List LDen) (kn48 : Mem × Int32 × Int32 × Int32 × Int32 × Int32 × Int32 × Int32 → Option TR) (M : Mem) (x1 x2 x3 x4 x5 x6 x7 : Int32) : Option TR :=
  if 6 < x7 then lt (up M (0, 0, 0) 18 x5) (fun M109 => some (0, x6, M109)) else lt (up M (0, 0, 0) 18 x7) (fun M61 => bd (FX1_calls fu D M61 x1 x2 x3) (fun v68 M68 => if x4 = 0 then FX1_span_95 fu D kn48 M68 x1 x2 x3 x4 x5 x7 (mn x6 v68) else FX1_span_95 fu D kn48 M68 x1 x2 x3 x4 x5 x7 (mx x6 v68)))
set_option linter.unusedVariables false in
def FX1_span_48 (fu : Nat) (D : List LDen) (M : Mem) (x1 x2 x3 x4 x5 x6 x7 : Int32) : Option TR := lp (fun kn z => GX1_span_48 fu D kn z.1 z.2.1 z.2.2.1 z.2.2.2.1 z.2.2.2.2.1 z.2.2.2.2.2.1 z.2.2.2.2.2.2.1 z.2.2.2.2.2.2.2) fu (M, x1, x2, x3, x4, x5, x6, x7)
set_option linter.unusedVariables false in
def FX1_span_43 (fu : Nat) (D : List LDen) (M : Mem) (x1 x2 x3 x4 x5 t0 : Int32) : Option TR :=
  FX1_span_48 fu D M x1 x2 x3 x4 x5 t0 1
set_option linter.unusedVariables false in
def FX1_span (fu : Nat) (D : List LDen) (M : Mem) (x1 x2 x3 x4 : Int32) : Option TR :=
  bx (FX1_birdAt fu D M x1) (fun v2 M2 => gd v2 6 (bx (FX1_birdAt fu D M2 x2) (fun v8 M8 => gd v8 6 (bd (FX1_isIn fu D M8 x3 0 40) (fun v16 M16 => bx (FX1_must fu D M16 v16) (fun _ M19 => lt (M19 (0, 0, 0) 18) (fun y29 => if x4 = 0 then FX1_span_43 fu D M19 x1 x2 x3 x4 y29 1000000000 else FX1_span_43 fu D M19 x1 x2 x3 x4 y29 0)))))))
set_option linter.unusedVariables false in
def FX1_led_143 (fu : Nat) (D : List LDen) (kn11 : Mem × Int32 × Int32 × Int32 × Int32 → Option TR) (M : Mem) (x1 x2 x4 t0 t1 : Int32) : Option TR :=
  lt (t1 + t0) (fun y144 => lt (x4 + 1) (fun y145 => kn11 (M, x1, x2, y144, y145)))
set_option linter.unusedVariables false in
def FX1_led_138 (fu : Nat) (D : List LDen) (kn11 : Mem × Int32 × Int32 × Int32 × Int32 → Option TR) (M : Mem) (x1 x2 x4 t0 : Int32) : Option TR :=
  FX1_led_143 fu D kn11 M x1 x2 x4 1 t0
set_option linter.unusedVariables false in
def FX1_led_108 (fu : Nat) (D : List LDen) (kn11 : Mem × Int32 × Int32 × Int32 × Int32 → Option TR) (M : Mem) (x1 x2 x3 x4 x5 x6 t0 : Int32) : Option TR :=
  if x2 = 0 then if x5 = 0 then if x6 = 0 then FX1_led_143 fu D kn11 M x1 x2 x4 0 x3 else FX1_led_138 fu D kn11 M x1 x2 x4 x3 else FX1_led_138 fu D kn11 M x1 x2 x4 x3 else if t0 = 0 then FX1_led_143 fu D kn11 M x1 x2 x4 0 x3 else FX1_led_143 fu D kn11 M x1 x2 x4 1 x3
set_option linter.unusedVariables false in
def FX1_led_107 (fu : Nat) (D : List LDen) (kn11 : Mem × Int32 × Int32 × Int32 × Int32 → Option TR) (M : Mem) (x1 x2 x3 x4 x5 x6 : Int32) : Option TR :=
  FX1_led_108 fu D kn11 M x1 x2 x3 x4 x5 x6 0
set_option linter.unusedVariables false in
def FX1_led_103 (fu : Nat) (D : List LDen) (kn11 : Mem × Int32 × Int32 × Int32 × Int32 → Option TR) (M : Mem) (x1 x2 x3 x4 x5 x6 : Int32) : Option TR :=
  FX1_led_108 fu D kn11 M x1 x2 x3 x4 x5 x6 1
set_option linter.unusedVariables false in
def FX1_led_84 (fu : Nat) (D : List LDen) (kn11 : Mem × Int32 × Int32 × Int32 × Int32 → Option TR) (M : Mem) (x1 x2 x3 x4 x5 x6 : Int32) : Option TR :=
  if x6 = 0 then FX1_led_107 fu D kn11 M x1 x2 x3 x4 x5 x6 else bd (FX3_row fu D 0 M x4 4) (fun v96 M96 => if v96 = 2 then FX1_led_103 fu D kn11 M96 x1 x2 x3 x4 x5 x6 else FX1_led_107 fu D kn11 M96 x1 x2 x3 x4 x5 x6)
set_option linter.unusedVariables false in
def FX1_led_63 (fu : Nat) (D : List LDen) (kn11 : Mem × Int32 × Int32 × Int32 × Int32 → Option TR) (M : Mem) (x1 x2 x3 x4 x5 t0 : Int32) : Option TR :=
  if x5 = 0 then FX1_led_84 fu D kn11 M x1 x2 x3 x4 x5 t0 else bd (FX3_row fu D 0 M x4 4) (fun v77 M77 => if v77 = 1 then FX1_led_103 fu D kn11 M77 x1 x2 x3 x4 x5 t0 else FX1_led_84 fu D kn11 M77 x1 x2 x3 x4 x5 t0)
set_option linter.unusedVariables false in
def FX1_led_42 (fu : Nat) (D : List LDen) (kn11 : Mem × Int32 × Int32 × Int32 × Int32 → Option TR) (M : Mem) (x1 x2 x3 x4 t0 : Int32) : Option TR :=
  bd (FX3_row fu D 0 M x4 3) (fun v51 M51 => if v51 = x1 then FX1_led_63 fu D kn11 M51 x1 x2 x3 x4 t0 1 else FX1_led_63 fu D kn11 M51 x1 x2 x3 x4 t0 0)
set_option linter.unusedVariables false in
def GX1_led_11 (fu : Nat) (D : List LDen) (kn11 : Mem × Int32 × Int32 × Int32 × Int32 → Option TR) (M : Mem) (x1 x2 x3 x4 : Int32) : Option TR :=
  bd (FX3_isKept fu D 0 M x4) (fun v17 M17 => if v17 = 0 then some (0, x3, M17) else bd (FX3_row fu D 0 M17 x4 2) (fun v30 M30 => if v30 = x1 then FX1_led_42 fu D kn11 M30 x1 x2 x3 x4 1 else FX1_led_42 fu D kn11 M30 x1 x2 x3 x4 0))
set_option linter.unusedVariables false in
def FX1_led_11 (fu : Nat) (D : List LDen) (M : Mem) (x1 x2 x3 x4 : Int32) : Option TR := lp (fun kn z => GX1_led_11 fu D kn z.1 z.2.1 z.2.2.1 z.2.2.2.1 z.2.2.2.2) fu (M, x1, x2, x3, x4)
set_option linter.unusedVariables false in
def FX1_led (fu : Nat) (D : List LDen) (M : Mem) (x1 x2 : Int32) : Option TR :=
  bx (FX1_birdAt fu D M x1) (fun v2 M2 => gd v2 6 (FX1_led_11 fu D M2 x1 x2 0 0))
set_option linter.unusedVariables false in
def FX1_log (fu : Nat) (D : List LDen) (M : Mem) (x1 x2 : Int32) : Option TR :=
  bd (FX1_isIn fu D M x2 0 5) (fun v3 M3 => bx (FX1_thereIs fu D M3 v3) (fun _ M6 => bd (FX3_row fu D 0 M6 x1 x2) (fun v15 M15 => some (0, v15, M15))))
