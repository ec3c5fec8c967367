/-! FeatherYardLaw, the calls (printed by gen/gen.py) -/
set_option maxRecDepth 100000
set_option linter.unusedVariables false in
def FX0_court (fu : Nat) (D : List LDen) (M : Mem) : Option TR :=
  bh (FX1_court fu D M) (fun v3 M3 => gd 0 1 (lt (up M3 (7, 0, 0) 0 v3) (fun M7 => some (0, 0, M7)))) (fun e M3 => if e = 1 then some (0, 1, M3) else if e = 2 then some (0, 2, M3) else none)
set_option linter.unusedVariables false in
def FX0_bird (fu : Nat) (D : List LDen) (M : Mem) (x1 x2 : Int32) : Option TR :=
  bh (FX1_bird fu D M x1 x2) (fun v5 M5 => gd 0 1 (lt (up M5 (7, 0, 0) 0 v5) (fun M9 => some (0, 0, M9)))) (fun e M5 => if e = 3 then some (0, 1, M5) else if e = 4 then some (0, 2, M5) else none)
set_option linter.unusedVariables false in
def FX0_stock (fu : Nat) (D : List LDen) (M : Mem) (x1 x2 : Int32) : Option TR :=
  bh (FX1_stock fu D M x1 x2) (fun v5 M5 => gd 0 1 (lt (up M5 (7, 0, 0) 0 v5) (fun M9 => some (0, 0, M9)))) (fun e M5 => if e = 3 then some (0, 1, M5) else none)
set_option linter.unusedVariables false in
def FX0_matter (fu : Nat) (D : List LDen) (M : Mem) (x1 x2 : Int32) : Option TR :=
  bh (FX1_matter fu D M x1 x2) (fun v5 M5 => gd 0 1 (lt (up M5 (7, 0, 0) 0 v5) (fun M9 => some (0, 0, M9)))) (fun e M5 => if e = 3 then some (0, 1, M5) else if e = 4 then some (0, 2, M5) else none)
set_option linter.unusedVariables false in
def FX0_wind (fu : Nat) (D : List LDen) (M : Mem) (x1 : Int32) : Option TR :=
  bh (FX1_wind fu D M x1) (fun v4 M4 => gd 0 1 (lt (up M4 (7, 0, 0) 0 v4) (fun M8 => some (0, 0, M8)))) (fun e M4 => if e = 3 then some (0, 1, M4) else none)
set_option linter.unusedVariables false in
def FX0_moves (fu : Nat) (D : List LDen) (M : Mem) (x1 x2 x3 x4 x5 : Int32) : Option TR :=
  bh (FX1_moves fu D M x1 x2 x3 x4 x5) (fun v11 M11 => gd 0 1 (lt (up M11 (7, 0, 0) 0 v11) (fun M15 => some (0, 0, M15)))) (fun e M11 => if e = 3 then some (0, 1, M11) else if e = 1 then some (0, 2, M11) else none)
set_option linter.unusedVariables false in
def FX0_call (fu : Nat) (D : List LDen) (M : Mem) (x1 x2 x3 : Int32) : Option TR :=
  bh (FX1_call fu D M x1 x2 x3) (fun v7 M7 => gd 0 1 (lt (up M7 (7, 0, 0) 0 v7) (fun M11 => some (0, 0, M11)))) (fun e M7 => if e = 3 then some (0, 1, M7) else if e = 5 then some (0, 2, M7) else none)
set_option linter.unusedVariables false in
def FX0_hour (fu : Nat) (D : List LDen) (M : Mem) (x1 : Int32) : Option TR :=
  bh (FX1_hour fu D M x1) (fun v4 M4 => gd 0 1 (lt (up M4 (7, 0, 0) 0 v4) (fun M8 => some (0, 0, M8)))) (fun e M4 => if e = 1 then some (0, 1, M4) else none)
set_option linter.unusedVariables false in
def FX0_blow (fu : Nat) (D : List LDen) (M : Mem) (x1 x2 : Int32) : Option TR :=
  bh (FX1_blow fu D M x1 x2) (fun v5 M5 => gd 0 1 (lt (up M5 (7, 0, 0) 0 v5) (fun M9 => some (0, 0, M9)))) (fun e M5 => if e = 3 then some (0, 1, M5) else if e = 1 then some (0, 2, M5) else none)
set_option linter.unusedVariables false in
def FX0_give (fu : Nat) (D : List LDen) (M : Mem) (x1 x2 x3 x4 : Int32) : Option TR :=
  bh (FX1_give fu D M x1 x2 x3 x4) (fun v9 M9 => gd 0 1 (lt (up M9 (7, 0, 0) 0 v9) (fun M13 => some (0, 0, M13)))) (fun e M9 => if e = 3 then some (0, 1, M9) else if e = 1 then some (0, 2, M9) else none)
set_option linter.unusedVariables false in
def FX0_appeal (fu : Nat) (D : List LDen) (M : Mem) (x1 : Int32) : Option TR :=
  bh (FX1_appeal fu D M x1) (fun v4 M4 => gd 0 1 (lt (up M4 (7, 0, 0) 0 v4) (fun M8 => some (0, 0, M8)))) (fun e M4 => if e = 3 then some (0, 1, M4) else if e = 5 then some (0, 2, M4) else none)
set_option linter.unusedVariables false in
def FX0_weeks (fu : Nat) (D : List LDen) (M : Mem) (x1 : Int32) : Option TR :=
  bh (FX1_weeks fu D M x1) (fun v4 M4 => gd 0 1 (lt (up M4 (7, 0, 0) 0 v4) (fun M8 => some (0, 0, M8)))) (fun e M4 => if e = 1 then some (0, 1, M4) else none)
set_option linter.unusedVariables false in
def FX0_ways (fu : Nat) (D : List LDen) (M : Mem) (x1 x2 : Int32) : Option TR :=
  bh (FX1_ways fu D M x1 x2) (fun v5 M5 => gd 0 1 (lt (up M5 (7, 0, 0) 0 v5) (fun M9 => some (0, 0, M9)))) (fun e M5 => if e = 3 then some (0, 1, M5) else if e = 4 then some (0, 2, M5) else none)
set_option linter.unusedVariables false in
def FX0_lands (fu : Nat) (D : List LDen) (M : Mem) (x1 x2 : Int32) : Option TR :=
  bh (FX1_lands fu D M x1 x2) (fun v5 M5 => gd 0 1 (lt (up M5 (7, 0, 0) 0 v5) (fun M9 => some (0, 0, M9)))) (fun e M5 => if e = 3 then some (0, 1, M5) else none)
set_option linter.unusedVariables false in
def FX0_good (fu : Nat) (D : List LDen) (M : Mem) (x1 x2 : Int32) : Option TR :=
  bh (FX1_good fu D M x1 x2) (fun v5 M5 => gd 0 1 (lt (up M5 (7, 0, 0) 0 v5) (fun M9 => some (0, 0, M9)))) (fun e M5 => if e = 3 then some (0, 1, M5) else if e = 1 then some (0, 2, M5) else none)
set_option linter.unusedVariables false in
def FX0_straight (fu : Nat) (D : List LDen) (M : Mem) (x1 x2 : Int32) : Option TR :=
  bh (FX1_straight fu D M x1 x2) (fun v5 M5 => gd 0 1 (lt (up M5 (7, 0, 0) 0 v5) (fun M9 => some (0, 0, M9)))) (fun e M5 => if e = 3 then some (0, 1, M5) else none)
set_option linter.unusedVariables false in
def FX0_odds (fu : Nat) (D : List LDen) (M : Mem) (x1 x2 x3 : Int32) : Option TR :=
  bh (FX1_odds fu D M x1 x2 x3) (fun v7 M7 => gd 0 1 (lt (up M7 (7, 0, 0) 0 v7) (fun M11 => some (0, 0, M11)))) (fun e M7 => if e = 3 then some (0, 1, M7) else if e = 4 then some (0, 2, M7) else none)
set_option linter.unusedVariables false in
def FX0_best (fu : Nat) (D : List LDen) (M : Mem) (x1 x2 : Int32) : Option TR :=
  bh (FX1_best fu D M x1 x2) (fun v5 M5 => gd 0 1 (lt (up M5 (7, 0, 0) 0 v5) (fun M9 => some (0, 0, M9)))) (fun e M5 => if e = 3 then some (0, 1, M5) else none)
set_option linter.unusedVariables false in
def FX0_when (fu : Nat) (D : List LDen) (M : Mem) (x1 x2 : Int32) : Option TR :=
  bh (FX1_when fu D M x1 x2) (fun v5 M5 => gd 0 1 (lt (up M5 (7, 0, 0) 0 v5) (fun M9 => some (0, 0, M9)))) (fun e M5 => if e = 3 then some (0, 1, M5) else none)
set_option linter.unusedVariables false in
def FX0_surest (fu : Nat) (D : List LDen) (M : Mem) (x1 x2 x3 : Int32) : Option TR :=
  bh (FX1_surest fu D M x1 x2 x3) (fun v7 M7 => gd 0 1 (lt (up M7 (7, 0, 0) 0 v7) (fun M11 => some (0, 0, M11)))) (fun e M7 => if e = 3 then some (0, 1, M7) else if e = 5 then some (0, 2, M7) else none)
set_option linter.unusedVariables false in
def FX0_rests (fu : Nat) (D : List LDen) (M : Mem) (x1 x2 : Int32) : Option TR :=
  bh (FX1_rests fu D M x1 x2) (fun v5 M5 => gd 0 1 (lt (up M5 (7, 0, 0) 0 v5) (fun M9 => some (0, 0, M9)))) (fun e M5 => if e = 3 then some (0, 1, M5) else if e = 5 then some (0, 2, M5) else none)
set_option linter.unusedVariables false in
def FX0_fair (fu : Nat) (D : List LDen) (M : Mem) (x1 : Int32) : Option TR :=
  bh (FX1_fair fu D M x1) (fun v4 M4 => gd 0 1 (lt (up M4 (7, 0, 0) 0 v4) (fun M8 => some (0, 0, M8)))) (fun e M4 => if e = 3 then some (0, 1, M4) else if e = 5 then some (0, 2, M4) else none)
set_option linter.unusedVariables false in
def FX0_songs (fu : Nat) (D : List LDen) (M : Mem) (x1 : Int32) : Option TR :=
  bh (FX1_songs fu D M x1) (fun v4 M4 => gd 0 1 (lt (up M4 (7, 0, 0) 0 v4) (fun M8 => some (0, 0, M8)))) (fun e M4 => if e = 1 then some (0, 1, M4) else none)
set_option linter.unusedVariables false in
def FX0_ask (fu : Nat) (D : List LDen) (M : Mem) : Option TR :=
  bh (FX1_ask fu D M) (fun v3 M3 => gd 0 1 (lt (up M3 (7, 0, 0) 0 v3) (fun M7 => some (0, 0, M7)))) (fun e M3 => if e = 1 then some (0, 1, M3) else none)
set_option linter.unusedVariables false in
def FX0_tell (fu : Nat) (D : List LDen) (M : Mem) (x1 x2 : Int32) : Option TR :=
  bh (FX1_tell fu D M x1 x2) (fun v5 M5 => gd 0 1 (lt (up M5 (7, 0, 0) 0 v5) (fun M9 => some (0, 0, M9)))) (fun e M5 => if e = 3 then some (0, 1, M5) else if e = 1 then some (0, 2, M5) else none)
set_option linter.unusedVariables false in
def FX0_lasts (fu : Nat) (D : List LDen) (M : Mem) (x1 x2 x3 : Int32) : Option TR :=
  bh (FX1_lasts fu D M x1 x2 x3) (fun v7 M7 => gd 0 1 (lt (up M7 (7, 0, 0) 0 v7) (fun M11 => some (0, 0, M11)))) (fun e M7 => if e = 3 then some (0, 1, M7) else if e = 1 then some (0, 2, M7) else none)
set_option linter.unusedVariables false in
def FX0_won (fu : Nat) (D : List LDen) (M : Mem) (x1 x2 : Int32) : Option TR :=
  bh (FX1_won fu D M x1 x2) (fun v5 M5 => gd 0 1 (lt (up M5 (7, 0, 0) 0 v5) (fun M9 => some (0, 0, M9)))) (fun e M5 => if e = 3 then some (0, 1, M5) else none)
set_option linter.unusedVariables false in
def FX0_widest (fu : Nat) (D : List LDen) (M : Mem) (x1 : Int32) : Option TR :=
  bh (FX1_widest fu D M x1) (fun v4 M4 => gd 0 1 (lt (up M4 (7, 0, 0) 0 v4) (fun M8 => some (0, 0, M8)))) (fun e M4 => if e = 3 then some (0, 1, M4) else none)
set_option linter.unusedVariables false in
def FX0_trial (fu : Nat) (D : List LDen) (M : Mem) (x1 x2 x3 : Int32) : Option TR :=
  bh (FX1_trial fu D M x1 x2 x3) (fun v7 M7 => gd 0 1 (lt (up M7 (7, 0, 0) 0 v7) (fun M11 => some (0, 0, M11)))) (fun e M7 => if e = 3 then some (0, 1, M7) else if e = 1 then some (0, 2, M7) else none)
set_option linter.unusedVariables false in
def FX0_span (fu : Nat) (D : List LDen) (M : Mem) (x1 x2 x3 x4 : Int32) : Option TR :=
  bh (FX1_span fu D M x1 x2 x3 x4) (fun v9 M9 => gd 0 1 (lt (up M9 (7, 0, 0) 0 v9) (fun M13 => some (0, 0, M13)))) (fun e M9 => if e = 3 then some (0, 1, M9) else if e = 1 then some (0, 2, M9) else none)
set_option linter.unusedVariables false in
def FX0_led (fu : Nat) (D : List LDen) (M : Mem) (x1 x2 : Int32) : Option TR :=
  bh (FX1_led fu D M x1 x2) (fun v5 M5 => gd 0 1 (lt (up M5 (7, 0, 0) 0 v5) (fun M9 => some (0, 0, M9)))) (fun e M5 => if e = 3 then some (0, 1, M5) else none)
set_option linter.unusedVariables false in
def FX0_log (fu : Nat) (D : List LDen) (M : Mem) (x1 x2 : Int32) : Option TR :=
  bh (FX1_log fu D M x1 x2) (fun v5 M5 => gd 0 1 (lt (up M5 (7, 0, 0) 0 v5) (fun M9 => some (0, 0, M9)))) (fun e M5 => if e = 4 then some (0, 1, M5) else none)
set_option linter.unusedVariables false in
set_option maxRecDepth 100000 in
theorem wX0_court {X : JX} (hC : JC X cX0_court RX0 (some .int) 12 303 1 6) (hT : JTW X [(0, 8, 11, 13), (0, 8, 14, 15)]) (hG : dmI dmX (XG X)) (hnl : nLof X = 3) (fu : Nat) (M : Mem) : J X (ZT X foI 1 6) (FX0_court fu (XD X) M) 0 [(0, .ref (gadr (XG X) (4, 0, 0))), (1, .ref (gadr (XG X) (7, 0, 0)))] [] M 0 0 := by
  unfold FX0_court
  refine j_aload_n hC 1 dX0_court_0 rfl ?_
  refine j_iconst (v := 0) hC dX0_court_1 (by decide) ?_
  refine j_aload_n hC 0 dX0_court_2 rfl ?_
  refine j_callVHW (nA := 0) (rest := [.int 0, .ref (gadr (XG X) (7, 0, 0))]) hC [] rfl (fun r hr => mX1_court (XL X) (JTW.st hT) (XG X) hG fu (XD X) M r hr) q737 q738 q739 q126 q740 (dmY hG rfl) rfl rfl (by decide +kernel) rfl rfl rfl rfl rfl rfl dX0_court_3 (fun v3 => [.int v3, .int 0, .ref (gadr (XG X) (7, 0, 0))]) (fun _ => rfl) (fun v3 M3 => ?_) (fun e M3 => ?_)
  · refine j_i2l hC dX0_court_6 ?_
    refine j_last hC (dmO hG) rfl dX0_court_7 (fun h7 => ?_)
    refine j_lt (fun M7 => ?_)
    refine j_goto (tgt := 17) hC dX0_court_8 (by decide) ?_
    refine j_iconst (v := 0) hC dX0_court_17 (by decide) ?_
    exact j_iretT hC rfl rfl dX0_court_18
  · refine jh_case ?_ ?_
    · refine jh_catch hC hT (by decide) (by decide) (by decide) q735 (by decide +kernel) (fun q3 => ?_)
      refine j_astore_n hC [(2, .ref q3), (0, .ref (gadr (XG X) (4, 0, 0))), (1, .ref (gadr (XG X) (7, 0, 0)))] hnl dX0_court_11 rfl rfl ?_
      refine j_iconst (v := 1) hC dX0_court_12 (by decide) ?_
      exact j_iretT hC rfl rfl dX0_court_13
    refine jh_case ?_ ?_
    · refine jh_catch2 (nm0 := exN 1) hC hT (by decide) (by decide) (by decide) (by decide) q735 (by decide +kernel) q736 (by decide +kernel) (fun q3 => ?_)
      refine j_astore_n hC [(2, .ref q3), (0, .ref (gadr (XG X) (4, 0, 0))), (1, .ref (gadr (XG X) (7, 0, 0)))] hnl dX0_court_14 rfl rfl ?_
      refine j_iconst (v := 2) hC dX0_court_15 (by decide) ?_
      exact j_iretT hC rfl rfl dX0_court_16
    exact jh_none
set_option linter.unusedVariables false in
set_option maxRecDepth 100000 in
theorem mX0_court (l : Launch) (hst : l.stackTraces = false) (Γ : xG) (hG : dmI dmX Γ) (fu : Nat) (D : List LDen) (M : Mem) (r : TR) (hr : FX0_court fu D M = some r) : CT l yX0_court (wsW_ yX0_court cX0_court 3 (some .int) [(0, 8, 11, 13), (0, 8, 14, 15)]) 12 303 1 6 Γ D [.ref (gadr Γ (4, 0, 0)), .ref (gadr Γ (7, 0, 0))] M foI r := by
  refine CTW.of hst (own := RX0) (lv0 := lv_args 0 [.ref (gadr Γ (4, 0, 0)), .ref (gadr Γ (7, 0, 0))]) (by decide +kernel) rfl (Nat.le_of_ble_eq_true rfl) rfl (fun X e1 e2 e3 e4 hC hT => ?_) r hr
  subst e1
  subst e2
  exact wX0_court hC hT hG e4 fu M
set_option linter.unusedVariables false in
set_option maxRecDepth 100000 in
theorem wX0_bird {X : JX} (hC : JC X cX0_bird RX0 (some .int) 9 157 2 12) (hT : JTW X [(0, 10, 13, 24), (0, 10, 17, 26)]) (hG : dmI dmX (XG X)) (hnl : nLof X = 5) (fu : Nat) (M : Mem) (x1 x2 : Int32) : J X (ZT X foI 2 12) (FX0_bird fu (XD X) M x1 x2) 0 [(0, .ref (gadr (XG X) (4, 0, 0))), (1, .int x1), (2, .int x2), (3, .ref (gadr (XG X) (7, 0, 0)))] [] M 0 0 := by
  unfold FX0_bird
  refine j_aload_n hC 3 dX0_bird_0 rfl ?_
  refine j_iconst (v := 0) hC dX0_bird_1 (by decide) ?_
  refine j_aload_n hC 0 dX0_bird_2 rfl ?_
  refine j_iload_n hC 1 dX0_bird_3 rfl ?_
  refine j_iload_n hC 2 dX0_bird_4 rfl ?_
  refine j_callVH (nA := 2) (rest := [.int 0, .ref (gadr (XG X) (7, 0, 0))]) hC [.int x1, .int x2] rfl (fun r hr => mX1_bird (XL X) (JTW.st hT) (XG X) hG fu (XD X) M x1 x2 r hr) q1085 q1086 q1087 q126 q1088 (dmY hG rfl) rfl rfl (by decide +kernel) rfl rfl rfl rfl rfl rfl dX0_bird_5 (fun v5 => [.int v5, .int 0, .ref (gadr (XG X) (7, 0, 0))]) (fun _ => rfl) (fun v5 M5 => ?_) (fun e M5 => ?_)
  · refine j_i2l hC dX0_bird_8 ?_
    refine j_last hC (dmO hG) rfl dX0_bird_9 (fun h9 => ?_)
    refine j_lt (fun M9 => ?_)
    refine j_goto (tgt := 21) hC dX0_bird_10 (by decide) ?_
    refine j_iconst (v := 0) hC dX0_bird_21 (by decide) ?_
    exact j_iretT hC rfl rfl dX0_bird_22
  · refine jh_case ?_ ?_
    · refine jh_catch hC hT (by decide) (by decide) (by decide) q1052 (by decide +kernel) (fun q5 => ?_)
      refine j_astore hC [(4, .ref q5), (0, .ref (gadr (XG X) (4, 0, 0))), (1, .int x1), (2, .int x2), (3, .ref (gadr (XG X) (7, 0, 0)))] hnl dX0_bird_13 rfl rfl ?_
      refine j_iconst (v := 1) hC dX0_bird_15 (by decide) ?_
      exact j_iretT hC rfl rfl dX0_bird_16
    refine jh_case ?_ ?_
    · refine jh_catch2 (nm0 := exN 3) hC hT (by decide) (by decide) (by decide) (by decide) q1052 (by decide +kernel) q1084 (by decide +kernel) (fun q5 => ?_)
      refine j_astore hC [(4, .ref q5), (0, .ref (gadr (XG X) (4, 0, 0))), (1, .int x1), (2, .int x2), (3, .ref (gadr (XG X) (7, 0, 0)))] hnl dX0_bird_17 rfl rfl ?_
      refine j_iconst (v := 2) hC dX0_bird_19 (by decide) ?_
      exact j_iretT hC rfl rfl dX0_bird_20
    exact jh_none
set_option linter.unusedVariables false in
set_option maxRecDepth 100000 in
theorem mX0_bird (l : Launch) (hst : l.stackTraces = false) (Γ : xG) (hG : dmI dmX Γ) (fu : Nat) (D : List LDen) (M : Mem) (x1 x2 : Int32) (r : TR) (hr : FX0_bird fu D M x1 x2 = some r) : CT l yX0_bird (wsW_ yX0_bird cX0_bird 5 (some .int) [(0, 10, 13, 24), (0, 10, 17, 26)]) 9 157 2 12 Γ D [.ref (gadr Γ (4, 0, 0)), .int x1, .int x2, .ref (gadr Γ (7, 0, 0))] M foI r := by
  refine CTW.of hst (own := RX0) (lv0 := lv_args 0 [.ref (gadr Γ (4, 0, 0)), .int x1, .int x2, .ref (gadr Γ (7, 0, 0))]) (by decide +kernel) rfl (Nat.le_of_ble_eq_true rfl) rfl (fun X e1 e2 e3 e4 hC hT => ?_) r hr
  subst e1
  subst e2
  exact wX0_bird hC hT hG e4 fu M x1 x2
set_option linter.unusedVariables false in
set_option maxRecDepth 100000 in
theorem wX0_stock {X : JX} (hC : JC X cX0_stock RX0 (some .int) 9 156 2 12) (hT : JTW X [(0, 10, 13, 24)]) (hG : dmI dmX (XG X)) (hnl : nLof X = 5) (fu : Nat) (M : Mem) (x1 x2 : Int32) : J X (ZT X foI 2 12) (FX0_stock fu (XD X) M x1 x2) 0 [(0, .ref (gadr (XG X) (4, 0, 0))), (1, .int x1), (2, .int x2), (3, .ref (gadr (XG X) (7, 0, 0)))] [] M 0 0 := by
  unfold FX0_stock
  refine j_aload_n hC 3 dX0_stock_0 rfl ?_
  refine j_iconst (v := 0) hC dX0_stock_1 (by decide) ?_
  refine j_aload_n hC 0 dX0_stock_2 rfl ?_
  refine j_iload_n hC 1 dX0_stock_3 rfl ?_
  refine j_iload_n hC 2 dX0_stock_4 rfl ?_
  refine j_callVH (nA := 2) (rest := [.int 0, .ref (gadr (XG X) (7, 0, 0))]) hC [.int x1, .int x2] rfl (fun r hr => mX1_stock (XL X) (JTW.st hT) (XG X) hG fu (XD X) M x1 x2 r hr) q1129 q1130 q1131 q126 q1132 (dmY hG rfl) rfl rfl (by decide +kernel) rfl rfl rfl rfl rfl rfl dX0_stock_5 (fun v5 => [.int v5, .int 0, .ref (gadr (XG X) (7, 0, 0))]) (fun _ => rfl) (fun v5 M5 => ?_) (fun e M5 => ?_)
  · refine j_i2l hC dX0_stock_8 ?_
    refine j_last hC (dmO hG) rfl dX0_stock_9 (fun h9 => ?_)
    refine j_lt (fun M9 => ?_)
    refine j_goto (tgt := 17) hC dX0_stock_10 (by decide) ?_
    refine j_iconst (v := 0) hC dX0_stock_17 (by decide) ?_
    exact j_iretT hC rfl rfl dX0_stock_18
  · refine jh_case ?_ ?_
    · refine jh_catch hC hT (by decide) (by decide) (by decide) q1052 (by decide +kernel) (fun q5 => ?_)
      refine j_astore hC [(4, .ref q5), (0, .ref (gadr (XG X) (4, 0, 0))), (1, .int x1), (2, .int x2), (3, .ref (gadr (XG X) (7, 0, 0)))] hnl dX0_stock_13 rfl rfl ?_
      refine j_iconst (v := 1) hC dX0_stock_15 (by decide) ?_
      exact j_iretT hC rfl rfl dX0_stock_16
    exact jh_none
set_option linter.unusedVariables false in
set_option maxRecDepth 100000 in
theorem mX0_stock (l : Launch) (hst : l.stackTraces = false) (Γ : xG) (hG : dmI dmX Γ) (fu : Nat) (D : List LDen) (M : Mem) (x1 x2 : Int32) (r : TR) (hr : FX0_stock fu D M x1 x2 = some r) : CT l yX0_stock (wsW_ yX0_stock cX0_stock 5 (some .int) [(0, 10, 13, 24)]) 9 156 2 12 Γ D [.ref (gadr Γ (4, 0, 0)), .int x1, .int x2, .ref (gadr Γ (7, 0, 0))] M foI r := by
  refine CTW.of hst (own := RX0) (lv0 := lv_args 0 [.ref (gadr Γ (4, 0, 0)), .int x1, .int x2, .ref (gadr Γ (7, 0, 0))]) (by decide +kernel) rfl (Nat.le_of_ble_eq_true rfl) rfl (fun X e1 e2 e3 e4 hC hT => ?_) r hr
  subst e1
  subst e2
  exact wX0_stock hC hT hG e4 fu M x1 x2
set_option linter.unusedVariables false in
set_option maxRecDepth 100000 in
theorem wX0_matter {X : JX} (hC : JC X cX0_matter RX0 (some .int) 9 157 2 12) (hT : JTW X [(0, 10, 13, 24), (0, 10, 17, 26)]) (hG : dmI dmX (XG X)) (hnl : nLof X = 5) (fu : Nat) (M : Mem) (x1 x2 : Int32) : J X (ZT X foI 2 12) (FX0_matter fu (XD X) M x1 x2) 0 [(0, .ref (gadr (XG X) (4, 0, 0))), (1, .int x1), (2, .int x2), (3, .ref (gadr (XG X) (7, 0, 0)))] [] M 0 0 := by
  unfold FX0_matter
  refine j_aload_n hC 3 dX0_matter_0 rfl ?_
  refine j_iconst (v := 0) hC dX0_matter_1 (by decide) ?_
  refine j_aload_n hC 0 dX0_matter_2 rfl ?_
  refine j_iload_n hC 1 dX0_matter_3 rfl ?_
  refine j_iload_n hC 2 dX0_matter_4 rfl ?_
  refine j_callVH (nA := 2) (rest := [.int 0, .ref (gadr (XG X) (7, 0, 0))]) hC [.int x1, .int x2] rfl (fun r hr => mX1_matter (XL X) (JTW.st hT) (XG X) hG fu (XD X) M x1 x2 r hr) q1140 q1141 q1142 q126 q1143 (dmY hG rfl) rfl rfl (by decide +kernel) rfl rfl rfl rfl rfl rfl dX0_matter_5 (fun v5 => [.int v5, .int 0, .ref (gadr (XG X) (7, 0, 0))]) (fun _ => rfl) (fun v5 M5 => ?_) (fun e M5 => ?_)
  · refine j_i2l hC dX0_matter_8 ?_
    refine j_last hC (dmO hG) rfl dX0_matter_9 (fun h9 => ?_)
    refine j_lt (fun M9 => ?_)
    refine j_goto (tgt := 21) hC dX0_matter_10 (by decide) ?_
    refine j_iconst (v := 0) hC dX0_matter_21 (by decide) ?_
    exact j_iretT hC rfl rfl dX0_matter_22
  · refine jh_case ?_ ?_
    · refine jh_catch hC hT (by decide) (by decide) (by decide) q1052 (by decide +kernel) (fun q5 => ?_)
      refine j_astore hC [(4, .ref q5), (0, .ref (gadr (XG X) (4, 0, 0))), (1, .int x1), (2, .int x2), (3, .ref (gadr (XG X) (7, 0, 0)))] hnl dX0_matter_13 rfl rfl ?_
      refine j_iconst (v := 1) hC dX0_matter_15 (by decide) ?_
      exact j_iretT hC rfl rfl dX0_matter_16
    refine jh_case ?_ ?_
    · refine jh_catch2 (nm0 := exN 3) hC hT (by decide) (by decide) (by decide) (by decide) q1052 (by decide +kernel) q1084 (by decide +kernel) (fun q5 => ?_)
      refine j_astore hC [(4, .ref q5), (0, .ref (gadr (XG X) (4, 0, 0))), (1, .int x1), (2, .int x2), (3, .ref (gadr (XG X) (7, 0, 0)))] hnl dX0_matter_17 rfl rfl ?_
      refine j_iconst (v := 2) hC dX0_matter_19 (by decide) ?_
      exact j_iretT hC rfl rfl dX0_matter_20
    exact jh_none
set_option linter.unusedVariables false in
set_option maxRecDepth 100000 in
theorem mX0_matter (l : Launch) (hst : l.stackTraces = false) (Γ : xG) (hG : dmI dmX Γ) (fu : Nat) (D : List LDen) (M : Mem) (x1 x2 : Int32) (r : TR) (hr : FX0_matter fu D M x1 x2 = some r) : CT l yX0_matter (wsW_ yX0_matter cX0_matter 5 (some .int) [(0, 10, 13, 24), (0, 10, 17, 26)]) 9 157 2 12 Γ D [.ref (gadr Γ (4, 0, 0)), .int x1, .int x2, .ref (gadr Γ (7, 0, 0))] M foI r := by
  refine CTW.of hst (own := RX0) (lv0 := lv_args 0 [.ref (gadr Γ (4, 0, 0)), .int x1, .int x2, .ref (gadr Γ (7, 0, 0))]) (by decide +kernel) rfl (Nat.le_of_ble_eq_true rfl) rfl (fun X e1 e2 e3 e4 hC hT => ?_) r hr
  subst e1
  subst e2
  exact wX0_matter hC hT hG e4 fu M x1 x2
set_option linter.unusedVariables false in
set_option maxRecDepth 100000 in
theorem wX0_wind {X : JX} (hC : JC X cX0_wind RX0 (some .int) 8 134 1 6) (hT : JTW X [(0, 9, 12, 24)]) (hG : dmI dmX (XG X)) (hnl : nLof X = 4) (fu : Nat) (M : Mem) (x1 : Int32) : J X (ZT X foI 1 6) (FX0_wind fu (XD X) M x1) 0 [(0, .ref (gadr (XG X) (4, 0, 0))), (1, .int x1), (2, .ref (gadr (XG X) (7, 0, 0)))] [] M 0 0 := by
  unfold FX0_wind
  refine j_aload_n hC 2 dX0_wind_0 rfl ?_
  refine j_iconst (v := 0) hC dX0_wind_1 (by decide) ?_
  refine j_aload_n hC 0 dX0_wind_2 rfl ?_
  refine j_iload_n hC 1 dX0_wind_3 rfl ?_
  refine j_callVH (nA := 1) (rest := [.int 0, .ref (gadr (XG X) (7, 0, 0))]) hC [.int x1] rfl (fun r hr => mX1_wind (XL X) (JTW.st hT) (XG X) hG fu (XD X) M x1 r hr) q1156 q1157 q1158 q126 q1159 (dmY hG rfl) rfl rfl (by decide +kernel) rfl rfl rfl rfl rfl rfl dX0_wind_4 (fun v4 => [.int v4, .int 0, .ref (gadr (XG X) (7, 0, 0))]) (fun _ => rfl) (fun v4 M4 => ?_) (fun e M4 => ?_)
  · refine j_i2l hC dX0_wind_7 ?_
    refine j_last hC (dmO hG) rfl dX0_wind_8 (fun h8 => ?_)
    refine j_lt (fun M8 => ?_)
    refine j_goto (tgt := 15) hC dX0_wind_9 (by decide) ?_
    refine j_iconst (v := 0) hC dX0_wind_15 (by decide) ?_
    exact j_iretT hC rfl rfl dX0_wind_16
  · refine jh_case ?_ ?_
    · refine jh_catch hC hT (by decide) (by decide) (by decide) q1052 (by decide +kernel) (fun q4 => ?_)
      refine j_astore_n hC [(3, .ref q4), (0, .ref (gadr (XG X) (4, 0, 0))), (1, .int x1), (2, .ref (gadr (XG X) (7, 0, 0)))] hnl dX0_wind_12 rfl rfl ?_
      refine j_iconst (v := 1) hC dX0_wind_13 (by decide) ?_
      exact j_iretT hC rfl rfl dX0_wind_14
    exact jh_none
set_option linter.unusedVariables false in
set_option maxRecDepth 100000 in
theorem mX0_wind (l : Launch) (hst : l.stackTraces = false) (Γ : xG) (hG : dmI dmX Γ) (fu : Nat) (D : List LDen) (M : Mem) (x1 : Int32) (r : TR) (hr : FX0_wind fu D M x1 = some r) : CT l yX0_wind (wsW_ yX0_wind cX0_wind 4 (some .int) [(0, 9, 12, 24)]) 8 134 1 6 Γ D [.ref (gadr Γ (4, 0, 0)), .int x1, .ref (gadr Γ (7, 0, 0))] M foI r := by
  refine CTW.of hst (own := RX0) (lv0 := lv_args 0 [.ref (gadr Γ (4, 0, 0)), .int x1, .ref (gadr Γ (7, 0, 0))]) (by decide +kernel) rfl (Nat.le_of_ble_eq_true rfl) rfl (fun X e1 e2 e3 e4 hC hT => ?_) r hr
  subst e1
  subst e2
  exact wX0_wind hC hT hG e4 fu M x1
set_option linter.unusedVariables false in
set_option maxRecDepth 100000 in
theorem wX0_moves {X : JX} (hC : JC X cX0_moves RX0 (some .int) 38 1411 3 18) (hT : JTW X [(0, 16, 19, 24), (0, 16, 23, 13)]) (hG : dmI dmX (XG X)) (hnl : nLof X = 8) (fu : Nat) (M : Mem) (x1 x2 x3 x4 x5 : Int32) : J X (ZT X foI 3 18) (FX0_moves fu (XD X) M x1 x2 x3 x4 x5) 0 [(0, .ref (gadr (XG X) (4, 0, 0))), (1, .int x1), (2, .int x2), (3, .int x3), (4, .int x4), (5, .int x5), (6, .ref (gadr (XG X) (7, 0, 0)))] [] M 0 0 := by
  unfold FX0_moves
  refine j_aload hC 6 dX0_moves_0 rfl ?_
  refine j_iconst (v := 0) hC dX0_moves_2 (by decide) ?_
  refine j_aload_n hC 0 dX0_moves_3 rfl ?_
  refine j_iload_n hC 1 dX0_moves_4 rfl ?_
  refine j_iload_n hC 2 dX0_moves_5 rfl ?_
  refine j_iload_n hC 3 dX0_moves_6 rfl ?_
  refine j_iload hC 4 dX0_moves_7 rfl ?_
  refine j_iload hC 5 dX0_moves_9 rfl ?_
  refine j_callVH (nA := 5) (rest := [.int 0, .ref (gadr (XG X) (7, 0, 0))]) hC [.int x1, .int x2, .int x3, .int x4, .int x5] rfl (fun r hr => mX1_moves (XL X) (JTW.st hT) (XG X) hG fu (XD X) M x1 x2 x3 x4 x5 r hr) q1163 q1164 q1165 q126 q1166 (dmY hG rfl) rfl rfl (by decide +kernel) rfl rfl rfl rfl rfl rfl dX0_moves_11 (fun v11 => [.int v11, .int 0, .ref (gadr (XG X) (7, 0, 0))]) (fun _ => rfl) (fun v11 M11 => ?_) (fun e M11 => ?_)
  · refine j_i2l hC dX0_moves_14 ?_
    refine j_last hC (dmO hG) rfl dX0_moves_15 (fun h15 => ?_)
    refine j_lt (fun M15 => ?_)
    refine j_goto (tgt := 27) hC dX0_moves_16 (by decide) ?_
    refine j_iconst (v := 0) hC dX0_moves_27 (by decide) ?_
    exact j_iretT hC rfl rfl dX0_moves_28
  · refine jh_case ?_ ?_
    · refine jh_catch hC hT (by decide) (by decide) (by decide) q1052 (by decide +kernel) (fun q11 => ?_)
      refine j_astore hC [(7, .ref q11), (0, .ref (gadr (XG X) (4, 0, 0))), (1, .int x1), (2, .int x2), (3, .int x3), (4, .int x4), (5, .int x5), (6, .ref (gadr (XG X) (7, 0, 0)))] hnl dX0_moves_19 rfl rfl ?_
      refine j_iconst (v := 1) hC dX0_moves_21 (by decide) ?_
      exact j_iretT hC rfl rfl dX0_moves_22
    refine jh_case ?_ ?_
    · refine jh_catch2 (nm0 := exN 3) hC hT (by decide) (by decide) (by decide) (by decide) q1052 (by decide +kernel) q735 (by decide +kernel) (fun q11 => ?_)
      refine j_astore hC [(7, .ref q11), (0, .ref (gadr (XG X) (4, 0, 0))), (1, .int x1), (2, .int x2), (3, .int x3), (4, .int x4), (5, .int x5), (6, .ref (gadr (XG X) (7, 0, 0)))] hnl dX0_moves_23 rfl rfl ?_
      refine j_iconst (v := 2) hC dX0_moves_25 (by decide) ?_
      exact j_iretT hC rfl rfl dX0_moves_26
    exact jh_none
set_option linter.unusedVariables false in
set_option maxRecDepth 100000 in
theorem mX0_moves (l : Launch) (hst : l.stackTraces = false) (Γ : xG) (hG : dmI dmX Γ) (fu : Nat) (D : List LDen) (M : Mem) (x1 x2 x3 x4 x5 : Int32) (r : TR) (hr : FX0_moves fu D M x1 x2 x3 x4 x5 = some r) : CT l yX0_moves (wsW_ yX0_moves cX0_moves 8 (some .int) [(0, 16, 19, 24), (0, 16, 23, 13)]) 38 1411 3 18 Γ D [.ref (gadr Γ (4, 0, 0)), .int x1, .int x2, .int x3, .int x4, .int x5, .ref (gadr Γ (7, 0, 0))] M foI r := by
  refine CTW.of hst (own := RX0) (lv0 := lv_args 0 [.ref (gadr Γ (4, 0, 0)), .int x1, .int x2, .int x3, .int x4, .int x5, .ref (gadr Γ (7, 0, 0))]) (by decide +kernel) rfl (Nat.le_of_ble_eq_true rfl) rfl (fun X e1 e2 e3 e4 hC hT => ?_) r hr
  subst e1
  subst e2
  exact wX0_moves hC hT hG e4 fu M x1 x2 x3 x4 x5
set_option linter.unusedVariables false in
set_option maxRecDepth 100000 in
theorem wX0_call {X : JX} (hC : JC X cX0_call RX0 (some .int) 40 1460 4 24) (hT : JTW X [(0, 12, 15, 24), (0, 12, 19, 46)]) (hG : dmI dmX (XG X)) (hnl : nLof X = 6) (fu : Nat) (M : Mem) (x1 x2 x3 : Int32) : J X (ZT X foI 4 24) (FX0_call fu (XD X) M x1 x2 x3) 0 [(0, .ref (gadr (XG X) (4, 0, 0))), (1, .int x1), (2, .int x2), (3, .int x3), (4, .ref (gadr (XG X) (7, 0, 0)))] [] M 0 0 := by
  unfold FX0_call
  refine j_aload hC 4 dX0_call_0 rfl ?_
  refine j_iconst (v := 0) hC dX0_call_2 (by decide) ?_
  refine j_aload_n hC 0 dX0_call_3 rfl ?_
  refine j_iload_n hC 1 dX0_call_4 rfl ?_
  refine j_iload_n hC 2 dX0_call_5 rfl ?_
  refine j_iload_n hC 3 dX0_call_6 rfl ?_
  refine j_callVH (nA := 3) (rest := [.int 0, .ref (gadr (XG X) (7, 0, 0))]) hC [.int x1, .int x2, .int x3] rfl (fun r hr => mX1_call (XL X) (JTW.st hT) (XG X) hG fu (XD X) M x1 x2 x3 r hr) q1176 q1177 q1178 q126 q1179 (dmY hG rfl) rfl rfl (by decide +kernel) rfl rfl rfl rfl rfl rfl dX0_call_7 (fun v7 => [.int v7, .int 0, .ref (gadr (XG X) (7, 0, 0))]) (fun _ => rfl) (fun v7 M7 => ?_) (fun e M7 => ?_)
  · refine j_i2l hC dX0_call_10 ?_
    refine j_last hC (dmO hG) rfl dX0_call_11 (fun h11 => ?_)
    refine j_lt (fun M11 => ?_)
    refine j_goto (tgt := 23) hC dX0_call_12 (by decide) ?_
    refine j_iconst (v := 0) hC dX0_call_23 (by decide) ?_
    exact j_iretT hC rfl rfl dX0_call_24
  · refine jh_case ?_ ?_
    · refine jh_catch hC hT (by decide) (by decide) (by decide) q1052 (by decide +kernel) (fun q7 => ?_)
      refine j_astore hC [(5, .ref q7), (0, .ref (gadr (XG X) (4, 0, 0))), (1, .int x1), (2, .int x2), (3, .int x3), (4, .ref (gadr (XG X) (7, 0, 0)))] hnl dX0_call_15 rfl rfl ?_
      refine j_iconst (v := 1) hC dX0_call_17 (by decide) ?_
      exact j_iretT hC rfl rfl dX0_call_18
    refine jh_case ?_ ?_
    · refine jh_catch2 (nm0 := exN 3) hC hT (by decide) (by decide) (by decide) (by decide) q1052 (by decide +kernel) q1175 (by decide +kernel) (fun q7 => ?_)
      refine j_astore hC [(5, .ref q7), (0, .ref (gadr (XG X) (4, 0, 0))), (1, .int x1), (2, .int x2), (3, .int x3), (4, .ref (gadr (XG X) (7, 0, 0)))] hnl dX0_call_19 rfl rfl ?_
      refine j_iconst (v := 2) hC dX0_call_21 (by decide) ?_
      exact j_iretT hC rfl rfl dX0_call_22
    exact jh_none
set_option linter.unusedVariables false in
set_option maxRecDepth 100000 in
theorem mX0_call (l : Launch) (hst : l.stackTraces = false) (Γ : xG) (hG : dmI dmX Γ) (fu : Nat) (D : List LDen) (M : Mem) (x1 x2 x3 : Int32) (r : TR) (hr : FX0_call fu D M x1 x2 x3 = some r) : CT l yX0_call (wsW_ yX0_call cX0_call 6 (some .int) [(0, 12, 15, 24), (0, 12, 19, 46)]) 40 1460 4 24 Γ D [.ref (gadr Γ (4, 0, 0)), .int x1, .int x2, .int x3, .ref (gadr Γ (7, 0, 0))] M foI r := by
  refine CTW.of hst (own := RX0) (lv0 := lv_args 0 [.ref (gadr Γ (4, 0, 0)), .int x1, .int x2, .int x3, .ref (gadr Γ (7, 0, 0))]) (by decide +kernel) rfl (Nat.le_of_ble_eq_true rfl) rfl (fun X e1 e2 e3 e4 hC hT => ?_) r hr
  subst e1
  subst e2
  exact wX0_call hC hT hG e4 fu M x1 x2 x3
set_option linter.unusedVariables false in
set_option maxRecDepth 100000 in
theorem wX0_hour {X : JX} (hC : JC X cX0_hour RX0 (some .int) 8 135 1 6) (hT : JTW X [(0, 9, 12, 13)]) (hG : dmI dmX (XG X)) (hnl : nLof X = 4) (fu : Nat) (M : Mem) (x1 : Int32) : J X (ZT X foI 1 6) (FX0_hour fu (XD X) M x1) 0 [(0, .ref (gadr (XG X) (4, 0, 0))), (1, .int x1), (2, .ref (gadr (XG X) (7, 0, 0)))] [] M 0 0 := by
  unfold FX0_hour
  refine j_aload_n hC 2 dX0_hour_0 rfl ?_
  refine j_iconst (v := 0) hC dX0_hour_1 (by decide) ?_
  refine j_aload_n hC 0 dX0_hour_2 rfl ?_
  refine j_iload_n hC 1 dX0_hour_3 rfl ?_
  refine j_callVH (nA := 1) (rest := [.int 0, .ref (gadr (XG X) (7, 0, 0))]) hC [.int x1] rfl (fun r hr => mX1_hour (XL X) (JTW.st hT) (XG X) hG fu (XD X) M x1 r hr) q1223 q1224 q1225 q126 q1226 (dmY hG rfl) rfl rfl (by decide +kernel) rfl rfl rfl rfl rfl rfl dX0_hour_4 (fun v4 => [.int v4, .int 0, .ref (gadr (XG X) (7, 0, 0))]) (fun _ => rfl) (fun v4 M4 => ?_) (fun e M4 => ?_)
  · refine j_i2l hC dX0_hour_7 ?_
    refine j_last hC (dmO hG) rfl dX0_hour_8 (fun h8 => ?_)
    refine j_lt (fun M8 => ?_)
    refine j_goto (tgt := 15) hC dX0_hour_9 (by decide) ?_
    refine j_iconst (v := 0) hC dX0_hour_15 (by decide) ?_
    exact j_iretT hC rfl rfl dX0_hour_16
  · refine jh_case ?_ ?_
    · refine jh_catch hC hT (by decide) (by decide) (by decide) q735 (by decide +kernel) (fun q4 => ?_)
      refine j_astore_n hC [(3, .ref q4), (0, .ref (gadr (XG X) (4, 0, 0))), (1, .int x1), (2, .ref (gadr (XG X) (7, 0, 0)))] hnl dX0_hour_12 rfl rfl ?_
      refine j_iconst (v := 1) hC dX0_hour_13 (by decide) ?_
      exact j_iretT hC rfl rfl dX0_hour_14
    exact jh_none
set_option linter.unusedVariables false in
set_option maxRecDepth 100000 in
theorem mX0_hour (l : Launch) (hst : l.stackTraces = false) (Γ : xG) (hG : dmI dmX Γ) (fu : Nat) (D : List LDen) (M : Mem) (x1 : Int32) (r : TR) (hr : FX0_hour fu D M x1 = some r) : CT l yX0_hour (wsW_ yX0_hour cX0_hour 4 (some .int) [(0, 9, 12, 13)]) 8 135 1 6 Γ D [.ref (gadr Γ (4, 0, 0)), .int x1, .ref (gadr Γ (7, 0, 0))] M foI r := by
  refine CTW.of hst (own := RX0) (lv0 := lv_args 0 [.ref (gadr Γ (4, 0, 0)), .int x1, .ref (gadr Γ (7, 0, 0))]) (by decide +kernel) rfl (Nat.le_of_ble_eq_true rfl) rfl (fun X e1 e2 e3 e4 hC hT => ?_) r hr
  subst e1
  subst e2
  exact wX0_hour hC hT hG e4 fu M x1
set_option linter.unusedVariables false in
set_option maxRecDepth 100000 in
theorem wX0_blow {X : JX} (hC : JC X cX0_blow RX0 (some .int) 8 136 2 12) (hT : JTW X [(0, 10, 13, 24), (0, 10, 17, 13)]) (hG : dmI dmX (XG X)) (hnl : nLof X = 5) (fu : Nat) (M : Mem) (x1 x2 : Int32) : J X (ZT X foI 2 12) (FX0_blow fu (XD X) M x1 x2) 0 [(0, .ref (gadr (XG X) (4, 0, 0))), (1, .int x1), (2, .int x2), (3, .ref (gadr (XG X) (7, 0, 0)))] [] M 0 0 := by
  unfold FX0_blow
  refine j_aload_n hC 3 dX0_blow_0 rfl ?_
  refine j_iconst (v := 0) hC dX0_blow_1 (by decide) ?_
  refine j_aload_n hC 0 dX0_blow_2 rfl ?_
  refine j_iload_n hC 1 dX0_blow_3 rfl ?_
  refine j_iload_n hC 2 dX0_blow_4 rfl ?_
  refine j_callVH (nA := 2) (rest := [.int 0, .ref (gadr (XG X) (7, 0, 0))]) hC [.int x1, .int x2] rfl (fun r hr => mX1_blow (XL X) (JTW.st hT) (XG X) hG fu (XD X) M x1 x2 r hr) q1230 q1231 q1232 q126 q1233 (dmY hG rfl) rfl rfl (by decide +kernel) rfl rfl rfl rfl rfl rfl dX0_blow_5 (fun v5 => [.int v5, .int 0, .ref (gadr (XG X) (7, 0, 0))]) (fun _ => rfl) (fun v5 M5 => ?_) (fun e M5 => ?_)
  · refine j_i2l hC dX0_blow_8 ?_
    refine j_last hC (dmO hG) rfl dX0_blow_9 (fun h9 => ?_)
    refine j_lt (fun M9 => ?_)
    refine j_goto (tgt := 21) hC dX0_blow_10 (by decide) ?_
    refine j_iconst (v := 0) hC dX0_blow_21 (by decide) ?_
    exact j_iretT hC rfl rfl dX0_blow_22
  · refine jh_case ?_ ?_
    · refine jh_catch hC hT (by decide) (by decide) (by decide) q1052 (by decide +kernel) (fun q5 => ?_)
      refine j_astore hC [(4, .ref q5), (0, .ref (gadr (XG X) (4, 0, 0))), (1, .int x1), (2, .int x2), (3, .ref (gadr (XG X) (7, 0, 0)))] hnl dX0_blow_13 rfl rfl ?_
      refine j_iconst (v := 1) hC dX0_blow_15 (by decide) ?_
      exact j_iretT hC rfl rfl dX0_blow_16
    refine jh_case ?_ ?_
    · refine jh_catch2 (nm0 := exN 3) hC hT (by decide) (by decide) (by decide) (by decide) q1052 (by decide +kernel) q735 (by decide +kernel) (fun q5 => ?_)
      refine j_astore hC [(4, .ref q5), (0, .ref (gadr (XG X) (4, 0, 0))), (1, .int x1), (2, .int x2), (3, .ref (gadr (XG X) (7, 0, 0)))] hnl dX0_blow_17 rfl rfl ?_
      refine j_iconst (v := 2) hC dX0_blow_19 (by decide) ?_
      exact j_iretT hC rfl rfl dX0_blow_20
    exact jh_none
set_option linter.unusedVariables false in
set_option maxRecDepth 100000 in
theorem mX0_blow (l : Launch) (hst : l.stackTraces = false) (Γ : xG) (hG : dmI dmX Γ) (fu : Nat) (D : List LDen) (M : Mem) (x1 x2 : Int32) (r : TR) (hr : FX0_blow fu D M x1 x2 = some r) : CT l yX0_blow (wsW_ yX0_blow cX0_blow 5 (some .int) [(0, 10, 13, 24), (0, 10, 17, 13)]) 8 136 2 12 Γ D [.ref (gadr Γ (4, 0, 0)), .int x1, .int x2, .ref (gadr Γ (7, 0, 0))] M foI r := by
  refine CTW.of hst (own := RX0) (lv0 := lv_args 0 [.ref (gadr Γ (4, 0, 0)), .int x1, .int x2, .ref (gadr Γ (7, 0, 0))]) (by decide +kernel) rfl (Nat.le_of_ble_eq_true rfl) rfl (fun X e1 e2 e3 e4 hC hT => ?_) r hr
  subst e1
  subst e2
  exact wX0_blow hC hT hG e4 fu M x1 x2
set_option linter.unusedVariables false in
set_option maxRecDepth 100000 in
theorem wX0_give {X : JX} (hC : JC X cX0_give RX0 (some .int) 9 158 4 24) (hT : JTW X [(0, 14, 17, 24), (0, 14, 21, 13)]) (hG : dmI dmX (XG X)) (hnl : nLof X = 7) (fu : Nat) (M : Mem) (x1 x2 x3 x4 : Int32) : J X (ZT X foI 4 24) (FX0_give fu (XD X) M x1 x2 x3 x4) 0 [(0, .ref (gadr (XG X) (4, 0, 0))), (1, .int x1), (2, .int x2), (3, .int x3), (4, .int x4), (5, .ref (gadr (XG X) (7, 0, 0)))] [] M 0 0 := by
  unfold FX0_give
  refine j_aload hC 5 dX0_give_0 rfl ?_
  refine j_iconst (v := 0) hC dX0_give_2 (by decide) ?_
  refine j_aload_n hC 0 dX0_give_3 rfl ?_
  refine j_iload_n hC 1 dX0_give_4 rfl ?_
  refine j_iload_n hC 2 dX0_give_5 rfl ?_
  refine j_iload_n hC 3 dX0_give_6 rfl ?_
  refine j_iload hC 4 dX0_give_7 rfl ?_
  refine j_callVH (nA := 4) (rest := [.int 0, .ref (gadr (XG X) (7, 0, 0))]) hC [.int x1, .int x2, .int x3, .int x4] rfl (fun r hr => mX1_give (XL X) (JTW.st hT) (XG X) hG fu (XD X) M x1 x2 x3 x4 r hr) q1237 q1238 q1239 q126 q1240 (dmY hG rfl) rfl rfl (by decide +kernel) rfl rfl rfl rfl rfl rfl dX0_give_9 (fun v9 => [.int v9, .int 0, .ref (gadr (XG X) (7, 0, 0))]) (fun _ => rfl) (fun v9 M9 => ?_) (fun e M9 => ?_)
  · refine j_i2l hC dX0_give_12 ?_
    refine j_last hC (dmO hG) rfl dX0_give_13 (fun h13 => ?_)
    refine j_lt (fun M13 => ?_)
    refine j_goto (tgt := 25) hC dX0_give_14 (by decide) ?_
    refine j_iconst (v := 0) hC dX0_give_25 (by decide) ?_
    exact j_iretT hC rfl rfl dX0_give_26
  · refine jh_case ?_ ?_
    · refine jh_catch hC hT (by decide) (by decide) (by decide) q1052 (by decide +kernel) (fun q9 => ?_)
      refine j_astore hC [(6, .ref q9), (0, .ref (gadr (XG X) (4, 0, 0))), (1, .int x1), (2, .int x2), (3, .int x3), (4, .int x4), (5, .ref (gadr (XG X) (7, 0, 0)))] hnl dX0_give_17 rfl rfl ?_
      refine j_iconst (v := 1) hC dX0_give_19 (by decide) ?_
      exact j_iretT hC rfl rfl dX0_give_20
    refine jh_case ?_ ?_
    · refine jh_catch2 (nm0 := exN 3) hC hT (by decide) (by decide) (by decide) (by decide) q1052 (by decide +kernel) q735 (by decide +kernel) (fun q9 => ?_)
      refine j_astore hC [(6, .ref q9), (0, .ref (gadr (XG X) (4, 0, 0))), (1, .int x1), (2, .int x2), (3, .int x3), (4, .int x4), (5, .ref (gadr (XG X) (7, 0, 0)))] hnl dX0_give_21 rfl rfl ?_
      refine j_iconst (v := 2) hC dX0_give_23 (by decide) ?_
      exact j_iretT hC rfl rfl dX0_give_24
    exact jh_none
set_option linter.unusedVariables false in
set_option maxRecDepth 100000 in
theorem mX0_give (l : Launch) (hst : l.stackTraces = false) (Γ : xG) (hG : dmI dmX Γ) (fu : Nat) (D : List LDen) (M : Mem) (x1 x2 x3 x4 : Int32) (r : TR) (hr : FX0_give fu D M x1 x2 x3 x4 = some r) : CT l yX0_give (wsW_ yX0_give cX0_give 7 (some .int) [(0, 14, 17, 24), (0, 14, 21, 13)]) 9 158 4 24 Γ D [.ref (gadr Γ (4, 0, 0)), .int x1, .int x2, .int x3, .int x4, .ref (gadr Γ (7, 0, 0))] M foI r := by
  refine CTW.of hst (own := RX0) (lv0 := lv_args 0 [.ref (gadr Γ (4, 0, 0)), .int x1, .int x2, .int x3, .int x4, .ref (gadr Γ (7, 0, 0))]) (by decide +kernel) rfl (Nat.le_of_ble_eq_true rfl) rfl (fun X e1 e2 e3 e4 hC hT => ?_) r hr
  subst e1
  subst e2
  exact wX0_give hC hT hG e4 fu M x1 x2 x3 x4
set_option linter.unusedVariables false in
set_option maxRecDepth 100000 in
theorem wX0_appeal {X : JX} (hC : JC X cX0_appeal RX0 (some .int) 9 157 2 12) (hT : JTW X [(0, 9, 12, 24), (0, 9, 15, 46)]) (hG : dmI dmX (XG X)) (hnl : nLof X = 4) (fu : Nat) (M : Mem) (x1 : Int32) : J X (ZT X foI 2 12) (FX0_appeal fu (XD X) M x1) 0 [(0, .ref (gadr (XG X) (4, 0, 0))), (1, .int x1), (2, .ref (gadr (XG X) (7, 0, 0)))] [] M 0 0 := by
  unfold FX0_appeal
  refine j_aload_n hC 2 dX0_appeal_0 rfl ?_
  refine j_iconst (v := 0) hC dX0_appeal_1 (by decide) ?_
  refine j_aload_n hC 0 dX0_appeal_2 rfl ?_
  refine j_iload_n hC 1 dX0_appeal_3 rfl ?_
  refine j_callVH (nA := 1) (rest := [.int 0, .ref (gadr (XG X) (7, 0, 0))]) hC [.int x1] rfl (fun r hr => mX1_appeal (XL X) (JTW.st hT) (XG X) hG fu (XD X) M x1 r hr) q1244 q1245 q1246 q126 q1247 (dmY hG rfl) rfl rfl (by decide +kernel) rfl rfl rfl rfl rfl rfl dX0_appeal_4 (fun v4 => [.int v4, .int 0, .ref (gadr (XG X) (7, 0, 0))]) (fun _ => rfl) (fun v4 M4 => ?_) (fun e M4 => ?_)
  · refine j_i2l hC dX0_appeal_7 ?_
    refine j_last hC (dmO hG) rfl dX0_appeal_8 (fun h8 => ?_)
    refine j_lt (fun M8 => ?_)
    refine j_goto (tgt := 18) hC dX0_appeal_9 (by decide) ?_
    refine j_iconst (v := 0) hC dX0_appeal_18 (by decide) ?_
    exact j_iretT hC rfl rfl dX0_appeal_19
  · refine jh_case ?_ ?_
    · refine jh_catch hC hT (by decide) (by decide) (by decide) q1052 (by decide +kernel) (fun q4 => ?_)
      refine j_astore_n hC [(3, .ref q4), (0, .ref (gadr (XG X) (4, 0, 0))), (1, .int x1), (2, .ref (gadr (XG X) (7, 0, 0)))] hnl dX0_appeal_12 rfl rfl ?_
      refine j_iconst (v := 1) hC dX0_appeal_13 (by decide) ?_
      exact j_iretT hC rfl rfl dX0_appeal_14
    refine jh_case ?_ ?_
    · refine jh_catch2 (nm0 := exN 3) hC hT (by decide) (by decide) (by decide) (by decide) q1052 (by decide +kernel) q1175 (by decide +kernel) (fun q4 => ?_)
      refine j_astore_n hC [(3, .ref q4), (0, .ref (gadr (XG X) (4, 0, 0))), (1, .int x1), (2, .ref (gadr (XG X) (7, 0, 0)))] hnl dX0_appeal_15 rfl rfl ?_
      refine j_iconst (v := 2) hC dX0_appeal_16 (by decide) ?_
      exact j_iretT hC rfl rfl dX0_appeal_17
    exact jh_none
set_option linter.unusedVariables false in
set_option maxRecDepth 100000 in
theorem mX0_appeal (l : Launch) (hst : l.stackTraces = false) (Γ : xG) (hG : dmI dmX Γ) (fu : Nat) (D : List LDen) (M : Mem) (x1 : Int32) (r : TR) (hr : FX0_appeal fu D M x1 = some r) : CT l yX0_appeal (wsW_ yX0_appeal cX0_appeal 4 (some .int) [(0, 9, 12, 24), (0, 9, 15, 46)]) 9 157 2 12 Γ D [.ref (gadr Γ (4, 0, 0)), .int x1, .ref (gadr Γ (7, 0, 0))] M foI r := by
  refine CTW.of hst (own := RX0) (lv0 := lv_args 0 [.ref (gadr Γ (4, 0, 0)), .int x1, .ref (gadr Γ (7, 0, 0))]) (by decide +kernel) rfl (Nat.le_of_ble_eq_true rfl) rfl (fun X e1 e2 e3 e4 hC hT => ?_) r hr
  subst e1
  subst e2
  exact wX0_appeal hC hT hG e4 fu M x1
set_option linter.unusedVariables false in
set_option maxRecDepth 100000 in
theorem wX0_weeks {X : JX} (hC : JC X cX0_weeks RX0 (some .int) 8 138 1 6) (hT : JTW X [(0, 9, 12, 13)]) (hG : dmI dmX (XG X)) (hnl : nLof X = 4) (fu : Nat) (M : Mem) (x1 : Int32) : J X (ZT X foI 1 6) (FX0_weeks fu (XD X) M x1) 0 [(0, .ref (gadr (XG X) (4, 0, 0))), (1, .int x1), (2, .ref (gadr (XG X) (7, 0, 0)))] [] M 0 0 := by
  unfold FX0_weeks
  refine j_aload_n hC 2 dX0_weeks_0 rfl ?_
  refine j_iconst (v := 0) hC dX0_weeks_1 (by decide) ?_
  refine j_aload_n hC 0 dX0_weeks_2 rfl ?_
  refine j_iload_n hC 1 dX0_weeks_3 rfl ?_
  refine j_callVH (nA := 1) (rest := [.int 0, .ref (gadr (XG X) (7, 0, 0))]) hC [.int x1] rfl (fun r hr => mX1_weeks (XL X) (JTW.st hT) (XG X) hG fu (XD X) M x1 r hr) q1251 q1252 q1253 q126 q1254 (dmY hG rfl) rfl rfl (by decide +kernel) rfl rfl rfl rfl rfl rfl dX0_weeks_4 (fun v4 => [.int v4, .int 0, .ref (gadr (XG X) (7, 0, 0))]) (fun _ => rfl) (fun v4 M4 => ?_) (fun e M4 => ?_)
  · refine j_i2l hC dX0_weeks_7 ?_
    refine j_last hC (dmO hG) rfl dX0_weeks_8 (fun h8 => ?_)
    refine j_lt (fun M8 => ?_)
    refine j_goto (tgt := 15) hC dX0_weeks_9 (by decide) ?_
    refine j_iconst (v := 0) hC dX0_weeks_15 (by decide) ?_
    exact j_iretT hC rfl rfl dX0_weeks_16
  · refine jh_case ?_ ?_
    · refine jh_catch hC hT (by decide) (by decide) (by decide) q735 (by decide +kernel) (fun q4 => ?_)
      refine j_astore_n hC [(3, .ref q4), (0, .ref (gadr (XG X) (4, 0, 0))), (1, .int x1), (2, .ref (gadr (XG X) (7, 0, 0)))] hnl dX0_weeks_12 rfl rfl ?_
      refine j_iconst (v := 1) hC dX0_weeks_13 (by decide) ?_
      exact j_iretT hC rfl rfl dX0_weeks_14
    exact jh_none
set_option linter.unusedVariables false in
set_option maxRecDepth 100000 in
theorem mX0_weeks (l : Launch) (hst : l.stackTraces = false) (Γ : xG) (hG : dmI dmX Γ) (fu : Nat) (D : List LDen) (M : Mem) (x1 : Int32) (r : TR) (hr : FX0_weeks fu D M x1 = some r) : CT l yX0_weeks (wsW_ yX0_weeks cX0_weeks 4 (some .int) [(0, 9, 12, 13)]) 8 138 1 6 Γ D [.ref (gadr Γ (4, 0, 0)), .int x1, .ref (gadr Γ (7, 0, 0))] M foI r := by
  refine CTW.of hst (own := RX0) (lv0 := lv_args 0 [.ref (gadr Γ (4, 0, 0)), .int x1, .ref (gadr Γ (7, 0, 0))]) (by decide +kernel) rfl (Nat.le_of_ble_eq_true rfl) rfl (fun X e1 e2 e3 e4 hC hT => ?_) r hr
  subst e1
  subst e2
  exact wX0_weeks hC hT hG e4 fu M x1
set_option linter.unusedVariables false in
set_option maxRecDepth 100000 in
theorem wX0_ways {X : JX} (hC : JC X cX0_ways RX0 (some .int) 40 1463 2 12) (hT : JTW X [(0, 10, 13, 24), (0, 10, 17, 26)]) (hG : dmI dmX (XG X)) (hnl : nLof X = 5) (fu : Nat) (M : Mem) (x1 x2 : Int32) : J X (ZT X foI 2 12) (FX0_ways fu (XD X) M x1 x2) 0 [(0, .ref (gadr (XG X) (4, 0, 0))), (1, .int x1), (2, .int x2), (3, .ref (gadr (XG X) (7, 0, 0)))] [] M 0 0 := by
  unfold FX0_ways
  refine j_aload_n hC 3 dX0_ways_0 rfl ?_
  refine j_iconst (v := 0) hC dX0_ways_1 (by decide) ?_
  refine j_aload_n hC 0 dX0_ways_2 rfl ?_
  refine j_iload_n hC 1 dX0_ways_3 rfl ?_
  refine j_iload_n hC 2 dX0_ways_4 rfl ?_
  refine j_callVH (nA := 2) (rest := [.int 0, .ref (gadr (XG X) (7, 0, 0))]) hC [.int x1, .int x2] rfl (fun r hr => mX1_ways (XL X) (JTW.st hT) (XG X) hG fu (XD X) M x1 x2 r hr) q1258 q1259 q1260 q126 q1261 (dmY hG rfl) rfl rfl (by decide +kernel) rfl rfl rfl rfl rfl rfl dX0_ways_5 (fun v5 => [.int v5, .int 0, .ref (gadr (XG X) (7, 0, 0))]) (fun _ => rfl) (fun v5 M5 => ?_) (fun e M5 => ?_)
  · refine j_i2l hC dX0_ways_8 ?_
    refine j_last hC (dmO hG) rfl dX0_ways_9 (fun h9 => ?_)
    refine j_lt (fun M9 => ?_)
    refine j_goto (tgt := 21) hC dX0_ways_10 (by decide) ?_
    refine j_iconst (v := 0) hC dX0_ways_21 (by decide) ?_
    exact j_iretT hC rfl rfl dX0_ways_22
  · refine jh_case ?_ ?_
    · refine jh_catch hC hT (by decide) (by decide) (by decide) q1052 (by decide +kernel) (fun q5 => ?_)
      refine j_astore hC [(4, .ref q5), (0, .ref (gadr (XG X) (4, 0, 0))), (1, .int x1), (2, .int x2), (3, .ref (gadr (XG X) (7, 0, 0)))] hnl dX0_ways_13 rfl rfl ?_
      refine j_iconst (v := 1) hC dX0_ways_15 (by decide) ?_
      exact j_iretT hC rfl rfl dX0_ways_16
    refine jh_case ?_ ?_
    · refine jh_catch2 (nm0 := exN 3) hC hT (by decide) (by decide) (by decide) (by decide) q1052 (by decide +kernel) q1084 (by decide +kernel) (fun q5 => ?_)
      refine j_astore hC [(4, .ref q5), (0, .ref (gadr (XG X) (4, 0, 0))), (1, .int x1), (2, .int x2), (3, .ref (gadr (XG X) (7, 0, 0)))] hnl dX0_ways_17 rfl rfl ?_
      refine j_iconst (v := 2) hC dX0_ways_19 (by decide) ?_
      exact j_iretT hC rfl rfl dX0_ways_20
    exact jh_none
set_option linter.unusedVariables false in
set_option maxRecDepth 100000 in
theorem mX0_ways (l : Launch) (hst : l.stackTraces = false) (Γ : xG) (hG : dmI dmX Γ) (fu : Nat) (D : List LDen) (M : Mem) (x1 x2 : Int32) (r : TR) (hr : FX0_ways fu D M x1 x2 = some r) : CT l yX0_ways (wsW_ yX0_ways cX0_ways 5 (some .int) [(0, 10, 13, 24), (0, 10, 17, 26)]) 40 1463 2 12 Γ D [.ref (gadr Γ (4, 0, 0)), .int x1, .int x2, .ref (gadr Γ (7, 0, 0))] M foI r := by
  refine CTW.of hst (own := RX0) (lv0 := lv_args 0 [.ref (gadr Γ (4, 0, 0)), .int x1, .int x2, .ref (gadr Γ (7, 0, 0))]) (by decide +kernel) rfl (Nat.le_of_ble_eq_true rfl) rfl (fun X e1 e2 e3 e4 hC hT => ?_) r hr
  subst e1
  subst e2
  exact wX0_ways hC hT hG e4 fu M x1 x2
set_option linter.unusedVariables false in
set_option maxRecDepth 100000 in
theorem wX0_lands {X : JX} (hC : JC X cX0_lands RX0 (some .int) 40 1462 2 12) (hT : JTW X [(0, 10, 13, 24)]) (hG : dmI dmX (XG X)) (hnl : nLof X = 5) (fu : Nat) (M : Mem) (x1 x2 : Int32) : J X (ZT X foI 2 12) (FX0_lands fu (XD X) M x1 x2) 0 [(0, .ref (gadr (XG X) (4, 0, 0))), (1, .int x1), (2, .int x2), (3, .ref (gadr (XG X) (7, 0, 0)))] [] M 0 0 := by
  unfold FX0_lands
  refine j_aload_n hC 3 dX0_lands_0 rfl ?_
  refine j_iconst (v := 0) hC dX0_lands_1 (by decide) ?_
  refine j_aload_n hC 0 dX0_lands_2 rfl ?_
  refine j_iload_n hC 1 dX0_lands_3 rfl ?_
  refine j_iload_n hC 2 dX0_lands_4 rfl ?_
  refine j_callVH (nA := 2) (rest := [.int 0, .ref (gadr (XG X) (7, 0, 0))]) hC [.int x1, .int x2] rfl (fun r hr => mX1_lands (XL X) (JTW.st hT) (XG X) hG fu (XD X) M x1 x2 r hr) q1272 q1273 q1274 q126 q1275 (dmY hG rfl) rfl rfl (by decide +kernel) rfl rfl rfl rfl rfl rfl dX0_lands_5 (fun v5 => [.int v5, .int 0, .ref (gadr (XG X) (7, 0, 0))]) (fun _ => rfl) (fun v5 M5 => ?_) (fun e M5 => ?_)
  · refine j_i2l hC dX0_lands_8 ?_
    refine j_last hC (dmO hG) rfl dX0_lands_9 (fun h9 => ?_)
    refine j_lt (fun M9 => ?_)
    refine j_goto (tgt := 17) hC dX0_lands_10 (by decide) ?_
    refine j_iconst (v := 0) hC dX0_lands_17 (by decide) ?_
    exact j_iretT hC rfl rfl dX0_lands_18
  · refine jh_case ?_ ?_
    · refine jh_catch hC hT (by decide) (by decide) (by decide) q1052 (by decide +kernel) (fun q5 => ?_)
      refine j_astore hC [(4, .ref q5), (0, .ref (gadr (XG X) (4, 0, 0))), (1, .int x1), (2, .int x2), (3, .ref (gadr (XG X) (7, 0, 0)))] hnl dX0_lands_13 rfl rfl ?_
      refine j_iconst (v := 1) hC dX0_lands_15 (by decide) ?_
      exact j_iretT hC rfl rfl dX0_lands_16
    exact jh_none
set_option linter.unusedVariables false in
set_option maxRecDepth 100000 in
theorem mX0_lands (l : Launch) (hst : l.stackTraces = false) (Γ : xG) (hG : dmI dmX Γ) (fu : Nat) (D : List LDen) (M : Mem) (x1 x2 : Int32) (r : TR) (hr : FX0_lands fu D M x1 x2 = some r) : CT l yX0_lands (wsW_ yX0_lands cX0_lands 5 (some .int) [(0, 10, 13, 24)]) 40 1462 2 12 Γ D [.ref (gadr Γ (4, 0, 0)), .int x1, .int x2, .ref (gadr Γ (7, 0, 0))] M foI r := by
  refine CTW.of hst (own := RX0) (lv0 := lv_args 0 [.ref (gadr Γ (4, 0, 0)), .int x1, .int x2, .ref (gadr Γ (7, 0, 0))]) (by decide +kernel) rfl (Nat.le_of_ble_eq_true rfl) rfl (fun X e1 e2 e3 e4 hC hT => ?_) r hr
  subst e1
  subst e2
  exact wX0_lands hC hT hG e4 fu M x1 x2
set_option linter.unusedVariables false in
set_option maxRecDepth 100000 in
theorem wX0_good {X : JX} (hC : JC X cX0_good RX0 (some .int) 40 1462 2 12) (hT : JTW X [(0, 10, 13, 24), (0, 10, 17, 13)]) (hG : dmI dmX (XG X)) (hnl : nLof X = 5) (fu : Nat) (M : Mem) (x1 x2 : Int32) : J X (ZT X foI 2 12) (FX0_good fu (XD X) M x1 x2) 0 [(0, .ref (gadr (XG X) (4, 0, 0))), (1, .int x1), (2, .int x2), (3, .ref (gadr (XG X) (7, 0, 0)))] [] M 0 0 := by
  unfold FX0_good
  refine j_aload_n hC 3 dX0_good_0 rfl ?_
  refine j_iconst (v := 0) hC dX0_good_1 (by decide) ?_
  refine j_aload_n hC 0 dX0_good_2 rfl ?_
  refine j_iload_n hC 1 dX0_good_3 rfl ?_
  refine j_iload_n hC 2 dX0_good_4 rfl ?_
  refine j_callVH (nA := 2) (rest := [.int 0, .ref (gadr (XG X) (7, 0, 0))]) hC [.int x1, .int x2] rfl (fun r hr => mX1_good (XL X) (JTW.st hT) (XG X) hG fu (XD X) M x1 x2 r hr) q1279 q1280 q1281 q126 q1282 (dmY hG rfl) rfl rfl (by decide +kernel) rfl rfl rfl rfl rfl rfl dX0_good_5 (fun v5 => [.int v5, .int 0, .ref (gadr (XG X) (7, 0, 0))]) (fun _ => rfl) (fun v5 M5 => ?_) (fun e M5 => ?_)
  · refine j_i2l hC dX0_good_8 ?_
    refine j_last hC (dmO hG) rfl dX0_good_9 (fun h9 => ?_)
    refine j_lt (fun M9 => ?_)
    refine j_goto (tgt := 21) hC dX0_good_10 (by decide) ?_
    refine j_iconst (v := 0) hC dX0_good_21 (by decide) ?_
    exact j_iretT hC rfl rfl dX0_good_22
  · refine jh_case ?_ ?_
    · refine jh_catch hC hT (by decide) (by decide) (by decide) q1052 (by decide +kernel) (fun q5 => ?_)
      refine j_astore hC [(4, .ref q5), (0, .ref (gadr (XG X) (4, 0, 0))), (1, .int x1), (2, .int x2), (3, .ref (gadr (XG X) (7, 0, 0)))] hnl dX0_good_13 rfl rfl ?_
      refine j_iconst (v := 1) hC dX0_good_15 (by decide) ?_
      exact j_iretT hC rfl rfl dX0_good_16
    refine jh_case ?_ ?_
    · refine jh_catch2 (nm0 := exN 3) hC hT (by decide) (by decide) (by decide) (by decide) q1052 (by decide +kernel) q735 (by decide +kernel) (fun q5 => ?_)
      refine j_astore hC [(4, .ref q5), (0, .ref (gadr (XG X) (4, 0, 0))), (1, .int x1), (2, .int x2), (3, .ref (gadr (XG X) (7, 0, 0)))] hnl dX0_good_17 rfl rfl ?_
      refine j_iconst (v := 2) hC dX0_good_19 (by decide) ?_
      exact j_iretT hC rfl rfl dX0_good_20
    exact jh_none
set_option linter.unusedVariables false in
set_option maxRecDepth 100000 in
theorem mX0_good (l : Launch) (hst : l.stackTraces = false) (Γ : xG) (hG : dmI dmX Γ) (fu : Nat) (D : List LDen) (M : Mem) (x1 x2 : Int32) (r : TR) (hr : FX0_good fu D M x1 x2 = some r) : CT l yX0_good (wsW_ yX0_good cX0_good 5 (some .int) [(0, 10, 13, 24), (0, 10, 17, 13)]) 40 1462 2 12 Γ D [.ref (gadr Γ (4, 0, 0)), .int x1, .int x2, .ref (gadr Γ (7, 0, 0))] M foI r := by
  refine CTW.of hst (own := RX0) (lv0 := lv_args 0 [.ref (gadr Γ (4, 0, 0)), .int x1, .int x2, .ref (gadr Γ (7, 0, 0))]) (by decide +kernel) rfl (Nat.le_of_ble_eq_true rfl) rfl (fun X e1 e2 e3 e4 hC hT => ?_) r hr
  subst e1
  subst e2
  exact wX0_good hC hT hG e4 fu M x1 x2
set_option linter.unusedVariables false in
set_option maxRecDepth 100000 in
theorem wX0_straight {X : JX} (hC : JC X cX0_straight RX0 (some .int) 38 1412 1 6) (hT : JTW X [(0, 10, 13, 24)]) (hG : dmI dmX (XG X)) (hnl : nLof X = 5) (fu : Nat) (M : Mem) (x1 x2 : Int32) : J X (ZT X foI 1 6) (FX0_straight fu (XD X) M x1 x2) 0 [(0, .ref (gadr (XG X) (4, 0, 0))), (1, .int x1), (2, .int x2), (3, .ref (gadr (XG X) (7, 0, 0)))] [] M 0 0 := by
  unfold FX0_straight
  refine j_aload_n hC 3 dX0_straight_0 rfl ?_
  refine j_iconst (v := 0) hC dX0_straight_1 (by decide) ?_
  refine j_aload_n hC 0 dX0_straight_2 rfl ?_
  refine j_iload_n hC 1 dX0_straight_3 rfl ?_
  refine j_iload_n hC 2 dX0_straight_4 rfl ?_
  refine j_callVH (nA := 2) (rest := [.int 0, .ref (gadr (XG X) (7, 0, 0))]) hC [.int x1, .int x2] rfl (fun r hr => mX1_straight (XL X) (JTW.st hT) (XG X) hG fu (XD X) M x1 x2 r hr) q1286 q1287 q1288 q126 q1289 (dmY hG rfl) rfl rfl (by decide +kernel) rfl rfl rfl rfl rfl rfl dX0_straight_5 (fun v5 => [.int v5, .int 0, .ref (gadr (XG X) (7, 0, 0))]) (fun _ => rfl) (fun v5 M5 => ?_) (fun e M5 => ?_)
  · refine j_i2l hC dX0_straight_8 ?_
    refine j_last hC (dmO hG) rfl dX0_straight_9 (fun h9 => ?_)
    refine j_lt (fun M9 => ?_)
    refine j_goto (tgt := 17) hC dX0_straight_10 (by decide) ?_
    refine j_iconst (v := 0) hC dX0_straight_17 (by decide) ?_
    exact j_iretT hC rfl rfl dX0_straight_18
  · refine jh_case ?_ ?_
    · refine jh_catch hC hT (by decide) (by decide) (by decide) q1052 (by decide +kernel) (fun q5 => ?_)
      refine j_astore hC [(4, .ref q5), (0, .ref (gadr (XG X) (4, 0, 0))), (1, .int x1), (2, .int x2), (3, .ref (gadr (XG X) (7, 0, 0)))] hnl dX0_straight_13 rfl rfl ?_
      refine j_iconst (v := 1) hC dX0_straight_15 (by decide) ?_
      exact j_iretT hC rfl rfl dX0_straight_16
    exact jh_none
set_option linter.unusedVariables false in
set_option maxRecDepth 100000 in
theorem mX0_straight (l : Launch) (hst : l.stackTraces = false) (Γ : xG) (hG : dmI dmX Γ) (fu : Nat) (D : List LDen) (M : Mem) (x1 x2 : Int32) (r : TR) (hr : FX0_straight fu D M x1 x2 = some r) : CT l yX0_straight (wsW_ yX0_straight cX0_straight 5 (some .int) [(0, 10, 13, 24)]) 38 1412 1 6 Γ D [.ref (gadr Γ (4, 0, 0)), .int x1, .int x2, .ref (gadr Γ (7, 0, 0))] M foI r := by
  refine CTW.of hst (own := RX0) (lv0 := lv_args 0 [.ref (gadr Γ (4, 0, 0)), .int x1, .int x2, .ref (gadr Γ (7, 0, 0))]) (by decide +kernel) rfl (Nat.le_of_ble_eq_true rfl) rfl (fun X e1 e2 e3 e4 hC hT => ?_) r hr
  subst e1
  subst e2
  exact wX0_straight hC hT hG e4 fu M x1 x2
set_option linter.unusedVariables false in
set_option maxRecDepth 100000 in
theorem wX0_odds {X : JX} (hC : JC X cX0_odds RX0 (some .int) 41 1488 3 18) (hT : JTW X [(0, 12, 15, 24), (0, 12, 19, 26)]) (hG : dmI dmX (XG X)) (hnl : nLof X = 6) (fu : Nat) (M : Mem) (x1 x2 x3 : Int32) : J X (ZT X foI 3 18) (FX0_odds fu (XD X) M x1 x2 x3) 0 [(0, .ref (gadr (XG X) (4, 0, 0))), (1, .int x1), (2, .int x2), (3, .int x3), (4, .ref (gadr (XG X) (7, 0, 0)))] [] M 0 0 := by
  unfold FX0_odds
  refine j_aload hC 4 dX0_odds_0 rfl ?_
  refine j_iconst (v := 0) hC dX0_odds_2 (by decide) ?_
  refine j_aload_n hC 0 dX0_odds_3 rfl ?_
  refine j_iload_n hC 1 dX0_odds_4 rfl ?_
  refine j_iload_n hC 2 dX0_odds_5 rfl ?_
  refine j_iload_n hC 3 dX0_odds_6 rfl ?_
  refine j_callVH (nA := 3) (rest := [.int 0, .ref (gadr (XG X) (7, 0, 0))]) hC [.int x1, .int x2, .int x3] rfl (fun r hr => mX1_odds (XL X) (JTW.st hT) (XG X) hG fu (XD X) M x1 x2 x3 r hr) q1293 q1294 q1295 q126 q1296 (dmY hG rfl) rfl rfl (by decide +kernel) rfl rfl rfl rfl rfl rfl dX0_odds_7 (fun v7 => [.int v7, .int 0, .ref (gadr (XG X) (7, 0, 0))]) (fun _ => rfl) (fun v7 M7 => ?_) (fun e M7 => ?_)
  · refine j_i2l hC dX0_odds_10 ?_
    refine j_last hC (dmO hG) rfl dX0_odds_11 (fun h11 => ?_)
    refine j_lt (fun M11 => ?_)
    refine j_goto (tgt := 23) hC dX0_odds_12 (by decide) ?_
    refine j_iconst (v := 0) hC dX0_odds_23 (by decide) ?_
    exact j_iretT hC rfl rfl dX0_odds_24
  · refine jh_case ?_ ?_
    · refine jh_catch hC hT (by decide) (by decide) (by decide) q1052 (by decide +kernel) (fun q7 => ?_)
      refine j_astore hC [(5, .ref q7), (0, .ref (gadr (XG X) (4, 0, 0))), (1, .int x1), (2, .int x2), (3, .int x3), (4, .ref (gadr (XG X) (7, 0, 0)))] hnl dX0_odds_15 rfl rfl ?_
      refine j_iconst (v := 1) hC dX0_odds_17 (by decide) ?_
      exact j_iretT hC rfl rfl dX0_odds_18
    refine jh_case ?_ ?_
    · refine jh_catch2 (nm0 := exN 3) hC hT (by decide) (by decide) (by decide) (by decide) q1052 (by decide +kernel) q1084 (by decide +kernel) (fun q7 => ?_)
      refine j_astore hC [(5, .ref q7), (0, .ref (gadr (XG X) (4, 0, 0))), (1, .int x1), (2, .int x2), (3, .int x3), (4, .ref (gadr (XG X) (7, 0, 0)))] hnl dX0_odds_19 rfl rfl ?_
      refine j_iconst (v := 2) hC dX0_odds_21 (by decide) ?_
      exact j_iretT hC rfl rfl dX0_odds_22
    exact jh_none
set_option linter.unusedVariables false in
set_option maxRecDepth 100000 in
theorem mX0_odds (l : Launch) (hst : l.stackTraces = false) (Γ : xG) (hG : dmI dmX Γ) (fu : Nat) (D : List LDen) (M : Mem) (x1 x2 x3 : Int32) (r : TR) (hr : FX0_odds fu D M x1 x2 x3 = some r) : CT l yX0_odds (wsW_ yX0_odds cX0_odds 6 (some .int) [(0, 12, 15, 24), (0, 12, 19, 26)]) 41 1488 3 18 Γ D [.ref (gadr Γ (4, 0, 0)), .int x1, .int x2, .int x3, .ref (gadr Γ (7, 0, 0))] M foI r := by
  refine CTW.of hst (own := RX0) (lv0 := lv_args 0 [.ref (gadr Γ (4, 0, 0)), .int x1, .int x2, .int x3, .ref (gadr Γ (7, 0, 0))]) (by decide +kernel) rfl (Nat.le_of_ble_eq_true rfl) rfl (fun X e1 e2 e3 e4 hC hT => ?_) r hr
  subst e1
  subst e2
  exact wX0_odds hC hT hG e4 fu M x1 x2 x3
set_option linter.unusedVariables false in
set_option maxRecDepth 100000 in
theorem wX0_best {X : JX} (hC : JC X cX0_best RX0 (some .int) 41 1488 1 6) (hT : JTW X [(0, 10, 13, 24)]) (hG : dmI dmX (XG X)) (hnl : nLof X = 5) (fu : Nat) (M : Mem) (x1 x2 : Int32) : J X (ZT X foI 1 6) (FX0_best fu (XD X) M x1 x2) 0 [(0, .ref (gadr (XG X) (4, 0, 0))), (1, .int x1), (2, .int x2), (3, .ref (gadr (XG X) (7, 0, 0)))] [] M 0 0 := by
  unfold FX0_best
  refine j_aload_n hC 3 dX0_best_0 rfl ?_
  refine j_iconst (v := 0) hC dX0_best_1 (by decide) ?_
  refine j_aload_n hC 0 dX0_best_2 rfl ?_
  refine j_iload_n hC 1 dX0_best_3 rfl ?_
  refine j_iload_n hC 2 dX0_best_4 rfl ?_
  refine j_callVH (nA := 2) (rest := [.int 0, .ref (gadr (XG X) (7, 0, 0))]) hC [.int x1, .int x2] rfl (fun r hr => mX1_best (XL X) (JTW.st hT) (XG X) hG fu (XD X) M x1 x2 r hr) q1308 q1309 q1310 q126 q1311 (dmY hG rfl) rfl rfl (by decide +kernel) rfl rfl rfl rfl rfl rfl dX0_best_5 (fun v5 => [.int v5, .int 0, .ref (gadr (XG X) (7, 0, 0))]) (fun _ => rfl) (fun v5 M5 => ?_) (fun e M5 => ?_)
  · refine j_i2l hC dX0_best_8 ?_
    refine j_last hC (dmO hG) rfl dX0_best_9 (fun h9 => ?_)
    refine j_lt (fun M9 => ?_)
    refine j_goto (tgt := 17) hC dX0_best_10 (by decide) ?_
    refine j_iconst (v := 0) hC dX0_best_17 (by decide) ?_
    exact j_iretT hC rfl rfl dX0_best_18
  · refine jh_case ?_ ?_
    · refine jh_catch hC hT (by decide) (by decide) (by decide) q1052 (by decide +kernel) (fun q5 => ?_)
      refine j_astore hC [(4, .ref q5), (0, .ref (gadr (XG X) (4, 0, 0))), (1, .int x1), (2, .int x2), (3, .ref (gadr (XG X) (7, 0, 0)))] hnl dX0_best_13 rfl rfl ?_
      refine j_iconst (v := 1) hC dX0_best_15 (by decide) ?_
      exact j_iretT hC rfl rfl dX0_best_16
    exact jh_none
set_option linter.unusedVariables false in
set_option maxRecDepth 100000 in
theorem mX0_best (l : Launch) (hst : l.stackTraces = false) (Γ : xG) (hG : dmI dmX Γ) (fu : Nat) (D : List LDen) (M : Mem) (x1 x2 : Int32) (r : TR) (hr : FX0_best fu D M x1 x2 = some r) : CT l yX0_best (wsW_ yX0_best cX0_best 5 (some .int) [(0, 10, 13, 24)]) 41 1488 1 6 Γ D [.ref (gadr Γ (4, 0, 0)), .int x1, .int x2, .ref (gadr Γ (7, 0, 0))] M foI r := by
  refine CTW.of hst (own := RX0) (lv0 := lv_args 0 [.ref (gadr Γ (4, 0, 0)), .int x1, .int x2, .ref (gadr Γ (7, 0, 0))]) (by decide +kernel) rfl (Nat.le_of_ble_eq_true rfl) rfl (fun X e1 e2 e3 e4 hC hT => ?_) r hr
  subst e1
  subst e2
  exact wX0_best hC hT hG e4 fu M x1 x2
set_option linter.unusedVariables false in
set_option maxRecDepth 100000 in
theorem wX0_when {X : JX} (hC : JC X cX0_when RX0 (some .int) 41 1489 2 12) (hT : JTW X [(0, 10, 13, 24)]) (hG : dmI dmX (XG X)) (hnl : nLof X = 5) (fu : Nat) (M : Mem) (x1 x2 : Int32) : J X (ZT X foI 2 12) (FX0_when fu (XD X) M x1 x2) 0 [(0, .ref (gadr (XG X) (4, 0, 0))), (1, .int x1), (2, .int x2), (3, .ref (gadr (XG X) (7, 0, 0)))] [] M 0 0 := by
  unfold FX0_when
  refine j_aload_n hC 3 dX0_when_0 rfl ?_
  refine j_iconst (v := 0) hC dX0_when_1 (by decide) ?_
  refine j_aload_n hC 0 dX0_when_2 rfl ?_
  refine j_iload_n hC 1 dX0_when_3 rfl ?_
  refine j_iload_n hC 2 dX0_when_4 rfl ?_
  refine j_callVH (nA := 2) (rest := [.int 0, .ref (gadr (XG X) (7, 0, 0))]) hC [.int x1, .int x2] rfl (fun r hr => mX1_when (XL X) (JTW.st hT) (XG X) hG fu (XD X) M x1 x2 r hr) q1315 q1316 q1317 q126 q1318 (dmY hG rfl) rfl rfl (by decide +kernel) rfl rfl rfl rfl rfl rfl dX0_when_5 (fun v5 => [.int v5, .int 0, .ref (gadr (XG X) (7, 0, 0))]) (fun _ => rfl) (fun v5 M5 => ?_) (fun e M5 => ?_)
  · refine j_i2l hC dX0_when_8 ?_
    refine j_last hC (dmO hG) rfl dX0_when_9 (fun h9 => ?_)
    refine j_lt (fun M9 => ?_)
    refine j_goto (tgt := 17) hC dX0_when_10 (by decide) ?_
    refine j_iconst (v := 0) hC dX0_when_17 (by decide) ?_
    exact j_iretT hC rfl rfl dX0_when_18
  · refine jh_case ?_ ?_
    · refine jh_catch hC hT (by decide) (by decide) (by decide) q1052 (by decide +kernel) (fun q5 => ?_)
      refine j_astore hC [(4, .ref q5), (0, .ref (gadr (XG X) (4, 0, 0))), (1, .int x1), (2, .int x2), (3, .ref (gadr (XG X) (7, 0, 0)))] hnl dX0_when_13 rfl rfl ?_
      refine j_iconst (v := 1) hC dX0_when_15 (by decide) ?_
      exact j_iretT hC rfl rfl dX0_when_16
    exact jh_none
set_option linter.unusedVariables false in
set_option maxRecDepth 100000 in
theorem mX0_when (l : Launch) (hst : l.stackTraces = false) (Γ : xG) (hG : dmI dmX Γ) (fu : Nat) (D : List LDen) (M : Mem) (x1 x2 : Int32) (r : TR) (hr : FX0_when fu D M x1 x2 = some r) : CT l yX0_when (wsW_ yX0_when cX0_when 5 (some .int) [(0, 10, 13, 24)]) 41 1489 2 12 Γ D [.ref (gadr Γ (4, 0, 0)), .int x1, .int x2, .ref (gadr Γ (7, 0, 0))] M foI r := by
  refine CTW.of hst (own := RX0) (lv0 := lv_args 0 [.ref (gadr Γ (4, 0, 0)), .int x1, .int x2, .ref (gadr Γ (7, 0, 0))]) (by decide +kernel) rfl (Nat.le_of_ble_eq_true rfl) rfl (fun X e1 e2 e3 e4 hC hT => ?_) r hr
  subst e1
  subst e2
  exact wX0_when hC hT hG e4 fu M x1 x2
set_option linter.unusedVariables false in
set_option maxRecDepth 100000 in
theorem wX0_surest {X : JX} (hC : JC X cX0_surest RX0 (some .int) 42 1516 2 12) (hT : JTW X [(0, 12, 15, 24), (0, 12, 19, 46)]) (hG : dmI dmX (XG X)) (hnl : nLof X = 6) (fu : Nat) (M : Mem) (x1 x2 x3 : Int32) : J X (ZT X foI 2 12) (FX0_surest fu (XD X) M x1 x2 x3) 0 [(0, .ref (gadr (XG X) (4, 0, 0))), (1, .int x1), (2, .int x2), (3, .int x3), (4, .ref (gadr (XG X) (7, 0, 0)))] [] M 0 0 := by
  unfold FX0_surest
  refine j_aload hC 4 dX0_surest_0 rfl ?_
  refine j_iconst (v := 0) hC dX0_surest_2 (by decide) ?_
  refine j_aload_n hC 0 dX0_surest_3 rfl ?_
  refine j_iload_n hC 1 dX0_surest_4 rfl ?_
  refine j_iload_n hC 2 dX0_surest_5 rfl ?_
  refine j_iload_n hC 3 dX0_surest_6 rfl ?_
  refine j_callVH (nA := 3) (rest := [.int 0, .ref (gadr (XG X) (7, 0, 0))]) hC [.int x1, .int x2, .int x3] rfl (fun r hr => mX1_surest (XL X) (JTW.st hT) (XG X) hG fu (XD X) M x1 x2 x3 r hr) q1322 q1323 q1324 q126 q1325 (dmY hG rfl) rfl rfl (by decide +kernel) rfl rfl rfl rfl rfl rfl dX0_surest_7 (fun v7 => [.int v7, .int 0, .ref (gadr (XG X) (7, 0, 0))]) (fun _ => rfl) (fun v7 M7 => ?_) (fun e M7 => ?_)
  · refine j_i2l hC dX0_surest_10 ?_
    refine j_last hC (dmO hG) rfl dX0_surest_11 (fun h11 => ?_)
    refine j_lt (fun M11 => ?_)
    refine j_goto (tgt := 23) hC dX0_surest_12 (by decide) ?_
    refine j_iconst (v := 0) hC dX0_surest_23 (by decide) ?_
    exact j_iretT hC rfl rfl dX0_surest_24
  · refine jh_case ?_ ?_
    · refine jh_catch hC hT (by decide) (by decide) (by decide) q1052 (by decide +kernel) (fun q7 => ?_)
      refine j_astore hC [(5, .ref q7), (0, .ref (gadr (XG X) (4, 0, 0))), (1, .int x1), (2, .int x2), (3, .int x3), (4, .ref (gadr (XG X) (7, 0, 0)))] hnl dX0_surest_15 rfl rfl ?_
      refine j_iconst (v := 1) hC dX0_surest_17 (by decide) ?_
      exact j_iretT hC rfl rfl dX0_surest_18
    refine jh_case ?_ ?_
    · refine jh_catch2 (nm0 := exN 3) hC hT (by decide) (by decide) (by decide) (by decide) q1052 (by decide +kernel) q1175 (by decide +kernel) (fun q7 => ?_)
      refine j_astore hC [(5, .ref q7), (0, .ref (gadr (XG X) (4, 0, 0))), (1, .int x1), (2, .int x2), (3, .int x3), (4, .ref (gadr (XG X) (7, 0, 0)))] hnl dX0_surest_19 rfl rfl ?_
      refine j_iconst (v := 2) hC dX0_surest_21 (by decide) ?_
      exact j_iretT hC rfl rfl dX0_surest_22
    exact jh_none
set_option linter.unusedVariables false in
set_option maxRecDepth 100000 in
theorem mX0_surest (l : Launch) (hst : l.stackTraces = false) (Γ : xG) (hG : dmI dmX Γ) (fu : Nat) (D : List LDen) (M : Mem) (x1 x2 x3 : Int32) (r : TR) (hr : FX0_surest fu D M x1 x2 x3 = some r) : CT l yX0_surest (wsW_ yX0_surest cX0_surest 6 (some .int) [(0, 12, 15, 24), (0, 12, 19, 46)]) 42 1516 2 12 Γ D [.ref (gadr Γ (4, 0, 0)), .int x1, .int x2, .int x3, .ref (gadr Γ (7, 0, 0))] M foI r := by
  refine CTW.of hst (own := RX0) (lv0 := lv_args 0 [.ref (gadr Γ (4, 0, 0)), .int x1, .int x2, .int x3, .ref (gadr Γ (7, 0, 0))]) (by decide +kernel) rfl (Nat.le_of_ble_eq_true rfl) rfl (fun X e1 e2 e3 e4 hC hT => ?_) r hr
  subst e1
  subst e2
  exact wX0_surest hC hT hG e4 fu M x1 x2 x3
set_option linter.unusedVariables false in
set_option maxRecDepth 100000 in
theorem wX0_rests {X : JX} (hC : JC X cX0_rests RX0 (some .int) 42 1516 2 12) (hT : JTW X [(0, 10, 13, 24), (0, 10, 17, 46)]) (hG : dmI dmX (XG X)) (hnl : nLof X = 5) (fu : Nat) (M : Mem) (x1 x2 : Int32) : J X (ZT X foI 2 12) (FX0_rests fu (XD X) M x1 x2) 0 [(0, .ref (gadr (XG X) (4, 0, 0))), (1, .int x1), (2, .int x2), (3, .ref (gadr (XG X) (7, 0, 0)))] [] M 0 0 := by
  unfold FX0_rests
  refine j_aload_n hC 3 dX0_rests_0 rfl ?_
  refine j_iconst (v := 0) hC dX0_rests_1 (by decide) ?_
  refine j_aload_n hC 0 dX0_rests_2 rfl ?_
  refine j_iload_n hC 1 dX0_rests_3 rfl ?_
  refine j_iload_n hC 2 dX0_rests_4 rfl ?_
  refine j_callVH (nA := 2) (rest := [.int 0, .ref (gadr (XG X) (7, 0, 0))]) hC [.int x1, .int x2] rfl (fun r hr => mX1_rests (XL X) (JTW.st hT) (XG X) hG fu (XD X) M x1 x2 r hr) q1344 q1345 q1346 q126 q1347 (dmY hG rfl) rfl rfl (by decide +kernel) rfl rfl rfl rfl rfl rfl dX0_rests_5 (fun v5 => [.int v5, .int 0, .ref (gadr (XG X) (7, 0, 0))]) (fun _ => rfl) (fun v5 M5 => ?_) (fun e M5 => ?_)
  · refine j_i2l hC dX0_rests_8 ?_
    refine j_last hC (dmO hG) rfl dX0_rests_9 (fun h9 => ?_)
    refine j_lt (fun M9 => ?_)
    refine j_goto (tgt := 21) hC dX0_rests_10 (by decide) ?_
    refine j_iconst (v := 0) hC dX0_rests_21 (by decide) ?_
    exact j_iretT hC rfl rfl dX0_rests_22
  · refine jh_case ?_ ?_
    · refine jh_catch hC hT (by decide) (by decide) (by decide) q1052 (by decide +kernel) (fun q5 => ?_)
      refine j_astore hC [(4, .ref q5), (0, .ref (gadr (XG X) (4, 0, 0))), (1, .int x1), (2, .int x2), (3, .ref (gadr (XG X) (7, 0, 0)))] hnl dX0_rests_13 rfl rfl ?_
      refine j_iconst (v := 1) hC dX0_rests_15 (by decide) ?_
      exact j_iretT hC rfl rfl dX0_rests_16
    refine jh_case ?_ ?_
    · refine jh_catch2 (nm0 := exN 3) hC hT (by decide) (by decide) (by decide) (by decide) q1052 (by decide +kernel) q1175 (by decide +kernel) (fun q5 => ?_)
      refine j_astore hC [(4, .ref q5), (0, .ref (gadr (XG X) (4, 0, 0))), (1, .int x1), (2, .int x2), (3, .ref (gadr (XG X) (7, 0, 0)))] hnl dX0_rests_17 rfl rfl ?_
      refine j_iconst (v := 2) hC dX0_rests_19 (by decide) ?_
      exact j_iretT hC rfl rfl dX0_rests_20
    exact jh_none
set_option linter.unusedVariables false in
set_option maxRecDepth 100000 in
theorem mX0_rests (l : Launch) (hst : l.stackTraces = false) (Γ : xG) (hG : dmI dmX Γ) (fu : Nat) (D : List LDen) (M : Mem) (x1 x2 : Int32) (r : TR) (hr : FX0_rests fu D M x1 x2 = some r) : CT l yX0_rests (wsW_ yX0_rests cX0_rests 5 (some .int) [(0, 10, 13, 24), (0, 10, 17, 46)]) 42 1516 2 12 Γ D [.ref (gadr Γ (4, 0, 0)), .int x1, .int x2, .ref (gadr Γ (7, 0, 0))] M foI r := by
  refine CTW.of hst (own := RX0) (lv0 := lv_args 0 [.ref (gadr Γ (4, 0, 0)), .int x1, .int x2, .ref (gadr Γ (7, 0, 0))]) (by decide +kernel) rfl (Nat.le_of_ble_eq_true rfl) rfl (fun X e1 e2 e3 e4 hC hT => ?_) r hr
  subst e1
  subst e2
  exact wX0_rests hC hT hG e4 fu M x1 x2
set_option linter.unusedVariables false in
set_option maxRecDepth 100000 in
theorem wX0_fair {X : JX} (hC : JC X cX0_fair RX0 (some .int) 42 1514 2 12) (hT : JTW X [(0, 9, 12, 24), (0, 9, 15, 46)]) (hG : dmI dmX (XG X)) (hnl : nLof X = 4) (fu : Nat) (M : Mem) (x1 : Int32) : J X (ZT X foI 2 12) (FX0_fair fu (XD X) M x1) 0 [(0, .ref (gadr (XG X) (4, 0, 0))), (1, .int x1), (2, .ref (gadr (XG X) (7, 0, 0)))] [] M 0 0 := by
  unfold FX0_fair
  refine j_aload_n hC 2 dX0_fair_0 rfl ?_
  refine j_iconst (v := 0) hC dX0_fair_1 (by decide) ?_
  refine j_aload_n hC 0 dX0_fair_2 rfl ?_
  refine j_iload_n hC 1 dX0_fair_3 rfl ?_
  refine j_callVH (nA := 1) (rest := [.int 0, .ref (gadr (XG X) (7, 0, 0))]) hC [.int x1] rfl (fun r hr => mX1_fair (XL X) (JTW.st hT) (XG X) hG fu (XD X) M x1 r hr) q1355 q1356 q1357 q126 q1358 (dmY hG rfl) rfl rfl (by decide +kernel) rfl rfl rfl rfl rfl rfl dX0_fair_4 (fun v4 => [.int v4, .int 0, .ref (gadr (XG X) (7, 0, 0))]) (fun _ => rfl) (fun v4 M4 => ?_) (fun e M4 => ?_)
  · refine j_i2l hC dX0_fair_7 ?_
    refine j_last hC (dmO hG) rfl dX0_fair_8 (fun h8 => ?_)
    refine j_lt (fun M8 => ?_)
    refine j_goto (tgt := 18) hC dX0_fair_9 (by decide) ?_
    refine j_iconst (v := 0) hC dX0_fair_18 (by decide) ?_
    exact j_iretT hC rfl rfl dX0_fair_19
  · refine jh_case ?_ ?_
    · refine jh_catch hC hT (by decide) (by decide) (by decide) q1052 (by decide +kernel) (fun q4 => ?_)
      refine j_astore_n hC [(3, .ref q4), (0, .ref (gadr (XG X) (4, 0, 0))), (1, .int x1), (2, .ref (gadr (XG X) (7, 0, 0)))] hnl dX0_fair_12 rfl rfl ?_
      refine j_iconst (v := 1) hC dX0_fair_13 (by decide) ?_
      exact j_iretT hC rfl rfl dX0_fair_14
    refine jh_case ?_ ?_
    · refine jh_catch2 (nm0 := exN 3) hC hT (by decide) (by decide) (by decide) (by decide) q1052 (by decide +kernel) q1175 (by decide +kernel) (fun q4 => ?_)
      refine j_astore_n hC [(3, .ref q4), (0, .ref (gadr (XG X) (4, 0, 0))), (1, .int x1), (2, .ref (gadr (XG X) (7, 0, 0)))] hnl dX0_fair_15 rfl rfl ?_
      refine j_iconst (v := 2) hC dX0_fair_16 (by decide) ?_
      exact j_iretT hC rfl rfl dX0_fair_17
    exact jh_none
set_option linter.unusedVariables false in
set_option maxRecDepth 100000 in
theorem mX0_fair (l : Launch) (hst : l.stackTraces = false) (Γ : xG) (hG : dmI dmX Γ) (fu : Nat) (D : List LDen) (M : Mem) (x1 : Int32) (r : TR) (hr : FX0_fair fu D M x1 = some r) : CT l yX0_fair (wsW_ yX0_fair cX0_fair 4 (some .int) [(0, 9, 12, 24), (0, 9, 15, 46)]) 42 1514 2 12 Γ D [.ref (gadr Γ (4, 0, 0)), .int x1, .ref (gadr Γ (7, 0, 0))] M foI r := by
  refine CTW.of hst (own := RX0) (lv0 := lv_args 0 [.ref (gadr Γ (4, 0, 0)), .int x1, .ref (gadr Γ (7, 0, 0))]) (by decide +kernel) rfl (Nat.le_of_ble_eq_true rfl) rfl (fun X e1 e2 e3 e4 hC hT => ?_) r hr
  subst e1
  subst e2
  exact wX0_fair hC hT hG e4 fu M x1
set_option linter.unusedVariables false in
set_option maxRecDepth 100000 in
theorem wX0_songs {X : JX} (hC : JC X cX0_songs RX0 (some .int) 9 162 1 6) (hT : JTW X [(0, 9, 12, 13)]) (hG : dmI dmX (XG X)) (hnl : nLof X = 4) (fu : Nat) (M : Mem) (x1 : Int32) : J X (ZT X foI 1 6) (FX0_songs fu (XD X) M x1) 0 [(0, .ref (gadr (XG X) (4, 0, 0))), (1, .int x1), (2, .ref (gadr (XG X) (7, 0, 0)))] [] M 0 0 := by
  unfold FX0_songs
  refine j_aload_n hC 2 dX0_songs_0 rfl ?_
  refine j_iconst (v := 0) hC dX0_songs_1 (by decide) ?_
  refine j_aload_n hC 0 dX0_songs_2 rfl ?_
  refine j_iload_n hC 1 dX0_songs_3 rfl ?_
  refine j_callVH (nA := 1) (rest := [.int 0, .ref (gadr (XG X) (7, 0, 0))]) hC [.int x1] rfl (fun r hr => mX1_songs (XL X) (JTW.st hT) (XG X) hG fu (XD X) M x1 r hr) q1365 q1366 q1367 q126 q1368 (dmY hG rfl) rfl rfl (by decide +kernel) rfl rfl rfl rfl rfl rfl dX0_songs_4 (fun v4 => [.int v4, .int 0, .ref (gadr (XG X) (7, 0, 0))]) (fun _ => rfl) (fun v4 M4 => ?_) (fun e M4 => ?_)
  · refine j_i2l hC dX0_songs_7 ?_
    refine j_last hC (dmO hG) rfl dX0_songs_8 (fun h8 => ?_)
    refine j_lt (fun M8 => ?_)
    refine j_goto (tgt := 15) hC dX0_songs_9 (by decide) ?_
    refine j_iconst (v := 0) hC dX0_songs_15 (by decide) ?_
    exact j_iretT hC rfl rfl dX0_songs_16
  · refine jh_case ?_ ?_
    · refine jh_catch hC hT (by decide) (by decide) (by decide) q735 (by decide +kernel) (fun q4 => ?_)
      refine j_astore_n hC [(3, .ref q4), (0, .ref (gadr (XG X) (4, 0, 0))), (1, .int x1), (2, .ref (gadr (XG X) (7, 0, 0)))] hnl dX0_songs_12 rfl rfl ?_
      refine j_iconst (v := 1) hC dX0_songs_13 (by decide) ?_
      exact j_iretT hC rfl rfl dX0_songs_14
    exact jh_none
set_option linter.unusedVariables false in
set_option maxRecDepth 100000 in
theorem mX0_songs (l : Launch) (hst : l.stackTraces = false) (Γ : xG) (hG : dmI dmX Γ) (fu : Nat) (D : List LDen) (M : Mem) (x1 : Int32) (r : TR) (hr : FX0_songs fu D M x1 = some r) : CT l yX0_songs (wsW_ yX0_songs cX0_songs 4 (some .int) [(0, 9, 12, 13)]) 9 162 1 6 Γ D [.ref (gadr Γ (4, 0, 0)), .int x1, .ref (gadr Γ (7, 0, 0))] M foI r := by
  refine CTW.of hst (own := RX0) (lv0 := lv_args 0 [.ref (gadr Γ (4, 0, 0)), .int x1, .ref (gadr Γ (7, 0, 0))]) (by decide +kernel) rfl (Nat.le_of_ble_eq_true rfl) rfl (fun X e1 e2 e3 e4 hC hT => ?_) r hr
  subst e1
  subst e2
  exact wX0_songs hC hT hG e4 fu M x1
set_option linter.unusedVariables false in
set_option maxRecDepth 100000 in
theorem wX0_ask {X : JX} (hC : JC X cX0_ask RX0 (some .int) 9 164 1 6) (hT : JTW X [(0, 8, 11, 13)]) (hG : dmI dmX (XG X)) (hnl : nLof X = 3) (fu : Nat) (M : Mem) : J X (ZT X foI 1 6) (FX0_ask fu (XD X) M) 0 [(0, .ref (gadr (XG X) (4, 0, 0))), (1, .ref (gadr (XG X) (7, 0, 0)))] [] M 0 0 := by
  unfold FX0_ask
  refine j_aload_n hC 1 dX0_ask_0 rfl ?_
  refine j_iconst (v := 0) hC dX0_ask_1 (by decide) ?_
  refine j_aload_n hC 0 dX0_ask_2 rfl ?_
  refine j_callVH (nA := 0) (rest := [.int 0, .ref (gadr (XG X) (7, 0, 0))]) hC [] rfl (fun r hr => mX1_ask (XL X) (JTW.st hT) (XG X) hG fu (XD X) M r hr) q1380 q1381 q1382 q126 q1383 (dmY hG rfl) rfl rfl (by decide +kernel) rfl rfl rfl rfl rfl rfl dX0_ask_3 (fun v3 => [.int v3, .int 0, .ref (gadr (XG X) (7, 0, 0))]) (fun _ => rfl) (fun v3 M3 => ?_) (fun e M3 => ?_)
  · refine j_i2l hC dX0_ask_6 ?_
    refine j_last hC (dmO hG) rfl dX0_ask_7 (fun h7 => ?_)
    refine j_lt (fun M7 => ?_)
    refine j_goto (tgt := 14) hC dX0_ask_8 (by decide) ?_
    refine j_iconst (v := 0) hC dX0_ask_14 (by decide) ?_
    exact j_iretT hC rfl rfl dX0_ask_15
  · refine jh_case ?_ ?_
    · refine jh_catch hC hT (by decide) (by decide) (by decide) q735 (by decide +kernel) (fun q3 => ?_)
      refine j_astore_n hC [(2, .ref q3), (0, .ref (gadr (XG X) (4, 0, 0))), (1, .ref (gadr (XG X) (7, 0, 0)))] hnl dX0_ask_11 rfl rfl ?_
      refine j_iconst (v := 1) hC dX0_ask_12 (by decide) ?_
      exact j_iretT hC rfl rfl dX0_ask_13
    exact jh_none
set_option linter.unusedVariables false in
set_option maxRecDepth 100000 in
theorem mX0_ask (l : Launch) (hst : l.stackTraces = false) (Γ : xG) (hG : dmI dmX Γ) (fu : Nat) (D : List LDen) (M : Mem) (r : TR) (hr : FX0_ask fu D M = some r) : CT l yX0_ask (wsW_ yX0_ask cX0_ask 3 (some .int) [(0, 8, 11, 13)]) 9 164 1 6 Γ D [.ref (gadr Γ (4, 0, 0)), .ref (gadr Γ (7, 0, 0))] M foI r := by
  refine CTW.of hst (own := RX0) (lv0 := lv_args 0 [.ref (gadr Γ (4, 0, 0)), .ref (gadr Γ (7, 0, 0))]) (by decide +kernel) rfl (Nat.le_of_ble_eq_true rfl) rfl (fun X e1 e2 e3 e4 hC hT => ?_) r hr
  subst e1
  subst e2
  exact wX0_ask hC hT hG e4 fu M
set_option linter.unusedVariables false in
set_option maxRecDepth 100000 in
theorem wX0_tell {X : JX} (hC : JC X cX0_tell RX0 (some .int) 40 1464 2 12) (hT : JTW X [(0, 10, 13, 24), (0, 10, 17, 13)]) (hG : dmI dmX (XG X)) (hnl : nLof X = 5) (fu : Nat) (M : Mem) (x1 x2 : Int32) : J X (ZT X foI 2 12) (FX0_tell fu (XD X) M x1 x2) 0 [(0, .ref (gadr (XG X) (4, 0, 0))), (1, .int x1), (2, .int x2), (3, .ref (gadr (XG X) (7, 0, 0)))] [] M 0 0 := by
  unfold FX0_tell
  refine j_aload_n hC 3 dX0_tell_0 rfl ?_
  refine j_iconst (v := 0) hC dX0_tell_1 (by decide) ?_
  refine j_aload_n hC 0 dX0_tell_2 rfl ?_
  refine j_iload_n hC 1 dX0_tell_3 rfl ?_
  refine j_iload_n hC 2 dX0_tell_4 rfl ?_
  refine j_callVH (nA := 2) (rest := [.int 0, .ref (gadr (XG X) (7, 0, 0))]) hC [.int x1, .int x2] rfl (fun r hr => mX1_tell (XL X) (JTW.st hT) (XG X) hG fu (XD X) M x1 x2 r hr) q1388 q1389 q1390 q126 q1391 (dmY hG rfl) rfl rfl (by decide +kernel) rfl rfl rfl rfl rfl rfl dX0_tell_5 (fun v5 => [.int v5, .int 0, .ref (gadr (XG X) (7, 0, 0))]) (fun _ => rfl) (fun v5 M5 => ?_) (fun e M5 => ?_)
  · refine j_i2l hC dX0_tell_8 ?_
    refine j_last hC (dmO hG) rfl dX0_tell_9 (fun h9 => ?_)
    refine j_lt (fun M9 => ?_)
    refine j_goto (tgt := 21) hC dX0_tell_10 (by decide) ?_
    refine j_iconst (v := 0) hC dX0_tell_21 (by decide) ?_
    exact j_iretT hC rfl rfl dX0_tell_22
  · refine jh_case ?_ ?_
    · refine jh_catch hC hT (by decide) (by decide) (by decide) q1052 (by decide +kernel) (fun q5 => ?_)
      refine j_astore hC [(4, .ref q5), (0, .ref (gadr (XG X) (4, 0, 0))), (1, .int x1), (2, .int x2), (3, .ref (gadr (XG X) (7, 0, 0)))] hnl dX0_tell_13 rfl rfl ?_
      refine j_iconst (v := 1) hC dX0_tell_15 (by decide) ?_
      exact j_iretT hC rfl rfl dX0_tell_16
    refine jh_case ?_ ?_
    · refine jh_catch2 (nm0 := exN 3) hC hT (by decide) (by decide) (by decide) (by decide) q1052 (by decide +kernel) q735 (by decide +kernel) (fun q5 => ?_)
      refine j_astore hC [(4, .ref q5), (0, .ref (gadr (XG X) (4, 0, 0))), (1, .int x1), (2, .int x2), (3, .ref (gadr (XG X) (7, 0, 0)))] hnl dX0_tell_17 rfl rfl ?_
      refine j_iconst (v := 2) hC dX0_tell_19 (by decide) ?_
      exact j_iretT hC rfl rfl dX0_tell_20
    exact jh_none
set_option linter.unusedVariables false in
set_option maxRecDepth 100000 in
theorem mX0_tell (l : Launch) (hst : l.stackTraces = false) (Γ : xG) (hG : dmI dmX Γ) (fu : Nat) (D : List LDen) (M : Mem) (x1 x2 : Int32) (r : TR) (hr : FX0_tell fu D M x1 x2 = some r) : CT l yX0_tell (wsW_ yX0_tell cX0_tell 5 (some .int) [(0, 10, 13, 24), (0, 10, 17, 13)]) 40 1464 2 12 Γ D [.ref (gadr Γ (4, 0, 0)), .int x1, .int x2, .ref (gadr Γ (7, 0, 0))] M foI r := by
  refine CTW.of hst (own := RX0) (lv0 := lv_args 0 [.ref (gadr Γ (4, 0, 0)), .int x1, .int x2, .ref (gadr Γ (7, 0, 0))]) (by decide +kernel) rfl (Nat.le_of_ble_eq_true rfl) rfl (fun X e1 e2 e3 e4 hC hT => ?_) r hr
  subst e1
  subst e2
  exact wX0_tell hC hT hG e4 fu M x1 x2
set_option linter.unusedVariables false in
set_option maxRecDepth 100000 in
theorem wX0_lasts {X : JX} (hC : JC X cX0_lasts RX0 (some .int) 9 158 3 18) (hT : JTW X [(0, 12, 15, 24), (0, 12, 19, 13)]) (hG : dmI dmX (XG X)) (hnl : nLof X = 6) (fu : Nat) (M : Mem) (x1 x2 x3 : Int32) : J X (ZT X foI 3 18) (FX0_lasts fu (XD X) M x1 x2 x3) 0 [(0, .ref (gadr (XG X) (4, 0, 0))), (1, .int x1), (2, .int x2), (3, .int x3), (4, .ref (gadr (XG X) (7, 0, 0)))] [] M 0 0 := by
  unfold FX0_lasts
  refine j_aload hC 4 dX0_lasts_0 rfl ?_
  refine j_iconst (v := 0) hC dX0_lasts_2 (by decide) ?_
  refine j_aload_n hC 0 dX0_lasts_3 rfl ?_
  refine j_iload_n hC 1 dX0_lasts_4 rfl ?_
  refine j_iload_n hC 2 dX0_lasts_5 rfl ?_
  refine j_iload_n hC 3 dX0_lasts_6 rfl ?_
  refine j_callVH (nA := 3) (rest := [.int 0, .ref (gadr (XG X) (7, 0, 0))]) hC [.int x1, .int x2, .int x3] rfl (fun r hr => mX1_lasts (XL X) (JTW.st hT) (XG X) hG fu (XD X) M x1 x2 x3 r hr) q1395 q1396 q1397 q126 q1398 (dmY hG rfl) rfl rfl (by decide +kernel) rfl rfl rfl rfl rfl rfl dX0_lasts_7 (fun v7 => [.int v7, .int 0, .ref (gadr (XG X) (7, 0, 0))]) (fun _ => rfl) (fun v7 M7 => ?_) (fun e M7 => ?_)
  · refine j_i2l hC dX0_lasts_10 ?_
    refine j_last hC (dmO hG) rfl dX0_lasts_11 (fun h11 => ?_)
    refine j_lt (fun M11 => ?_)
    refine j_goto (tgt := 23) hC dX0_lasts_12 (by decide) ?_
    refine j_iconst (v := 0) hC dX0_lasts_23 (by decide) ?_
    exact j_iretT hC rfl rfl dX0_lasts_24
  · refine jh_case ?_ ?_
    · refine jh_catch hC hT (by decide) (by decide) (by decide) q1052 (by decide +kernel) (fun q7 => ?_)
      refine j_astore hC [(5, .ref q7), (0, .ref (gadr (XG X) (4, 0, 0))), (1, .int x1), (2, .int x2), (3, .int x3), (4, .ref (gadr (XG X) (7, 0, 0)))] hnl dX0_lasts_15 rfl rfl ?_
      refine j_iconst (v := 1) hC dX0_lasts_17 (by decide) ?_
      exact j_iretT hC rfl rfl dX0_lasts_18
    refine jh_case ?_ ?_
    · refine jh_catch2 (nm0 := exN 3) hC hT (by decide) (by decide) (by decide) (by decide) q1052 (by decide +kernel) q735 (by decide +kernel) (fun q7 => ?_)
      refine j_astore hC [(5, .ref q7), (0, .ref (gadr (XG X) (4, 0, 0))), (1, .int x1), (2, .int x2), (3, .int x3), (4, .ref (gadr (XG X) (7, 0, 0)))] hnl dX0_lasts_19 rfl rfl ?_
      refine j_iconst (v := 2) hC dX0_lasts_21 (by decide) ?_
      exact j_iretT hC rfl rfl dX0_lasts_22
    exact jh_none
set_option linter.unusedVariables false in
set_option maxRecDepth 100000 in
theorem mX0_lasts (l : Launch) (hst : l.stackTraces = false) (Γ : xG) (hG : dmI dmX Γ) (fu : Nat) (D : List LDen) (M : Mem) (x1 x2 x3 : Int32) (r : TR) (hr : FX0_lasts fu D M x1 x2 x3 = some r) : CT l yX0_lasts (wsW_ yX0_lasts cX0_lasts 6 (some .int) [(0, 12, 15, 24), (0, 12, 19, 13)]) 9 158 3 18 Γ D [.ref (gadr Γ (4, 0, 0)), .int x1, .int x2, .int x3, .ref (gadr Γ (7, 0, 0))] M foI r := by
  refine CTW.of hst (own := RX0) (lv0 := lv_args 0 [.ref (gadr Γ (4, 0, 0)), .int x1, .int x2, .int x3, .ref (gadr Γ (7, 0, 0))]) (by decide +kernel) rfl (Nat.le_of_ble_eq_true rfl) rfl (fun X e1 e2 e3 e4 hC hT => ?_) r hr
  subst e1
  subst e2
  exact wX0_lasts hC hT hG e4 fu M x1 x2 x3
set_option linter.unusedVariables false in
set_option maxRecDepth 100000 in
theorem wX0_won {X : JX} (hC : JC X cX0_won RX0 (some .int) 9 160 1 6) (hT : JTW X [(0, 10, 13, 24)]) (hG : dmI dmX (XG X)) (hnl : nLof X = 5) (fu : Nat) (M : Mem) (x1 x2 : Int32) : J X (ZT X foI 1 6) (FX0_won fu (XD X) M x1 x2) 0 [(0, .ref (gadr (XG X) (4, 0, 0))), (1, .int x1), (2, .int x2), (3, .ref (gadr (XG X) (7, 0, 0)))] [] M 0 0 := by
  unfold FX0_won
  refine j_aload_n hC 3 dX0_won_0 rfl ?_
  refine j_iconst (v := 0) hC dX0_won_1 (by decide) ?_
  refine j_aload_n hC 0 dX0_won_2 rfl ?_
  refine j_iload_n hC 1 dX0_won_3 rfl ?_
  refine j_iload_n hC 2 dX0_won_4 rfl ?_
  refine j_callVH (nA := 2) (rest := [.int 0, .ref (gadr (XG X) (7, 0, 0))]) hC [.int x1, .int x2] rfl (fun r hr => mX1_won (XL X) (JTW.st hT) (XG X) hG fu (XD X) M x1 x2 r hr) q1402 q1403 q1404 q126 q1405 (dmY hG rfl) rfl rfl (by decide +kernel) rfl rfl rfl rfl rfl rfl dX0_won_5 (fun v5 => [.int v5, .int 0, .ref (gadr (XG X) (7, 0, 0))]) (fun _ => rfl) (fun v5 M5 => ?_) (fun e M5 => ?_)
  · refine j_i2l hC dX0_won_8 ?_
    refine j_last hC (dmO hG) rfl dX0_won_9 (fun h9 => ?_)
    refine j_lt (fun M9 => ?_)
    refine j_goto (tgt := 17) hC dX0_won_10 (by decide) ?_
    refine j_iconst (v := 0) hC dX0_won_17 (by decide) ?_
    exact j_iretT hC rfl rfl dX0_won_18
  · refine jh_case ?_ ?_
    · refine jh_catch hC hT (by decide) (by decide) (by decide) q1052 (by decide +kernel) (fun q5 => ?_)
      refine j_astore hC [(4, .ref q5), (0, .ref (gadr (XG X) (4, 0, 0))), (1, .int x1), (2, .int x2), (3, .ref (gadr (XG X) (7, 0, 0)))] hnl dX0_won_13 rfl rfl ?_
      refine j_iconst (v := 1) hC dX0_won_15 (by decide) ?_
      exact j_iretT hC rfl rfl dX0_won_16
    exact jh_none
set_option linter.unusedVariables false in
set_option maxRecDepth 100000 in
theorem mX0_won (l : Launch) (hst : l.stackTraces = false) (Γ : xG) (hG : dmI dmX Γ) (fu : Nat) (D : List LDen) (M : Mem) (x1 x2 : Int32) (r : TR) (hr : FX0_won fu D M x1 x2 = some r) : CT l yX0_won (wsW_ yX0_won cX0_won 5 (some .int) [(0, 10, 13, 24)]) 9 160 1 6 Γ D [.ref (gadr Γ (4, 0, 0)), .int x1, .int x2, .ref (gadr Γ (7, 0, 0))] M foI r := by
  refine CTW.of hst (own := RX0) (lv0 := lv_args 0 [.ref (gadr Γ (4, 0, 0)), .int x1, .int x2, .ref (gadr Γ (7, 0, 0))]) (by decide +kernel) rfl (Nat.le_of_ble_eq_true rfl) rfl (fun X e1 e2 e3 e4 hC hT => ?_) r hr
  subst e1
  subst e2
  exact wX0_won hC hT hG e4 fu M x1 x2
set_option linter.unusedVariables false in
set_option maxRecDepth 100000 in
theorem wX0_widest {X : JX} (hC : JC X cX0_widest RX0 (some .int) 40 1466 1 6) (hT : JTW X [(0, 9, 12, 24)]) (hG : dmI dmX (XG X)) (hnl : nLof X = 4) (fu : Nat) (M : Mem) (x1 : Int32) : J X (ZT X foI 1 6) (FX0_widest fu (XD X) M x1) 0 [(0, .ref (gadr (XG X) (4, 0, 0))), (1, .int x1), (2, .ref (gadr (XG X) (7, 0, 0)))] [] M 0 0 := by
  unfold FX0_widest
  refine j_aload_n hC 2 dX0_widest_0 rfl ?_
  refine j_iconst (v := 0) hC dX0_widest_1 (by decide) ?_
  refine j_aload_n hC 0 dX0_widest_2 rfl ?_
  refine j_iload_n hC 1 dX0_widest_3 rfl ?_
  refine j_callVH (nA := 1) (rest := [.int 0, .ref (gadr (XG X) (7, 0, 0))]) hC [.int x1] rfl (fun r hr => mX1_widest (XL X) (JTW.st hT) (XG X) hG fu (XD X) M x1 r hr) q1409 q1410 q1411 q126 q1412 (dmY hG rfl) rfl rfl (by decide +kernel) rfl rfl rfl rfl rfl rfl dX0_widest_4 (fun v4 => [.int v4, .int 0, .ref (gadr (XG X) (7, 0, 0))]) (fun _ => rfl) (fun v4 M4 => ?_) (fun e M4 => ?_)
  · refine j_i2l hC dX0_widest_7 ?_
    refine j_last hC (dmO hG) rfl dX0_widest_8 (fun h8 => ?_)
    refine j_lt (fun M8 => ?_)
    refine j_goto (tgt := 15) hC dX0_widest_9 (by decide) ?_
    refine j_iconst (v := 0) hC dX0_widest_15 (by decide) ?_
    exact j_iretT hC rfl rfl dX0_widest_16
  · refine jh_case ?_ ?_
    · refine jh_catch hC hT (by decide) (by decide) (by decide) q1052 (by decide +kernel) (fun q4 => ?_)
      refine j_astore_n hC [(3, .ref q4), (0, .ref (gadr (XG X) (4, 0, 0))), (1, .int x1), (2, .ref (gadr (XG X) (7, 0, 0)))] hnl dX0_widest_12 rfl rfl ?_
      refine j_iconst (v := 1) hC dX0_widest_13 (by decide) ?_
      exact j_iretT hC rfl rfl dX0_widest_14
    exact jh_none
set_option linter.unusedVariables false in
set_option maxRecDepth 100000 in
theorem mX0_widest (l : Launch) (hst : l.stackTraces = false) (Γ : xG) (hG : dmI dmX Γ) (fu : Nat) (D : List LDen) (M : Mem) (x1 : Int32) (r : TR) (hr : FX0_widest fu D M x1 = some r) : CT l yX0_widest (wsW_ yX0_widest cX0_widest 4 (some .int) [(0, 9, 12, 24)]) 40 1466 1 6 Γ D [.ref (gadr Γ (4, 0, 0)), .int x1, .ref (gadr Γ (7, 0, 0))] M foI r := by
  refine CTW.of hst (own := RX0) (lv0 := lv_args 0 [.ref (gadr Γ (4, 0, 0)), .int x1, .ref (gadr Γ (7, 0, 0))]) (by decide +kernel) rfl (Nat.le_of_ble_eq_true rfl) rfl (fun X e1 e2 e3 e4 hC hT => ?_) r hr
  subst e1
  subst e2
  exact wX0_widest hC hT hG e4 fu M x1
set_option linter.unusedVariables false in
set_option maxRecDepth 100000 in
theorem wX0_trial {X : JX} (hC : JC X cX0_trial RX0 (some .int) 41 1485 3 18) (hT : JTW X [(0, 12, 15, 24), (0, 12, 19, 13)]) (hG : dmI dmX (XG X)) (hnl : nLof X = 6) (fu : Nat) (M : Mem) (x1 x2 x3 : Int32) : J X (ZT X foI 3 18) (FX0_trial fu (XD X) M x1 x2 x3) 0 [(0, .ref (gadr (XG X) (4, 0, 0))), (1, .int x1), (2, .int x2), (3, .int x3), (4, .ref (gadr (XG X) (7, 0, 0)))] [] M 0 0 := by
  unfold FX0_trial
  refine j_aload hC 4 dX0_trial_0 rfl ?_
  refine j_iconst (v := 0) hC dX0_trial_2 (by decide) ?_
  refine j_aload_n hC 0 dX0_trial_3 rfl ?_
  refine j_iload_n hC 1 dX0_trial_4 rfl ?_
  refine j_iload_n hC 2 dX0_trial_5 rfl ?_
  refine j_iload_n hC 3 dX0_trial_6 rfl ?_
  refine j_callVH (nA := 3) (rest := [.int 0, .ref (gadr (XG X) (7, 0, 0))]) hC [.int x1, .int x2, .int x3] rfl (fun r hr => mX1_trial (XL X) (JTW.st hT) (XG X) hG fu (XD X) M x1 x2 x3 r hr) q1416 q1417 q1418 q126 q1419 (dmY hG rfl) rfl rfl (by decide +kernel) rfl rfl rfl rfl rfl rfl dX0_trial_7 (fun v7 => [.int v7, .int 0, .ref (gadr (XG X) (7, 0, 0))]) (fun _ => rfl) (fun v7 M7 => ?_) (fun e M7 => ?_)
  · refine j_i2l hC dX0_trial_10 ?_
    refine j_last hC (dmO hG) rfl dX0_trial_11 (fun h11 => ?_)
    refine j_lt (fun M11 => ?_)
    refine j_goto (tgt := 23) hC dX0_trial_12 (by decide) ?_
    refine j_iconst (v := 0) hC dX0_trial_23 (by decide) ?_
    exact j_iretT hC rfl rfl dX0_trial_24
  · refine jh_case ?_ ?_
    · refine jh_catch hC hT (by decide) (by decide) (by decide) q1052 (by decide +kernel) (fun q7 => ?_)
      refine j_astore hC [(5, .ref q7), (0, .ref (gadr (XG X) (4, 0, 0))), (1, .int x1), (2, .int x2), (3, .int x3), (4, .ref (gadr (XG X) (7, 0, 0)))] hnl dX0_trial_15 rfl rfl ?_
      refine j_iconst (v := 1) hC dX0_trial_17 (by decide) ?_
      exact j_iretT hC rfl rfl dX0_trial_18
    refine jh_case ?_ ?_
    · refine jh_catch2 (nm0 := exN 3) hC hT (by decide) (by decide) (by decide) (by decide) q1052 (by decide +kernel) q735 (by decide +kernel) (fun q7 => ?_)
      refine j_astore hC [(5, .ref q7), (0, .ref (gadr (XG X) (4, 0, 0))), (1, .int x1), (2, .int x2), (3, .int x3), (4, .ref (gadr (XG X) (7, 0, 0)))] hnl dX0_trial_19 rfl rfl ?_
      refine j_iconst (v := 2) hC dX0_trial_21 (by decide) ?_
      exact j_iretT hC rfl rfl dX0_trial_22
    exact jh_none
set_option linter.unusedVariables false in
set_option maxRecDepth 100000 in
theorem mX0_trial (l : Launch) (hst : l.stackTraces = false) (Γ : xG) (hG : dmI dmX Γ) (fu : Nat) (D : List LDen) (M : Mem) (x1 x2 x3 : Int32) (r : TR) (hr : FX0_trial fu D M x1 x2 x3 = some r) : CT l yX0_trial (wsW_ yX0_trial cX0_trial 6 (some .int) [(0, 12, 15, 24), (0, 12, 19, 13)]) 41 1485 3 18 Γ D [.ref (gadr Γ (4, 0, 0)), .int x1, .int x2, .int x3, .ref (gadr Γ (7, 0, 0))] M foI r := by
  refine CTW.of hst (own := RX0) (lv0 := lv_args 0 [.ref (gadr Γ (4, 0, 0)), .int x1, .int x2, .int x3, .ref (gadr Γ (7, 0, 0))]) (by decide +kernel) rfl (Nat.le_of_ble_eq_true rfl) rfl (fun X e1 e2 e3 e4 hC hT => ?_) r hr
  subst e1
  subst e2
  exact wX0_trial hC hT hG e4 fu M x1 x2 x3
set_option linter.unusedVariables false in
set_option maxRecDepth 100000 in
theorem wX0_span {X : JX} (hC : JC X cX0_span RX0 (some .int) 41 1488 3 18) (hT : JTW X [(0, 14, 17, 24), (0, 14, 21, 13)]) (hG : dmI dmX (XG X)) (hnl : nLof X = 7) (fu : Nat) (M : Mem) (x1 x2 x3 x4 : Int32) : J X (ZT X foI 3 18) (FX0_span fu (XD X) M x1 x2 x3 x4) 0 [(0, .ref (gadr (XG X) (4, 0, 0))), (1, .int x1), (2, .int x2), (3, .int x3), (4, .int x4), (5, .ref (gadr (XG X) (7, 0, 0)))] [] M 0 0 := by
  unfold FX0_span
  refine j_aload hC 5 dX0_span_0 rfl ?_
  refine j_iconst (v := 0) hC dX0_span_2 (by decide) ?_
  refine j_aload_n hC 0 dX0_span_3 rfl ?_
  refine j_iload_n hC 1 dX0_span_4 rfl ?_
  refine j_iload_n hC 2 dX0_span_5 rfl ?_
  refine j_iload_n hC 3 dX0_span_6 rfl ?_
  refine j_iload hC 4 dX0_span_7 rfl ?_
  refine j_callVH (nA := 4) (rest := [.int 0, .ref (gadr (XG X) (7, 0, 0))]) hC [.int x1, .int x2, .int x3, .int x4] rfl (fun r hr => mX1_span (XL X) (JTW.st hT) (XG X) hG fu (XD X) M x1 x2 x3 x4 r hr) q1427 q1428 q1429 q126 q1430 (dmY hG rfl) rfl rfl (by decide +kernel) rfl rfl rfl rfl rfl rfl dX0_span_9 (fun v9 => [.int v9, .int 0, .ref (gadr (XG X) (7, 0, 0))]) (fun _ => rfl) (fun v9 M9 => ?_) (fun e M9 => ?_)
  · refine j_i2l hC dX0_span_12 ?_
    refine j_last hC (dmO hG) rfl dX0_span_13 (fun h13 => ?_)
    refine j_lt (fun M13 => ?_)
    refine j_goto (tgt := 25) hC dX0_span_14 (by decide) ?_
    refine j_iconst (v := 0) hC dX0_span_25 (by decide) ?_
    exact j_iretT hC rfl rfl dX0_span_26
  · refine jh_case ?_ ?_
    · refine jh_catch hC hT (by decide) (by decide) (by decide) q1052 (by decide +kernel) (fun q9 => ?_)
      refine j_astore hC [(6, .ref q9), (0, .ref (gadr (XG X) (4, 0, 0))), (1, .int x1), (2, .int x2), (3, .int x3), (4, .int x4), (5, .ref (gadr (XG X) (7, 0, 0)))] hnl dX0_span_17 rfl rfl ?_
      refine j_iconst (v := 1) hC dX0_span_19 (by decide) ?_
      exact j_iretT hC rfl rfl dX0_span_20
    refine jh_case ?_ ?_
    · refine jh_catch2 (nm0 := exN 3) hC hT (by decide) (by decide) (by decide) (by decide) q1052 (by decide +kernel) q735 (by decide +kernel) (fun q9 => ?_)
      refine j_astore hC [(6, .ref q9), (0, .ref (gadr (XG X) (4, 0, 0))), (1, .int x1), (2, .int x2), (3, .int x3), (4, .int x4), (5, .ref (gadr (XG X) (7, 0, 0)))] hnl dX0_span_21 rfl rfl ?_
      refine j_iconst (v := 2) hC dX0_span_23 (by decide) ?_
      exact j_iretT hC rfl rfl dX0_span_24
    exact jh_none
set_option linter.unusedVariables false in
set_option maxRecDepth 100000 in
theorem mX0_span (l : Launch) (hst : l.stackTraces = false) (Γ : xG) (hG : dmI dmX Γ) (fu : Nat) (D : List LDen) (M : Mem) (x1 x2 x3 x4 : Int32) (r : TR) (hr : FX0_span fu D M x1 x2 x3 x4 = some r) : CT l yX0_span (wsW_ yX0_span cX0_span 7 (some .int) [(0, 14, 17, 24), (0, 14, 21, 13)]) 41 1488 3 18 Γ D [.ref (gadr Γ (4, 0, 0)), .int x1, .int x2, .int x3, .int x4, .ref (gadr Γ (7, 0, 0))] M foI r := by
  refine CTW.of hst (own := RX0) (lv0 := lv_args 0 [.ref (gadr Γ (4, 0, 0)), .int x1, .int x2, .int x3, .int x4, .ref (gadr Γ (7, 0, 0))]) (by decide +kernel) rfl (Nat.le_of_ble_eq_true rfl) rfl (fun X e1 e2 e3 e4 hC hT => ?_) r hr
  subst e1
  subst e2
  exact wX0_span hC hT hG e4 fu M x1 x2 x3 x4
set_option linter.unusedVariables false in
set_option maxRecDepth 100000 in
theorem wX0_led {X : JX} (hC : JC X cX0_led RX0 (some .int) 9 161 1 6) (hT : JTW X [(0, 10, 13, 24)]) (hG : dmI dmX (XG X)) (hnl : nLof X = 5) (fu : Nat) (M : Mem) (x1 x2 : Int32) : J X (ZT X foI 1 6) (FX0_led fu (XD X) M x1 x2) 0 [(0, .ref (gadr (XG X) (4, 0, 0))), (1, .int x1), (2, .int x2), (3, .ref (gadr (XG X) (7, 0, 0)))] [] M 0 0 := by
  unfold FX0_led
  refine j_aload_n hC 3 dX0_led_0 rfl ?_
  refine j_iconst (v := 0) hC dX0_led_1 (by decide) ?_
  refine j_aload_n hC 0 dX0_led_2 rfl ?_
  refine j_iload_n hC 1 dX0_led_3 rfl ?_
  refine j_iload_n hC 2 dX0_led_4 rfl ?_
  refine j_callVH (nA := 2) (rest := [.int 0, .ref (gadr (XG X) (7, 0, 0))]) hC [.int x1, .int x2] rfl (fun r hr => mX1_led (XL X) (JTW.st hT) (XG X) hG fu (XD X) M x1 x2 r hr) q1434 q1435 q1436 q126 q1437 (dmY hG rfl) rfl rfl (by decide +kernel) rfl rfl rfl rfl rfl rfl dX0_led_5 (fun v5 => [.int v5, .int 0, .ref (gadr (XG X) (7, 0, 0))]) (fun _ => rfl) (fun v5 M5 => ?_) (fun e M5 => ?_)
  · refine j_i2l hC dX0_led_8 ?_
    refine j_last hC (dmO hG) rfl dX0_led_9 (fun h9 => ?_)
    refine j_lt (fun M9 => ?_)
    refine j_goto (tgt := 17) hC dX0_led_10 (by decide) ?_
    refine j_iconst (v := 0) hC dX0_led_17 (by decide) ?_
    exact j_iretT hC rfl rfl dX0_led_18
  · refine jh_case ?_ ?_
    · refine jh_catch hC hT (by decide) (by decide) (by decide) q1052 (by decide +kernel) (fun q5 => ?_)
      refine j_astore hC [(4, .ref q5), (0, .ref (gadr (XG X) (4, 0, 0))), (1, .int x1), (2, .int x2), (3, .ref (gadr (XG X) (7, 0, 0)))] hnl dX0_led_13 rfl rfl ?_
      refine j_iconst (v := 1) hC dX0_led_15 (by decide) ?_
      exact j_iretT hC rfl rfl dX0_led_16
    exact jh_none
set_option linter.unusedVariables false in
set_option maxRecDepth 100000 in
theorem mX0_led (l : Launch) (hst : l.stackTraces = false) (Γ : xG) (hG : dmI dmX Γ) (fu : Nat) (D : List LDen) (M : Mem) (x1 x2 : Int32) (r : TR) (hr : FX0_led fu D M x1 x2 = some r) : CT l yX0_led (wsW_ yX0_led cX0_led 5 (some .int) [(0, 10, 13, 24)]) 9 161 1 6 Γ D [.ref (gadr Γ (4, 0, 0)), .int x1, .int x2, .ref (gadr Γ (7, 0, 0))] M foI r := by
  refine CTW.of hst (own := RX0) (lv0 := lv_args 0 [.ref (gadr Γ (4, 0, 0)), .int x1, .int x2, .ref (gadr Γ (7, 0, 0))]) (by decide +kernel) rfl (Nat.le_of_ble_eq_true rfl) rfl (fun X e1 e2 e3 e4 hC hT => ?_) r hr
  subst e1
  subst e2
  exact wX0_led hC hT hG e4 fu M x1 x2
set_option linter.unusedVariables false in
set_option maxRecDepth 100000 in
theorem wX0_log {X : JX} (hC : JC X cX0_log RX0 (some .int) 8 135 1 6) (hT : JTW X [(0, 10, 13, 26)]) (hG : dmI dmX (XG X)) (hnl : nLof X = 5) (fu : Nat) (M : Mem) (x1 x2 : Int32) : J X (ZT X foI 1 6) (FX0_log fu (XD X) M x1 x2) 0 [(0, .ref (gadr (XG X) (4, 0, 0))), (1, .int x1), (2, .int x2), (3, .ref (gadr (XG X) (7, 0, 0)))] [] M 0 0 := by
  unfold FX0_log
  refine j_aload_n hC 3 dX0_log_0 rfl ?_
  refine j_iconst (v := 0) hC dX0_log_1 (by decide) ?_
  refine j_aload_n hC 0 dX0_log_2 rfl ?_
  refine j_iload_n hC 1 dX0_log_3 rfl ?_
  refine j_iload_n hC 2 dX0_log_4 rfl ?_
  refine j_callVH (nA := 2) (rest := [.int 0, .ref (gadr (XG X) (7, 0, 0))]) hC [.int x1, .int x2] rfl (fun r hr => mX1_log (XL X) (JTW.st hT) (XG X) hG fu (XD X) M x1 x2 r hr) q1450 q1451 q1452 q126 q1453 (dmY hG rfl) rfl rfl (by decide +kernel) rfl rfl rfl rfl rfl rfl dX0_log_5 (fun v5 => [.int v5, .int 0, .ref (gadr (XG X) (7, 0, 0))]) (fun _ => rfl) (fun v5 M5 => ?_) (fun e M5 => ?_)
  · refine j_i2l hC dX0_log_8 ?_
    refine j_last hC (dmO hG) rfl dX0_log_9 (fun h9 => ?_)
    refine j_lt (fun M9 => ?_)
    refine j_goto (tgt := 17) hC dX0_log_10 (by decide) ?_
    refine j_iconst (v := 0) hC dX0_log_17 (by decide) ?_
    exact j_iretT hC rfl rfl dX0_log_18
  · refine jh_case ?_ ?_
    · refine jh_catch hC hT (by decide) (by decide) (by decide) q1084 (by decide +kernel) (fun q5 => ?_)
      refine j_astore hC [(4, .ref q5), (0, .ref (gadr (XG X) (4, 0, 0))), (1, .int x1), (2, .int x2), (3, .ref (gadr (XG X) (7, 0, 0)))] hnl dX0_log_13 rfl rfl ?_
      refine j_iconst (v := 1) hC dX0_log_15 (by decide) ?_
      exact j_iretT hC rfl rfl dX0_log_16
    exact jh_none
set_option linter.unusedVariables false in
set_option maxRecDepth 100000 in
theorem mX0_log (l : Launch) (hst : l.stackTraces = false) (Γ : xG) (hG : dmI dmX Γ) (fu : Nat) (D : List LDen) (M : Mem) (x1 x2 : Int32) (r : TR) (hr : FX0_log fu D M x1 x2 = some r) : CT l yX0_log (wsW_ yX0_log cX0_log 5 (some .int) [(0, 10, 13, 26)]) 8 135 1 6 Γ D [.ref (gadr Γ (4, 0, 0)), .int x1, .int x2, .ref (gadr Γ (7, 0, 0))] M foI r := by
  refine CTW.of hst (own := RX0) (lv0 := lv_args 0 [.ref (gadr Γ (4, 0, 0)), .int x1, .int x2, .ref (gadr Γ (7, 0, 0))]) (by decide +kernel) rfl (Nat.le_of_ble_eq_true rfl) rfl (fun X e1 e2 e3 e4 hC hT => ?_) r hr
  subst e1
  subst e2
  exact wX0_log hC hT hG e4 fu M x1 x2
