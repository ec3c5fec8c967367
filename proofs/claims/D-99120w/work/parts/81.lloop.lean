set_option maxRecDepth 100000
/-! the law's loop (printed by gen/mkL.py) -/
noncomputable def GL (fu L : Nat) (xs : Nat → Int32) (kn : Mem × List LDen × Nat → Option (PR Int32)) (M : Mem) (D : List LDen) (t : Nat) : Option (PR Int32) :=
  if t + 6 ≤ L then swt ((xs t) &&& 63) 0 [FL_0 fu D (fun D M => kn (M, D, t + 6)) (fun j => xs (t + j)) M, FL_1 fu D (fun D M => kn (M, D, t + 6)) (fun j => xs (t + j)) M, FL_2 fu D (fun D M => kn (M, D, t + 6)) (fun j => xs (t + j)) M, FL_3 fu D (fun D M => kn (M, D, t + 6)) (fun j => xs (t + j)) M, FL_4 fu D (fun D M => kn (M, D, t + 6)) (fun j => xs (t + j)) M, FL_5 fu D (fun D M => kn (M, D, t + 6)) (fun j => xs (t + j)) M, FL_6 fu D (fun D M => kn (M, D, t + 6)) (fun j => xs (t + j)) M, FL_7 fu D (fun D M => kn (M, D, t + 6)) (fun j => xs (t + j)) M, FL_8 fu D (fun D M => kn (M, D, t + 6)) (fun j => xs (t + j)) M, FL_9 fu D (fun D M => kn (M, D, t + 6)) (fun j => xs (t + j)) M, FL_10 fu D (fun D M => kn (M, D, t + 6)) (fun j => xs (t + j)) M, FL_11 fu D (fun D M => kn (M, D, t + 6)) (fun j => xs (t + j)) M, FL_12 fu D (fun D M => kn (M, D, t + 6)) (fun j => xs (t + j)) M, FL_13 fu D (fun D M => kn (M, D, t + 6)) (fun j => xs (t + j)) M, FL_14 fu D (fun D M => kn (M, D, t + 6)) (fun j => xs (t + j)) M, FL_15 fu D (fun D M => kn (M, D, t + 6)) (fun j => xs (t + j)) M, FL_16 fu D (fun D M => kn (M, D, t + 6)) (fun j => xs (t + j)) M, FL_17 fu D (fun D M => kn (M, D, t + 6)) (fun j => xs (t + j)) M, FL_18 fu D (fun D M => kn (M, D, t + 6)) (fun j => xs (t + j)) M, FL_19 fu D (fun D M => kn (M, D, t + 6)) (fun j => xs (t + j)) M, FL_20 fu D (fun D M => kn (M, D, t + 6)) (fun j => xs (t + j)) M, FL_21 fu D (fun D M => kn (M, D, t + 6)) (fun j => xs (t + j)) M, FL_22 fu D (fun D M => kn (M, D, t + 6)) (fun j => xs (t + j)) M, FL_23 fu D (fun D M => kn (M, D, t + 6)) (fun j => xs (t + j)) M, FL_24 fu D (fun D M => kn (M, D, t + 6)) (fun j => xs (t + j)) M, FL_25 fu D (fun D M => kn (M, D, t + 6)) (fun j => xs (t + j)) M, FL_26 fu D (fun D M => kn (M, D, t + 6)) (fun j => xs (t + j)) M, FL_27 fu D (fun D M => kn (M, D, t + 6)) (fun j => xs (t + j)) M, FL_28 fu D (fun D M => kn (M, D, t + 6)) (fun j => xs (t + j)) M, FL_29 fu D (fun D M => kn (M, D, t + 6)) (fun j => xs (t + j)) M, FL_30 fu D (fun D M => kn (M, D, t + 6)) (fun j => xs (t + j)) M, FL_31 fu D (fun D M => kn (M, D, t + 6)) (fun j => xs (t + j)) M, FL_32 fu D (fun D M => kn (M, D, t + 6)) (fun j => xs (t + j)) M, FL_33 fu D (fun D M => kn (M, D, t + 6)) (fun j => xs (t + j)) M, FL_34 fu D (fun D M => kn (M, D, t + 6)) (fun j => xs (t + j)) M, FL_35 fu D (fun D M => kn (M, D, t + 6)) (fun j => xs (t + j)) M, FL_36 fu D (fun D M => kn (M, D, t + 6)) (fun j => xs (t + j)) M, FL_37 fu D (fun D M => kn (M, D, t + 6)) (fun j => xs (t + j)) M, FL_38 fu D (fun D M => kn (M, D, t + 6)) (fun j => xs (t + j)) M, FL_39 fu D (fun D M => kn (M, D, t + 6)) (fun j => xs (t + j)) M, FL_40 fu D (fun D M => kn (M, D, t + 6)) (fun j => xs (t + j)) M, FL_41 fu D (fun D M => kn (M, D, t + 6)) (fun j => xs (t + j)) M, FL_42 fu D (fun D M => kn (M, D, t + 6)) (fun j => xs (t + j)) M, FL_43 fu D (fun D M => kn (M, D, t + 6)) (fun j => xs (t + j)) M] (kn (M, D, t + 6)) else some (0, 1, 0, M)
noncomputable def FLoop (fu L : Nat) (xs : Nat → Int32) (fu' : Nat) (M : Mem) (D : List LDen) (t : Nat) : Option (PR Int32) := lp (fun kn z => GL fu L xs kn z.1 z.2.1 z.2.2) fu' (M, D, t)
/-- the run's end: what is claimed, if the answer is true -/
def ZW (X : JX) : PR Int32 → State → Prop :=
  match X with
  | (p, l, e, R, s, m, args, below, meth, c, Γ, D, nL) => fun r t => r.2.1 = 1 → lw_Z below args s t
theorem ZW_tick {X : JX} {c : Nat} {r : PR Int32} : ZW X (r.1, r.2.1, c + r.2.2.1, r.2.2.2) = ZW X r := by
  obtain ⟨p, l, e, R, s, m, args, below, meth, co, Γ, D, nL⟩ := X
  rfl
section
variable {ρ : Type} {X : JX} {Z : ρ → State → Prop} {pr : Option ρ} {pc : Nat} {lv : List (Nat × Value)} {rest : List Value} {M : Mem} {k n : Nat} {cc : ByteArray} {own : String} {ret : Option FieldType} {fr lc mc ms : Nat}
theorem j_icmpgtF (hC : JC X cc own ret fr lc mc ms) {x y : Int32} {off : Int} {tgt : Nat} (hd : decode cc pc = .ok (.if_icmp .gt off, 3)) (ht : (pc : Int) + off = (tgt : Int)) (hx : ¬ y < x) (kk : J X Z pr (pc + 3) lv rest M k n) : J X Z pr pc lv (.int y :: .int x :: rest) M k n := by
  have h := j_icmp_gt (A := pr) (B := pr) (x := x) (y := y) hC hd ht (fun h => absurd h hx) (fun _ => kk)
  rwa [ite_self] at h
theorem j_icmpgtT (hC : JC X cc own ret fr lc mc ms) {x y : Int32} {off : Int} {tgt : Nat} (hd : decode cc pc = .ok (.if_icmp .gt off, 3)) (ht : (pc : Int) + off = (tgt : Int)) (hx : y < x) (kk : J X Z pr tgt lv rest M k n) : J X Z pr pc lv (.int y :: .int x :: rest) M k n := by
  have h := j_icmp_gt (A := pr) (B := pr) (x := x) (y := y) hC hd ht (fun _ => kk) (fun h => absurd hx h)
  rwa [ite_self] at h
end
theorem J.false {X Y : JX} {M : Mem} {pc : Nat} {lv : List (Nat × Value)} {st : List Value} {k n : Nat} : J Y (ZW X) (some (0, 0, 0, M)) pc lv st M k n := by
  obtain ⟨p, l, e, R, s, m, args, below, meth, co, Γ, D, nL⟩ := Y
  obtain ⟨p', l', e', R', s', m', args', below', meth', co', Γ', D', nL'⟩ := X
  intro r hr H locs ls hW hS hl T hT X0
  cases hr
  exact ⟨_, Steps.refl _, fun h => absurd (show (0 : Int32) = 1 from h) (by decide)⟩
theorem J.true {X : JX} {D : List LDen} {b : Nat} (hC : JC X cL_law RX0 (some .boolean) 8192 104096 603072 7190634) (ha : X.2.2.2.2.2.2.1 = #[Value.ref b]) (hA : ∀ q, AX (XG X) (XS X).heap.size q → (XS X).heap.size ≤ q) {M : Mem} {lv : List (Nat × Value)} {k n : Nat} (hk : k ≤ 603072) (hn : n ≤ 7190634) : J (xL D X) (ZW X) (some (0, 1, 0, M)) 2852 lv [.int 1] M k n := by
  obtain ⟨p, l, e, R, s, m, args, below, meth, co, Γ, D0, nL⟩ := X
  have ha : args = #[Value.ref b] := ha
  subst ha
  obtain ⟨c1, c2, c3, c4, c5, c6, c7, hR, c9, c10⟩ := hC
  have hR : R = { frames := 8192, cells := 603072, slots := 7190634, locals := 104096 } := hR
  subst hR
  intro r hr H locs ls hW hS hl
  cases hr
  have h1 : W p l e room_1 s m #[Value.ref b] below meth co H [] 603072 7190634 (lw_Z below #[Value.ref b] s) (F0 m 2852 ls [.int 1]) := lw_ret c1 c2 c9 c10 dL_law_2852
  have h2 := va_forget (locs := locs) (fun q hq => hA _ (hS.2.2 q hq)) (W.widen hk hn h1)
  intro T hT X0
  obtain ⟨t, a1, b1⟩ := h2 T hT X0
  exact ⟨t, a1, fun _ => b1⟩
theorem lm_swt {m : Nat} {x : Int32} {lo : Int} {As : List (Option (PR Int32))} {d : Option (PR Int32)} : lm m (swt x lo As d) = swt x lo (As.map (lm m)) (lm m d) := by
  unfold swt
  rw [lm_ite, List.length_map]
  congr 1
  rw [List.getElem?_map]
  cases As[(x.toInt - lo).toNat]? <;> rfl
theorem nI_6 {L t : Nat} (hL : L ≤ 384) (ht : t ≤ 1000) : ((nI L - 6) < nI t) ↔ L < t + 6 := by
  rw [Int32.lt_iff_toInt_lt, nI_toInt (show t < 2 ^ 31 by omega), Int32.toInt_sub, nI_toInt (show L < 2 ^ 31 by omega), show (6 : Int32).toInt = 6 by decide, Int.bmod_def]
  omega
theorem wL_loop {X : JX} {b L : Nat} {xs : Nat → Int32} (hC : JC X cL_law RX0 (some .boolean) 8192 104096 603072 7190634) (ha : X.2.2.2.2.2.2.1 = #[Value.ref b]) (hA : ∀ q, AX (XG X) (XS X).heap.size q → (XS X).heap.size ≤ q) (hX : dmI dmX (XG X)) (hM : dmI dmM (XG X)) (hst : (XL X).stackTraces = false) (h80 : gdm (XG X) (8, 0, 0) = false) (h81 : gdm (XG X) (8, 0, 1) = false) (hnl : nLof X = 7) (hS : JSc X b L xs) (hL : L ≤ 384) (fu : Nat) : ∀ (fu' : Nat) (M : Mem) (D : List LDen) (t k n m : Nat), t ≤ L + 5 → k + m ≤ 603072 → n + 8 * m ≤ 7190634 → J (xL D X) (ZW X) (lm m (FLoop fu L xs fu' M D t)) 23 [(4, .int (nI t)), (3, .ref (gadr (XG X) (7, 0, 0))), (2, .ref (gadr (XG X) (5, 0, 0))), (1, .ref (gadr (XG X) (4, 0, 0))), (0, .ref b)] [] M k n := by
  intro fu'
  induction fu' with
  | zero => intro M D t k n m ht hk hn; exact j_none
  | succ fu' ih =>
    intro M D t k n m ht hk hn
    show J _ _ (lm m (GL fu L xs (lp (fun kn z => GL fu L xs kn z.1 z.2.1 z.2.2) fu') M D t)) _ _ _ _ _ _
    unfold GL
    refine j_lm lm_ite ?_
    refine j_iload (JC.xL D hC) 0 dL_law_23 rfl ?_
    refine j_aload_n (JC.xL D hC) 4 dL_law_25 rfl ?_
    refine j_slen (JC.xL D hC) (JSc.xL D hS) dL_law_26 ?_
    refine j_bipush (v := 6) (JC.xL D hC) dL_law_27 (by decide) ?_
    refine j_isub (JC.xL D hC) dL_law_29 ?_
    by_cases h : t + 6 ≤ L
    · rw [if_pos h]
      refine j_icmpgtF (tgt := 2851) (JC.xL D hC) dL_law_30 (by decide) (fun h9 => by have := (nI_6 hL (by omega)).mp h9; omega) ?_
      refine j_aload_n (JC.xL D hC) 4 dL_law_33 rfl ?_
      refine j_iload (JC.xL D hC) 0 dL_law_34 rfl ?_
      refine j_sld (JC.xL D hC) (JSc.xL D hS) (vp_nI (by omega) hL) dL_law_36 ?_
      rw [nI_clamp (show t < 2 ^ 31 by omega)]
      refine j_bipush (v := 63) (JC.xL D hC) dL_law_37 (by decide) ?_
      refine j_iand (JC.xL D hC) dL_law_39 ?_
      have hkn : ∀ (D' : List LDen) (M : Mem) (k n m : Nat), k + m ≤ 603072 → n + 8 * m ≤ 7190634 → J (xL D' X) (ZW X) (lm m (lp (fun kn z => GL fu L xs kn z.1 z.2.1 z.2.2) fu' (M, D', t + 6))) 2845 [(4, .int (nI t)), (3, .ref (gadr (XG X) (7, 0, 0))), (2, .ref (gadr (XG X) (5, 0, 0))), (1, .ref (gadr (XG X) (4, 0, 0))), (0, .ref b)] [] M k n := by
        intro D' M k n m hk hn
        refine j_iinc (JC.xL D' hC) (v := nI (t + 6)) 0 [(4, .int (nI (t + 6))), (3, .ref (gadr (XG X) (7, 0, 0))), (2, .ref (gadr (XG X) (5, 0, 0))), (1, .ref (gadr (XG X) (4, 0, 0))), (0, .ref b)] hnl dL_law_2845 rfl (by rw [show Int32.ofInt 6 = nI 6 by decide, nI_add]) rfl rfl ?_
        refine j_goto (tgt := 23) (JC.xL D' hC) dL_law_2848 (by decide) ?_
        exact ih M D' (t + 6) k n m (by omega) hk hn
      refine j_lm lm_swt ?_
      refine j_table (tgt := 2845) (os := [192, 265, 290, 334, 378, 391, 459, 527, 595, 651, 771, 851, 907, 975, 1067, 1123, 1179, 1247, 1315, 1383, 1467, 1547, 1615, 1683, 1795, 1879, 1935, 2007, 2051, 2119, 2132, 2212, 2225, 2309, 2322, 2378, 2458, 2566, 2650, 2718, 2743, 2756, 2767, 2780]) (JC.xL D hC) dL_law_40 rfl rfl rfl (by decide) (by decide) (hkn D M k n m hk hn) ⟨?_, ?_, ?_, ?_, ?_, ?_, ?_, ?_, ?_, ?_, ?_, ?_, ?_, ?_, ?_, ?_, ?_, ?_, ?_, ?_, ?_, ?_, ?_, ?_, ?_, ?_, ?_, ?_, ?_, ?_, ?_, ?_, ?_, ?_, ?_, ?_, ?_, ?_, ?_, ?_, ?_, ?_, ?_, ?_, trivial⟩
      · show J _ _ (lm m (FL_0 fu D (fun D M => lp (fun kn z => GL fu L xs kn z.1 z.2.1 z.2.2) fu' (M, D, t + 6)) (fun j => xs (t + j)) M)) 232 _ _ _ _ _
        exact wL_0 (X := xL D X) (JC.xL D hC) hX hM hst rfl h80 h81 hnl (JSc.xL D hS) hL h (fun _ _ => ZW_tick) (fun _ _ _ _ _ _ _ => J.false) (fun _ _ _ _ _ _ => J.false) fu (fun D M => lp (fun kn z => GL fu L xs kn z.1 z.2.1 z.2.2) fu' (M, D, t + 6)) hkn (hkn D) hk hn M
      · show J _ _ (lm m (FL_1 fu D (fun D M => lp (fun kn z => GL fu L xs kn z.1 z.2.1 z.2.2) fu' (M, D, t + 6)) (fun j => xs (t + j)) M)) 305 _ _ _ _ _
        exact wL_1 (X := xL D X) (JC.xL D hC) hX hM hst rfl h80 h81 hnl (JSc.xL D hS) hL h (fun _ _ => ZW_tick) (fun _ _ _ _ _ _ _ => J.false) (fun _ _ _ _ _ _ => J.false) fu (fun D M => lp (fun kn z => GL fu L xs kn z.1 z.2.1 z.2.2) fu' (M, D, t + 6)) hkn (hkn D) hk hn M
      · show J _ _ (lm m (FL_2 fu D (fun D M => lp (fun kn z => GL fu L xs kn z.1 z.2.1 z.2.2) fu' (M, D, t + 6)) (fun j => xs (t + j)) M)) 330 _ _ _ _ _
        exact wL_2 (X := xL D X) (JC.xL D hC) hX hM hst rfl h80 h81 hnl (JSc.xL D hS) hL h (fun _ _ => ZW_tick) (fun _ _ _ _ _ _ _ => J.false) (fun _ _ _ _ _ _ => J.false) fu (fun D M => lp (fun kn z => GL fu L xs kn z.1 z.2.1 z.2.2) fu' (M, D, t + 6)) hkn (hkn D) hk hn M
      · show J _ _ (lm m (FL_3 fu D (fun D M => lp (fun kn z => GL fu L xs kn z.1 z.2.1 z.2.2) fu' (M, D, t + 6)) (fun j => xs (t + j)) M)) 374 _ _ _ _ _
        exact wL_3 (X := xL D X) (JC.xL D hC) hX hM hst rfl h80 h81 hnl (JSc.xL D hS) hL h (fun _ _ => ZW_tick) (fun _ _ _ _ _ _ _ => J.false) (fun _ _ _ _ _ _ => J.false) fu (fun D M => lp (fun kn z => GL fu L xs kn z.1 z.2.1 z.2.2) fu' (M, D, t + 6)) hkn (hkn D) hk hn M
      · show J _ _ (lm m (FL_4 fu D (fun D M => lp (fun kn z => GL fu L xs kn z.1 z.2.1 z.2.2) fu' (M, D, t + 6)) (fun j => xs (t + j)) M)) 418 _ _ _ _ _
        exact wL_4 (X := xL D X) (JC.xL D hC) hX hM hst rfl h80 h81 hnl (JSc.xL D hS) hL h (fun _ _ => ZW_tick) (fun _ _ _ _ _ _ _ => J.false) (fun _ _ _ _ _ _ => J.false) fu (fun D M => lp (fun kn z => GL fu L xs kn z.1 z.2.1 z.2.2) fu' (M, D, t + 6)) hkn (hkn D) hk hn M
      · show J _ _ (lm m (FL_5 fu D (fun D M => lp (fun kn z => GL fu L xs kn z.1 z.2.1 z.2.2) fu' (M, D, t + 6)) (fun j => xs (t + j)) M)) 431 _ _ _ _ _
        exact wL_5 (X := xL D X) (JC.xL D hC) hX hM hst rfl h80 h81 hnl (JSc.xL D hS) hL h (fun _ _ => ZW_tick) (fun _ _ _ _ _ _ _ => J.false) (fun _ _ _ _ _ _ => J.false) fu (fun D M => lp (fun kn z => GL fu L xs kn z.1 z.2.1 z.2.2) fu' (M, D, t + 6)) hkn (hkn D) hk hn M
      · show J _ _ (lm m (FL_6 fu D (fun D M => lp (fun kn z => GL fu L xs kn z.1 z.2.1 z.2.2) fu' (M, D, t + 6)) (fun j => xs (t + j)) M)) 499 _ _ _ _ _
        exact wL_6 (X := xL D X) (JC.xL D hC) hX hM hst rfl h80 h81 hnl (JSc.xL D hS) hL h (fun _ _ => ZW_tick) (fun _ _ _ _ _ _ _ => J.false) (fun _ _ _ _ _ _ => J.false) fu (fun D M => lp (fun kn z => GL fu L xs kn z.1 z.2.1 z.2.2) fu' (M, D, t + 6)) hkn (hkn D) hk hn M
      · show J _ _ (lm m (FL_7 fu D (fun D M => lp (fun kn z => GL fu L xs kn z.1 z.2.1 z.2.2) fu' (M, D, t + 6)) (fun j => xs (t + j)) M)) 567 _ _ _ _ _
        exact wL_7 (X := xL D X) (JC.xL D hC) hX hM hst rfl h80 h81 hnl (JSc.xL D hS) hL h (fun _ _ => ZW_tick) (fun _ _ _ _ _ _ _ => J.false) (fun _ _ _ _ _ _ => J.false) fu (fun D M => lp (fun kn z => GL fu L xs kn z.1 z.2.1 z.2.2) fu' (M, D, t + 6)) hkn (hkn D) hk hn M
      · show J _ _ (lm m (FL_8 fu D (fun D M => lp (fun kn z => GL fu L xs kn z.1 z.2.1 z.2.2) fu' (M, D, t + 6)) (fun j => xs (t + j)) M)) 635 _ _ _ _ _
        exact wL_8 (X := xL D X) (JC.xL D hC) hX hM hst rfl h80 h81 hnl (JSc.xL D hS) hL h (fun _ _ => ZW_tick) (fun _ _ _ _ _ _ _ => J.false) (fun _ _ _ _ _ _ => J.false) fu (fun D M => lp (fun kn z => GL fu L xs kn z.1 z.2.1 z.2.2) fu' (M, D, t + 6)) hkn (hkn D) hk hn M
      · show J _ _ (lm m (FL_9 fu D (fun D M => lp (fun kn z => GL fu L xs kn z.1 z.2.1 z.2.2) fu' (M, D, t + 6)) (fun j => xs (t + j)) M)) 691 _ _ _ _ _
        exact wL_9 (X := xL D X) (JC.xL D hC) hX hM hst rfl h80 h81 hnl (JSc.xL D hS) hL h (fun _ _ => ZW_tick) (fun _ _ _ _ _ _ _ => J.false) (fun _ _ _ _ _ _ => J.false) fu (fun D M => lp (fun kn z => GL fu L xs kn z.1 z.2.1 z.2.2) fu' (M, D, t + 6)) hkn (hkn D) hk hn M
      · show J _ _ (lm m (FL_10 fu D (fun D M => lp (fun kn z => GL fu L xs kn z.1 z.2.1 z.2.2) fu' (M, D, t + 6)) (fun j => xs (t + j)) M)) 811 _ _ _ _ _
        exact wL_10 (X := xL D X) (JC.xL D hC) hX hM hst rfl h80 h81 hnl (JSc.xL D hS) hL h (fun _ _ => ZW_tick) (fun _ _ _ _ _ _ _ => J.false) (fun _ _ _ _ _ _ => J.false) fu (fun D M => lp (fun kn z => GL fu L xs kn z.1 z.2.1 z.2.2) fu' (M, D, t + 6)) hkn (hkn D) hk hn M
      · show J _ _ (lm m (FL_11 fu D (fun D M => lp (fun kn z => GL fu L xs kn z.1 z.2.1 z.2.2) fu' (M, D, t + 6)) (fun j => xs (t + j)) M)) 891 _ _ _ _ _
        exact wL_11 (X := xL D X) (JC.xL D hC) hX hM hst rfl h80 h81 hnl (JSc.xL D hS) hL h (fun _ _ => ZW_tick) (fun _ _ _ _ _ _ _ => J.false) (fun _ _ _ _ _ _ => J.false) fu (fun D M => lp (fun kn z => GL fu L xs kn z.1 z.2.1 z.2.2) fu' (M, D, t + 6)) hkn (hkn D) hk hn M
      · show J _ _ (lm m (FL_12 fu D (fun D M => lp (fun kn z => GL fu L xs kn z.1 z.2.1 z.2.2) fu' (M, D, t + 6)) (fun j => xs (t + j)) M)) 947 _ _ _ _ _
        exact wL_12 (X := xL D X) (JC.xL D hC) hX hM hst rfl h80 h81 hnl (JSc.xL D hS) hL h (fun _ _ => ZW_tick) (fun _ _ _ _ _ _ _ => J.false) (fun _ _ _ _ _ _ => J.false) fu (fun D M => lp (fun kn z => GL fu L xs kn z.1 z.2.1 z.2.2) fu' (M, D, t + 6)) hkn (hkn D) hk hn M
      · show J _ _ (lm m (FL_13 fu D (fun D M => lp (fun kn z => GL fu L xs kn z.1 z.2.1 z.2.2) fu' (M, D, t + 6)) (fun j => xs (t + j)) M)) 1015 _ _ _ _ _
        exact wL_13 (X := xL D X) (JC.xL D hC) hX hM hst rfl h80 h81 hnl (JSc.xL D hS) hL h (fun _ _ => ZW_tick) (fun _ _ _ _ _ _ _ => J.false) (fun _ _ _ _ _ _ => J.false) fu (fun D M => lp (fun kn z => GL fu L xs kn z.1 z.2.1 z.2.2) fu' (M, D, t + 6)) hkn (hkn D) hk hn M
      · show J _ _ (lm m (FL_14 fu D (fun D M => lp (fun kn z => GL fu L xs kn z.1 z.2.1 z.2.2) fu' (M, D, t + 6)) (fun j => xs (t + j)) M)) 1107 _ _ _ _ _
        exact wL_14 (X := xL D X) (JC.xL D hC) hX hM hst rfl h80 h81 hnl (JSc.xL D hS) hL h (fun _ _ => ZW_tick) (fun _ _ _ _ _ _ _ => J.false) (fun _ _ _ _ _ _ => J.false) fu (fun D M => lp (fun kn z => GL fu L xs kn z.1 z.2.1 z.2.2) fu' (M, D, t + 6)) hkn (hkn D) hk hn M
      · show J _ _ (lm m (FL_15 fu D (fun D M => lp (fun kn z => GL fu L xs kn z.1 z.2.1 z.2.2) fu' (M, D, t + 6)) (fun j => xs (t + j)) M)) 1163 _ _ _ _ _
        exact wL_15 (X := xL D X) (JC.xL D hC) hX hM hst rfl h80 h81 hnl (JSc.xL D hS) hL h (fun _ _ => ZW_tick) (fun _ _ _ _ _ _ _ => J.false) (fun _ _ _ _ _ _ => J.false) fu (fun D M => lp (fun kn z => GL fu L xs kn z.1 z.2.1 z.2.2) fu' (M, D, t + 6)) hkn (hkn D) hk hn M
      · show J _ _ (lm m (FL_16 fu D (fun D M => lp (fun kn z => GL fu L xs kn z.1 z.2.1 z.2.2) fu' (M, D, t + 6)) (fun j => xs (t + j)) M)) 1219 _ _ _ _ _
        exact wL_16 (X := xL D X) (JC.xL D hC) hX hM hst rfl h80 h81 hnl (JSc.xL D hS) hL h (fun _ _ => ZW_tick) (fun _ _ _ _ _ _ _ => J.false) (fun _ _ _ _ _ _ => J.false) fu (fun D M => lp (fun kn z => GL fu L xs kn z.1 z.2.1 z.2.2) fu' (M, D, t + 6)) hkn (hkn D) hk hn M
      · show J _ _ (lm m (FL_17 fu D (fun D M => lp (fun kn z => GL fu L xs kn z.1 z.2.1 z.2.2) fu' (M, D, t + 6)) (fun j => xs (t + j)) M)) 1287 _ _ _ _ _
        exact wL_17 (X := xL D X) (JC.xL D hC) hX hM hst rfl h80 h81 hnl (JSc.xL D hS) hL h (fun _ _ => ZW_tick) (fun _ _ _ _ _ _ _ => J.false) (fun _ _ _ _ _ _ => J.false) fu (fun D M => lp (fun kn z => GL fu L xs kn z.1 z.2.1 z.2.2) fu' (M, D, t + 6)) hkn (hkn D) hk hn M
      · show J _ _ (lm m (FL_18 fu D (fun D M => lp (fun kn z => GL fu L xs kn z.1 z.2.1 z.2.2) fu' (M, D, t + 6)) (fun j => xs (t + j)) M)) 1355 _ _ _ _ _
        exact wL_18 (X := xL D X) (JC.xL D hC) hX hM hst rfl h80 h81 hnl (JSc.xL D hS) hL h (fun _ _ => ZW_tick) (fun _ _ _ _ _ _ _ => J.false) (fun _ _ _ _ _ _ => J.false) fu (fun D M => lp (fun kn z => GL fu L xs kn z.1 z.2.1 z.2.2) fu' (M, D, t + 6)) hkn (hkn D) hk hn M
      · show J _ _ (lm m (FL_19 fu D (fun D M => lp (fun kn z => GL fu L xs kn z.1 z.2.1 z.2.2) fu' (M, D, t + 6)) (fun j => xs (t + j)) M)) 1423 _ _ _ _ _
        exact wL_19 (X := xL D X) (JC.xL D hC) hX hM hst rfl h80 h81 hnl (JSc.xL D hS) hL h (fun _ _ => ZW_tick) (fun _ _ _ _ _ _ _ => J.false) (fun _ _ _ _ _ _ => J.false) fu (fun D M => lp (fun kn z => GL fu L xs kn z.1 z.2.1 z.2.2) fu' (M, D, t + 6)) hkn (hkn D) hk hn M
      · show J _ _ (lm m (FL_20 fu D (fun D M => lp (fun kn z => GL fu L xs kn z.1 z.2.1 z.2.2) fu' (M, D, t + 6)) (fun j => xs (t + j)) M)) 1507 _ _ _ _ _
        exact wL_20 (X := xL D X) (JC.xL D hC) hX hM hst rfl h80 h81 hnl (JSc.xL D hS) hL h (fun _ _ => ZW_tick) (fun _ _ _ _ _ _ _ => J.false) (fun _ _ _ _ _ _ => J.false) fu (fun D M => lp (fun kn z => GL fu L xs kn z.1 z.2.1 z.2.2) fu' (M, D, t + 6)) hkn (hkn D) hk hn M
      · show J _ _ (lm m (FL_21 fu D (fun D M => lp (fun kn z => GL fu L xs kn z.1 z.2.1 z.2.2) fu' (M, D, t + 6)) (fun j => xs (t + j)) M)) 1587 _ _ _ _ _
        exact wL_21 (X := xL D X) (JC.xL D hC) hX hM hst rfl h80 h81 hnl (JSc.xL D hS) hL h (fun _ _ => ZW_tick) (fun _ _ _ _ _ _ _ => J.false) (fun _ _ _ _ _ _ => J.false) fu (fun D M => lp (fun kn z => GL fu L xs kn z.1 z.2.1 z.2.2) fu' (M, D, t + 6)) hkn (hkn D) hk hn M
      · show J _ _ (lm m (FL_22 fu D (fun D M => lp (fun kn z => GL fu L xs kn z.1 z.2.1 z.2.2) fu' (M, D, t + 6)) (fun j => xs (t + j)) M)) 1655 _ _ _ _ _
        exact wL_22 (X := xL D X) (JC.xL D hC) hX hM hst rfl h80 h81 hnl (JSc.xL D hS) hL h (fun _ _ => ZW_tick) (fun _ _ _ _ _ _ _ => J.false) (fun _ _ _ _ _ _ => J.false) fu (fun D M => lp (fun kn z => GL fu L xs kn z.1 z.2.1 z.2.2) fu' (M, D, t + 6)) hkn (hkn D) hk hn M
      · show J _ _ (lm m (FL_23 fu D (fun D M => lp (fun kn z => GL fu L xs kn z.1 z.2.1 z.2.2) fu' (M, D, t + 6)) (fun j => xs (t + j)) M)) 1723 _ _ _ _ _
        exact wL_23 (X := xL D X) (JC.xL D hC) hX hM hst rfl h80 h81 hnl (JSc.xL D hS) hL h (fun _ _ => ZW_tick) (fun _ _ _ _ _ _ _ => J.false) (fun _ _ _ _ _ _ => J.false) fu (fun D M => lp (fun kn z => GL fu L xs kn z.1 z.2.1 z.2.2) fu' (M, D, t + 6)) hkn (hkn D) hk hn M
      · show J _ _ (lm m (FL_24 fu D (fun D M => lp (fun kn z => GL fu L xs kn z.1 z.2.1 z.2.2) fu' (M, D, t + 6)) (fun j => xs (t + j)) M)) 1835 _ _ _ _ _
        exact wL_24 (X := xL D X) (JC.xL D hC) hX hM hst rfl h80 h81 hnl (JSc.xL D hS) hL h (fun _ _ => ZW_tick) (fun _ _ _ _ _ _ _ => J.false) (fun _ _ _ _ _ _ => J.false) fu (fun D M => lp (fun kn z => GL fu L xs kn z.1 z.2.1 z.2.2) fu' (M, D, t + 6)) hkn (hkn D) hk hn M
      · show J _ _ (lm m (FL_25 fu D (fun D M => lp (fun kn z => GL fu L xs kn z.1 z.2.1 z.2.2) fu' (M, D, t + 6)) (fun j => xs (t + j)) M)) 1919 _ _ _ _ _
        exact wL_25 (X := xL D X) (JC.xL D hC) hX hM hst rfl h80 h81 hnl (JSc.xL D hS) hL h (fun _ _ => ZW_tick) (fun _ _ _ _ _ _ _ => J.false) (fun _ _ _ _ _ _ => J.false) fu (fun D M => lp (fun kn z => GL fu L xs kn z.1 z.2.1 z.2.2) fu' (M, D, t + 6)) hkn (hkn D) hk hn M
      · show J _ _ (lm m (FL_26 fu D (fun D M => lp (fun kn z => GL fu L xs kn z.1 z.2.1 z.2.2) fu' (M, D, t + 6)) (fun j => xs (t + j)) M)) 1975 _ _ _ _ _
        exact wL_26 (X := xL D X) (JC.xL D hC) hX hM hst rfl h80 h81 hnl (JSc.xL D hS) hL h (fun _ _ => ZW_tick) (fun _ _ _ _ _ _ _ => J.false) (fun _ _ _ _ _ _ => J.false) fu (fun D M => lp (fun kn z => GL fu L xs kn z.1 z.2.1 z.2.2) fu' (M, D, t + 6)) hkn (hkn D) hk hn M
      · show J _ _ (lm m (FL_27 fu D (fun D M => lp (fun kn z => GL fu L xs kn z.1 z.2.1 z.2.2) fu' (M, D, t + 6)) (fun j => xs (t + j)) M)) 2047 _ _ _ _ _
        exact wL_27 (X := xL D X) (JC.xL D hC) hX hM hst rfl h80 h81 hnl (JSc.xL D hS) hL h (fun _ _ => ZW_tick) (fun _ _ _ _ _ _ _ => J.false) (fun _ _ _ _ _ _ => J.false) fu (fun D M => lp (fun kn z => GL fu L xs kn z.1 z.2.1 z.2.2) fu' (M, D, t + 6)) hkn (hkn D) hk hn M
      · show J _ _ (lm m (FL_28 fu D (fun D M => lp (fun kn z => GL fu L xs kn z.1 z.2.1 z.2.2) fu' (M, D, t + 6)) (fun j => xs (t + j)) M)) 2091 _ _ _ _ _
        exact wL_28 (X := xL D X) (JC.xL D hC) hX hM hst rfl h80 h81 hnl (JSc.xL D hS) hL h (fun _ _ => ZW_tick) (fun _ _ _ _ _ _ _ => J.false) (fun _ _ _ _ _ _ => J.false) fu (fun D M => lp (fun kn z => GL fu L xs kn z.1 z.2.1 z.2.2) fu' (M, D, t + 6)) hkn (hkn D) hk hn M
      · show J _ _ (lm m (FL_29 fu D (fun D M => lp (fun kn z => GL fu L xs kn z.1 z.2.1 z.2.2) fu' (M, D, t + 6)) (fun j => xs (t + j)) M)) 2159 _ _ _ _ _
        exact wL_29 (X := xL D X) (JC.xL D hC) hX hM hst rfl h80 h81 hnl (JSc.xL D hS) hL h (fun _ _ => ZW_tick) (fun _ _ _ _ _ _ _ => J.false) (fun _ _ _ _ _ _ => J.false) fu (fun D M => lp (fun kn z => GL fu L xs kn z.1 z.2.1 z.2.2) fu' (M, D, t + 6)) hkn (hkn D) hk hn M
      · show J _ _ (lm m (FL_30 fu D (fun D M => lp (fun kn z => GL fu L xs kn z.1 z.2.1 z.2.2) fu' (M, D, t + 6)) (fun j => xs (t + j)) M)) 2172 _ _ _ _ _
        exact wL_30 (X := xL D X) (JC.xL D hC) hX hM hst rfl h80 h81 hnl (JSc.xL D hS) hL h (fun _ _ => ZW_tick) (fun _ _ _ _ _ _ _ => J.false) (fun _ _ _ _ _ _ => J.false) fu (fun D M => lp (fun kn z => GL fu L xs kn z.1 z.2.1 z.2.2) fu' (M, D, t + 6)) hkn (hkn D) hk hn M
      · show J _ _ (lm m (FL_31 fu D (fun D M => lp (fun kn z => GL fu L xs kn z.1 z.2.1 z.2.2) fu' (M, D, t + 6)) (fun j => xs (t + j)) M)) 2252 _ _ _ _ _
        exact wL_31 (X := xL D X) (JC.xL D hC) hX hM hst rfl h80 h81 hnl (JSc.xL D hS) hL h (fun _ _ => ZW_tick) (fun _ _ _ _ _ _ _ => J.false) (fun _ _ _ _ _ _ => J.false) fu (fun D M => lp (fun kn z => GL fu L xs kn z.1 z.2.1 z.2.2) fu' (M, D, t + 6)) hkn (hkn D) hk hn M
      · show J _ _ (lm m (FL_32 fu D (fun D M => lp (fun kn z => GL fu L xs kn z.1 z.2.1 z.2.2) fu' (M, D, t + 6)) (fun j => xs (t + j)) M)) 2265 _ _ _ _ _
        exact wL_32 (X := xL D X) (JC.xL D hC) hX hM hst rfl h80 h81 hnl (JSc.xL D hS) hL h (fun _ _ => ZW_tick) (fun _ _ _ _ _ _ _ => J.false) (fun _ _ _ _ _ _ => J.false) fu (fun D M => lp (fun kn z => GL fu L xs kn z.1 z.2.1 z.2.2) fu' (M, D, t + 6)) hkn (hkn D) hk hn M
      · show J _ _ (lm m (FL_33 fu D (fun D M => lp (fun kn z => GL fu L xs kn z.1 z.2.1 z.2.2) fu' (M, D, t + 6)) (fun j => xs (t + j)) M)) 2349 _ _ _ _ _
        exact wL_33 (X := xL D X) (JC.xL D hC) hX hM hst rfl h80 h81 hnl (JSc.xL D hS) hL h (fun _ _ => ZW_tick) (fun _ _ _ _ _ _ _ => J.false) (fun _ _ _ _ _ _ => J.false) fu (fun D M => lp (fun kn z => GL fu L xs kn z.1 z.2.1 z.2.2) fu' (M, D, t + 6)) hkn (hkn D) hk hn M
      · show J _ _ (lm m (FL_34 fu D (fun D M => lp (fun kn z => GL fu L xs kn z.1 z.2.1 z.2.2) fu' (M, D, t + 6)) (fun j => xs (t + j)) M)) 2362 _ _ _ _ _
        exact wL_34 (X := xL D X) (JC.xL D hC) hX hM hst rfl h80 h81 hnl (JSc.xL D hS) hL h (fun _ _ => ZW_tick) (fun _ _ _ _ _ _ _ => J.false) (fun _ _ _ _ _ _ => J.false) fu (fun D M => lp (fun kn z => GL fu L xs kn z.1 z.2.1 z.2.2) fu' (M, D, t + 6)) hkn (hkn D) hk hn M
      · show J _ _ (lm m (FL_35 fu D (fun D M => lp (fun kn z => GL fu L xs kn z.1 z.2.1 z.2.2) fu' (M, D, t + 6)) (fun j => xs (t + j)) M)) 2418 _ _ _ _ _
        exact wL_35 (X := xL D X) (JC.xL D hC) hX hM hst rfl h80 h81 hnl (JSc.xL D hS) hL h (fun _ _ => ZW_tick) (fun _ _ _ _ _ _ _ => J.false) (fun _ _ _ _ _ _ => J.false) fu (fun D M => lp (fun kn z => GL fu L xs kn z.1 z.2.1 z.2.2) fu' (M, D, t + 6)) hkn (hkn D) hk hn M
      · show J _ _ (lm m (FL_36 fu D (fun D M => lp (fun kn z => GL fu L xs kn z.1 z.2.1 z.2.2) fu' (M, D, t + 6)) (fun j => xs (t + j)) M)) 2498 _ _ _ _ _
        exact wL_36 (X := xL D X) (JC.xL D hC) hX hM hst rfl h80 h81 hnl (JSc.xL D hS) hL h (fun _ _ => ZW_tick) (fun _ _ _ _ _ _ _ => J.false) (fun _ _ _ _ _ _ => J.false) fu (fun D M => lp (fun kn z => GL fu L xs kn z.1 z.2.1 z.2.2) fu' (M, D, t + 6)) hkn (hkn D) hk hn M
      · show J _ _ (lm m (FL_37 fu D (fun D M => lp (fun kn z => GL fu L xs kn z.1 z.2.1 z.2.2) fu' (M, D, t + 6)) (fun j => xs (t + j)) M)) 2606 _ _ _ _ _
        exact wL_37 (X := xL D X) (JC.xL D hC) hX hM hst rfl h80 h81 hnl (JSc.xL D hS) hL h (fun _ _ => ZW_tick) (fun _ _ _ _ _ _ _ => J.false) (fun _ _ _ _ _ _ => J.false) fu (fun D M => lp (fun kn z => GL fu L xs kn z.1 z.2.1 z.2.2) fu' (M, D, t + 6)) hkn (hkn D) hk hn M
      · show J _ _ (lm m (FL_38 fu D (fun D M => lp (fun kn z => GL fu L xs kn z.1 z.2.1 z.2.2) fu' (M, D, t + 6)) (fun j => xs (t + j)) M)) 2690 _ _ _ _ _
        exact wL_38 (X := xL D X) (JC.xL D hC) hX hM hst rfl h80 h81 hnl (JSc.xL D hS) hL h (fun _ _ => ZW_tick) (fun _ _ _ _ _ _ _ => J.false) (fun _ _ _ _ _ _ => J.false) fu (fun D M => lp (fun kn z => GL fu L xs kn z.1 z.2.1 z.2.2) fu' (M, D, t + 6)) hkn (hkn D) hk hn M
      · show J _ _ (lm m (FL_39 fu D (fun D M => lp (fun kn z => GL fu L xs kn z.1 z.2.1 z.2.2) fu' (M, D, t + 6)) (fun j => xs (t + j)) M)) 2758 _ _ _ _ _
        exact wL_39 (X := xL D X) (JC.xL D hC) hX hM hst rfl h80 h81 hnl (JSc.xL D hS) hL h (fun _ _ => ZW_tick) (fun _ _ _ _ _ _ _ => J.false) (fun _ _ _ _ _ _ => J.false) fu (fun D M => lp (fun kn z => GL fu L xs kn z.1 z.2.1 z.2.2) fu' (M, D, t + 6)) hkn (hkn D) hk hn M
      · show J _ _ (lm m (FL_40 fu D (fun D M => lp (fun kn z => GL fu L xs kn z.1 z.2.1 z.2.2) fu' (M, D, t + 6)) (fun j => xs (t + j)) M)) 2783 _ _ _ _ _
        exact wL_40 (X := xL D X) (JC.xL D hC) hX hM hst rfl h80 h81 hnl (JSc.xL D hS) hL h (fun _ _ => ZW_tick) (fun _ _ _ _ _ _ _ => J.false) (fun _ _ _ _ _ _ => J.false) fu (fun D M => lp (fun kn z => GL fu L xs kn z.1 z.2.1 z.2.2) fu' (M, D, t + 6)) hkn (hkn D) hk hn M
      · show J _ _ (lm m (FL_41 fu D (fun D M => lp (fun kn z => GL fu L xs kn z.1 z.2.1 z.2.2) fu' (M, D, t + 6)) (fun j => xs (t + j)) M)) 2796 _ _ _ _ _
        exact wL_41 (X := xL D X) (JC.xL D hC) hX hM hst rfl h80 h81 hnl (JSc.xL D hS) hL h (fun _ _ => ZW_tick) (fun _ _ _ _ _ _ _ => J.false) (fun _ _ _ _ _ _ => J.false) fu (fun D M => lp (fun kn z => GL fu L xs kn z.1 z.2.1 z.2.2) fu' (M, D, t + 6)) hkn (hkn D) hk hn M
      · show J _ _ (lm m (FL_42 fu D (fun D M => lp (fun kn z => GL fu L xs kn z.1 z.2.1 z.2.2) fu' (M, D, t + 6)) (fun j => xs (t + j)) M)) 2807 _ _ _ _ _
        exact wL_42 (X := xL D X) (JC.xL D hC) hX hM hst rfl h80 h81 hnl (JSc.xL D hS) hL h (fun _ _ => ZW_tick) (fun _ _ _ _ _ _ _ => J.false) (fun _ _ _ _ _ _ => J.false) fu (fun D M => lp (fun kn z => GL fu L xs kn z.1 z.2.1 z.2.2) fu' (M, D, t + 6)) hkn (hkn D) hk hn M
      · show J _ _ (lm m (FL_43 fu D (fun D M => lp (fun kn z => GL fu L xs kn z.1 z.2.1 z.2.2) fu' (M, D, t + 6)) (fun j => xs (t + j)) M)) 2820 _ _ _ _ _
        exact wL_43 (X := xL D X) (JC.xL D hC) hX hM hst rfl h80 h81 hnl (JSc.xL D hS) hL h (fun _ _ => ZW_tick) (fun _ _ _ _ _ _ _ => J.false) (fun _ _ _ _ _ _ => J.false) fu (fun D M => lp (fun kn z => GL fu L xs kn z.1 z.2.1 z.2.2) fu' (M, D, t + 6)) hkn (hkn D) hk hn M
    · rw [if_neg h]
      refine j_icmpgtT (tgt := 2851) (JC.xL D hC) dL_law_30 (by decide) ((nI_6 hL (by omega)).mpr (by omega)) ?_
      refine j_lm lm_some ?_
      refine j_iconst (v := 1) (JC.xL D hC) dL_law_2851 (by decide) ?_
      exact J.true hC ha hA (by omega) (by omega)
