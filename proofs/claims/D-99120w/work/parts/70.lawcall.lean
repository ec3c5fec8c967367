set_option maxRecDepth 100000
/-! FeatherYard.law, FeatherYardLaw.law: calls after which there are more lines -/
/-- a call that may leave more lines -/
def bl {α : Type} (g : Option (PR LV)) (k : Int32 → List LDen → Mem → Option (PR α)) (kx : Nat → List LDen → Mem → Option (PR α)) : Option (PR α) := match g with
  | none => none
  | some (0, (v, D), c, M) => tick c (k v D M)
  | some (e + 1, (_, D), c, M) => tick c (kx (e + 1) D M)
theorem lm_tick_le {α : Type} {m c : Nat} {x : Option (PR α)} {r : PR α} (h : lm m (tick c x) = some r) : c ≤ m := by
  cases x with
  | none => cases h
  | some q =>
    have h : (if c + q.2.2.1 ≤ m then some (q.1, q.2.1, c + q.2.2.1, q.2.2.2) else none) = some r := h
    by_cases h8 : c + q.2.2.1 ≤ m
    · omega
    · rw [if_neg h8] at h; cases h
section
variable {α : Type} {X : JX} {Z : PR α → State → Prop} {pc en : Nat} {lv : List (Nat × Value)} {rest st : List Value} {M : Mem} {k n m : Nat} {cc : ByteArray} {own : String} {ret : Option FieldType} {fr lc mc ms mc0 ms0 : Nat}
/-- a thrown object over a tick -/
theorem jh_tickG (hZ : ∀ (r : PR α) (c : Nat), Z (r.1, r.2.1, c + r.2.2.1, r.2.2.2) = Z r) {c : Nat} {pr : Option (PR α)} (kk : c ≤ m → JH X Z (lm (m - c) pr) en pc lv rest M k n) : JH X Z (lm m (tick c pr)) en pc lv rest M k n := by
  obtain ⟨p, l, e, R, s, m', args, below, meth, co, Γ, D, nL⟩ := X
  intro r hr
  cases pr with
  | none => cases hr
  | some q =>
    have hr : (if c + q.2.2.1 ≤ m then some (q.1, q.2.1, c + q.2.2.1, q.2.2.2) else none) = some r := hr
    by_cases h9 : c + q.2.2.1 ≤ m
    · rw [if_pos h9] at hr
      cases hr
      rw [hZ]
      exact kk (by omega) q (by show (if q.2.2.1 ≤ m - c then some q else none) = some q; rw [if_pos (by omega)])
    · rw [if_neg h9] at hr; cases hr
variable {g : Option (PR LV)} {kont : Int32 → List LDen → Mem → Option (PR α)} {kh : Nat → List LDen → Mem → Option (PR α)}
theorem j_afterL (hZ : ∀ (r : PR α) (c : Nat), Z (r.1, r.2.1, c + r.2.2.1, r.2.2.2) = Z r) (hP : gP (XG X) = []) (hr9 : match X with | (p, l, e, R, s, m', args, below, meth, c, Γ, D, nL) => ∀ q : PR LV, g = some q → q.2.2.1 ≤ m → ∀ (H : Heap) (locs : List Loc) (ls : Array Slot), Wd Γ M D H → va_S (AX Γ s.heap.size) s.heap H locs → lv_has ls nL lv → vx_Run p l e R s m' args below meth c H locs k n q.2.2.1 (8 * q.2.2.1) (F0 m' pc ls st) rest ((QL Γ q (AX Γ H.size)) args) (XLq Γ q (AX Γ H.size)) (AX Γ H.size))
    (kk : ∀ v D1 c M1, c ≤ m → J (xL D1 X) Z (lm (m - c) (kont v D1 M1)) (pc + 3) lv (.int v :: rest) M1 (k + c) (n + 8 * c)) (kx : ∀ e D1 c M1, c ≤ m → JH (xL D1 X) Z (lm (m - c) (kh (e + 1) D1 M1)) (e + 1) pc lv rest M1 (k + c) (n + 8 * c)) : J X Z (lm m (bl g kont kh)) pc lv st M k n := by
  obtain ⟨p, l, e, R, s, m', args, below, meth, co, ⟨g1, g2, g3, g4, g5, g6, g7⟩, D, nL⟩ := X
  have hP : g7 = [] := hP
  subst hP
  intro r hr H locs ls hW hS hl
  cases hg : g with
  | none => rw [hg] at hr; cases hr
  | some q =>
    rw [hg] at hr
    obtain ⟨q0, ⟨v, D1⟩, c, M1⟩ := q
    have hcm : c ≤ m := by
      cases q0 with
      | zero => exact lm_tick_le (x := kont v D1 M1) hr
      | succ e9 => exact lm_tick_le (x := kh (e9 + 1) D1 M1) hr
    have run := hr9 _ hg hcm H locs ls hW hS hl
    intro T0 hT0 X0
    rcases run T0 hT0 X0 with ⟨v0, st₀, t, T', L, e0, X', hL, e1, e2, ⟨h0, hv, hWd1, hF⟩, hgo⟩ | ⟨q9, st₀, t, T', L, E, ce, e0, X', hL, e1, e2, ⟨h0, hE, hq9, hWd1, hF⟩, hce, hcv, hcl9, hgo⟩
    · have h0 : q0 = 0 := h0
      subst h0
      cases hv
      obtain ⟨-, -, k3⟩ := vx_keep e0 e1 hS (fun q _ h => AX_mono hS.1 q h) (fun q h => AX_mono hS.1 q h) hL hF
      have kt := jm_tickG hZ (fun _ => kk v D1 c M1 hcm)
      obtain ⟨t2, a1, b1⟩ := kt r hr T'.heap (locs ++ L) ls (by rw [e1]; exact hWd1) k3 hl T' rfl X'
      exact ⟨t2, hgo t2 a1, b1⟩
    · cases q0 with
      | zero => exact absurd rfl h0
      | succ q0 =>
        obtain ⟨-, -, k3⟩ := vx_keep e0 e1 hS (fun q _ h => AX_mono hS.1 q h) (fun q h => AX_mono hS.1 q h) hL hF
        have out := jh_tickG hZ (fun _ => kx q0 D1 c M1 hcm)
        obtain ⟨t2, a1, b1⟩ := out r hr T'.heap (locs ++ L) ls q9 ce (by rw [e1]; exact hWd1) k3 hl (by rw [e1]; exact hce) hcv (by rw [← hE]; exact hcl9) hq9 T' rfl X'
        exact ⟨t2, hgo.trans a1, b1⟩
variable {y : MethodName} {bytes : ByteArray} {maxL fr' lc' idx : Nat} {retc : Option FieldType} {C : String} {cb : CId} {ci N0 : Nat} {T : u_T}
theorem j_callL (hC : JC X cc own ret fr lc mc0 ms0) (hZ : ∀ (r : PR α) (c : Nat), Z (r.1, r.2.1, c + r.2.2.1, r.2.2.2) = Z r) (hP : gP (XG X) = []) (As : List Value) {nA : Nat} (hnA : As.length = nA) (hM : ∀ r, g = some r → CL (XL X) y (ws_ y bytes maxL retc) fr' lc' r.2.2.1 (8 * r.2.2.1) (XG X) (XD X) (.ref (gadr (XG X) cb) :: As) M r)
    (h1 : Cond.methodLink own idx y ∈ lw_all) (h2 : Cond.instanceMethod y ∈ lw_all) (h3 : Cond.selects C y y ∈ lw_all) (h4 : Cond.initialized C ∈ lw_all) (h5 : Cond.code y bytes maxL retc ∈ lw_all)
    (hdm : gdm (XG X) cb = true) (hkd : kd cb = .inl ci) (hcl : xcl[ci]? = some (C, T, N0))
    (hdesc : y.cls = C ∧ y.cls ≠ "java/lang/invoke/MethodHandle" ∧ y.cls ≠ "java/lang/invoke/VarHandle" ∧ (parseMethodDescriptor y.desc).map (fun d => d.parameters.length) = some nA)
    (hfr : fr' + 1 ≤ fr) (hlc : 8 + (maxL + 11) + lc' ≤ lc) (hst : st = As.reverse ++ .ref (gadr (XG X) cb) :: rest) (hrm : Nat.ble ((rest.map fun v => v.category).sum) 8 = true) (hk : k + m ≤ mc0) (hn : n + 8 * m ≤ ms0)
    (hd : decode cc pc = .ok (.invokevirtual idx, 3)) (kk : ∀ v D1 c M1, c ≤ m → J (xL D1 X) Z (lm (m - c) (kont v D1 M1)) (pc + 3) lv (.int v :: rest) M1 (k + c) (n + 8 * c)) (kx : ∀ e D1 c M1, c ≤ m → JH (xL D1 X) Z (lm (m - c) (kh (e + 1) D1 M1)) (e + 1) pc lv rest M1 (k + c) (n + 8 * c)) : J X Z (lm m (bl g kont kh)) pc lv st M k n := by
  refine j_afterL hZ hP ?_ kk kx
  obtain ⟨p, l, e, R, s, m', args, below, meth, co, Γ, D, nL⟩ := X
  subst hst
  intro q hg hq H locs ls hW hS hl
  have hR := hC.2.2.2.2.2.2.2.1
  exact vx_runV (l := l) (R := R) (e := e) (below := below) (meth := meth) (rest := rest) (As := As) (g := F0 m' pc ls (As.reverse ++ .ref (gadr Γ cb) :: rest)) (locs := locs) (cells := k) (slots := n) ⟨hC.1, hC.2.1, hC.2.2.1, hC.2.2.2.1, hC.2.2.2.2.1⟩ (hM q hg H.size) (cwV nA hC.2.2.2.2.1 (lw_V h1 h2 h3 h4 h5) rfl rfl rfl hdesc ⟨by rw [hR]; exact hfr, by rw [hR]; exact hlc⟩)
      ⟨Pre.blind, jrecv hC.2.2.2.2.2.1.1 hW hdm hkd hcl, fun U hU hWm => ⟨rfl, by rw [hU], by rw [hU]; exact hW, hC.2.2.2.2.2.1.pass hS hU hWm, hC.2.2.2.2.2.2.1⟩⟩ rfl hnA hl.1 rfl (lv_room (Nat.le_of_ble_eq_true hrm)) hd ⟨by rw [hR]; show k + q.2.2.1 ≤ mc0; omega, by rw [hR]; show n + 8 * q.2.2.1 ≤ ms0; omega⟩
theorem j_callLW {hh : List (Nat × Nat × Nat × Nat)} (hC : JC X cc own ret fr lc mc0 ms0) (hZ : ∀ (r : PR α) (c : Nat), Z (r.1, r.2.1, c + r.2.2.1, r.2.2.2) = Z r) (hP : gP (XG X) = []) (As : List Value) {nA : Nat} (hnA : As.length = nA) (hM : ∀ r, g = some r → CL (XL X) y (wsW_ y bytes maxL retc hh) fr' lc' r.2.2.1 (8 * r.2.2.1) (XG X) (XD X) (.ref (gadr (XG X) cb) :: As) M r)
    (h1 : Cond.methodLink own idx y ∈ lw_all) (h2 : Cond.instanceMethod y ∈ lw_all) (h3 : Cond.selects C y y ∈ lw_all) (h4 : Cond.initialized C ∈ lw_all) (h5 : Cond.codeWith y bytes maxL retc hh ∈ lw_all)
    (hdm : gdm (XG X) cb = true) (hkd : kd cb = .inl ci) (hcl : xcl[ci]? = some (C, T, N0))
    (hdesc : y.cls = C ∧ y.cls ≠ "java/lang/invoke/MethodHandle" ∧ y.cls ≠ "java/lang/invoke/VarHandle" ∧ (parseMethodDescriptor y.desc).map (fun d => d.parameters.length) = some nA)
    (hfr : fr' + 1 ≤ fr) (hlc : 8 + (maxL + 11) + lc' ≤ lc) (hst : st = As.reverse ++ .ref (gadr (XG X) cb) :: rest) (hrm : Nat.ble ((rest.map fun v => v.category).sum) 8 = true) (hk : k + m ≤ mc0) (hn : n + 8 * m ≤ ms0)
    (hd : decode cc pc = .ok (.invokevirtual idx, 3)) (kk : ∀ v D1 c M1, c ≤ m → J (xL D1 X) Z (lm (m - c) (kont v D1 M1)) (pc + 3) lv (.int v :: rest) M1 (k + c) (n + 8 * c)) (kx : ∀ e D1 c M1, c ≤ m → JH (xL D1 X) Z (lm (m - c) (kh (e + 1) D1 M1)) (e + 1) pc lv rest M1 (k + c) (n + 8 * c)) : J X Z (lm m (bl g kont kh)) pc lv st M k n := by
  refine j_afterL hZ hP ?_ kk kx
  obtain ⟨p, l, e, R, s, m', args, below, meth, co, Γ, D, nL⟩ := X
  subst hst
  intro q hg hq H locs ls hW hS hl
  have hR := hC.2.2.2.2.2.2.2.1
  exact vx_runVX (l := l) (R := R) (e := e) (below := below) (meth := meth) (rest := rest) (As := As) (g := F0 m' pc ls (As.reverse ++ .ref (gadr Γ cb) :: rest)) (locs := locs) (cells := k) (slots := n) ⟨hC.1, hC.2.1, hC.2.2.1, hC.2.2.2.1, hC.2.2.2.2.1⟩ (hM q hg H.size) (vx_cwVW nA hC.2.2.2.2.1 (lw_VW h1 h2 h3 h4 h5) rfl rfl rfl hdesc ⟨by rw [hR]; exact hfr, by rw [hR]; exact hlc⟩)
      ⟨Pre.blind, jrecv hC.2.2.2.2.2.1.1 hW hdm hkd hcl, fun U hU hWm => ⟨rfl, by rw [hU], by rw [hU]; exact hW, hC.2.2.2.2.2.1.pass hS hU hWm, hC.2.2.2.2.2.2.1⟩⟩ rfl hnA hl.1 rfl (lv_room (Nat.le_of_ble_eq_true hrm)) hd ⟨by rw [hR]; show k + q.2.2.1 ≤ mc0; omega, by rw [hR]; show n + 8 * q.2.2.1 ≤ ms0; omega⟩
end
theorem JTW.xL {X : JX} {hh : List (Nat × Nat × Nat × Nat)} (D : List LDen) (h : JTW X hh) : JTW (xL D X) hh := by
  obtain ⟨p, l, e, R, s, m, args, below, meth, co, Γ, D0, nL⟩ := X
  exact h
theorem vx_MQ_mono {below : List Frame} {Qc Qc' : Array Value → State → Outcome → State → Prop} {XC XC' : String → Addr → State → State → Prop} {a : Array Value} {s : State} {mc ms : Nat} {free : Addr → Prop} {t : State} (h1 : ∀ a st o t, Qc a st o t → Qc' a st o t) (h2 : ∀ E q st t, XC E q st t → XC' E q st t) (h : vx_MQ below Qc XC a s mc ms free t) : vx_MQ below Qc' XC' a s mc ms free t := by
  obtain ⟨o, b1, b2, b3⟩ := h
  refine ⟨o, b1, b2, ?_⟩
  rcases b3 with ⟨c1, c2⟩ | ⟨q, c1, E, ce, L, c2, c3⟩
  · exact Or.inl ⟨h1 _ _ _ _ c1, c2⟩
  · exact Or.inr ⟨q, c1, E, ce, L, h2 _ _ _ _ c2, c3⟩
theorem J.mono {ρ σ : Type} {X : JX} {Z : ρ → State → Prop} {Z' : σ → State → Prop} {x : ρ} {y : σ} {pc : Nat} {lv : List (Nat × Value)} {st : List Value} {M : Mem} {k n : Nat} (hZ : ∀ t, Z x t → Z' y t) (h : J X Z (some x) pc lv st M k n) : J X Z' (some y) pc lv st M k n := by
  obtain ⟨p, l, e, R, s, m, args, below, meth, co, Γ, D, nL⟩ := X
  intro r hr H locs ls hW hS hl
  cases hr
  intro T hT X0
  obtain ⟨t, a1, b1⟩ := h x rfl H locs ls hW hS hl T hT X0
  exact ⟨t, a1, hZ t b1⟩
section
variable {X : JX} {pc : Nat} {lv : List (Nat × Value)} {M : Mem} {k n : Nat} {cc : ByteArray} {ret : Option FieldType} {fr lc mc ms mc0 ms0 idx : Nat}
theorem jl_isWrong {D1 : List LDen} {v : Int32} {c : Nat} (hP : gP (XG X) = []) (h : J (xL D1 X) (ZT (xL D1 X) foI mc ms) (some (1, v, wrM M)) pc lv [.ref (gadr (XG X) (4, 0, 13)), .ref (gadr (XG X) (4, 0, 0))] M k n) : J (xL D1 X) (ZL X mc ms) (some (1, (v, D1), c, wrM M)) pc lv [.ref (gadr (XG X) (4, 0, 13)), .ref (gadr (XG X) (4, 0, 0))] M k n := by
  refine J.mono (fun t ht => ?_) h
  obtain ⟨p, l, e, R, s, m, args, below, meth, co, ⟨g1, g2, g3, g4, g5, g6, g7⟩, D, nL⟩ := X
  have hP : g7 = [] := hP
  subst hP
  exact vx_MQ_mono (fun a st o t h => absurd (show (1 : Nat) = 0 from h.1) (by decide)) (fun E q st t h => h) ht
end
noncomputable def FX1_law_22 (D1 : List LDen) (v : Int32) (M : Mem) : Option (PR LV) :=
  lt (up M (0, 0, 0) 10 v) (fun M22 => lok D1 (M22 (4, 0, 12)) 12 (lt (cp M22 (4, 0, 12) (0, 0, 3) 12) (fun M53 => lt (up M53 (4, 0, 0) 13 0) (fun M58 => some (0, (M58 (0, 0, 0) 10, D1), 0, M58)))))
noncomputable def FX1_law (fu : Nat) (D : List LDen) (M : Mem) : Option (PR LV) :=
  bd (FX1_took fu D M) (fun v1 M1 => lt (up M1 (4, 0, 0) 12 (-1)) (fun M7 => bl (FX2_law fu D M7 v1) (fun v19 D1 M19 => FX1_law_22 D1 v19 M19) (fun e D1 M19 => if e = 6 then tick 1 (some (1, (0, D1), 0, wrM M19)) else none)))
theorem lm_lok {α : Type} {m : Nat} {D : List LDen} {f : Nat → Int32} {w : Nat} {x : Option (PR α)} : lm m (lok D f w x) = lok D f w (lm m x) := by
  unfold lok
  rw [lm_ite]
  rfl
theorem jh_lm {α : Type} {X : JX} {Z : PR α → State → Prop} {x y : Option (PR α)} {m en pc : Nat} {lv : List (Nat × Value)} {rest : List Value} {M : Mem} {k n : Nat} (h : lm m x = y) (kk : JH X Z y en pc lv rest M k n) : JH X Z (lm m x) en pc lv rest M k n := by
  rw [h]; exact kk
theorem wX1_law {X : JX} {c : Nat} (hC : JC X cX1_law RX1 (some .int) 42 1010 c (8 * c)) (hT : JTW X [(10, 25, 28, 118)]) (hP : gP (XG X) = []) (hG : dmI dmX (XG X)) (h80 : gdm (XG X) (8, 0, 0) = false) (h81 : gdm (XG X) (8, 0, 1) = false) (hnl : nLof X = 3) (fu : Nat) (M : Mem) : J X (ZL X c (8 * c)) (lm c (FX1_law fu (XD X) M)) 0 [(0, .ref (gadr (XG X) (4, 0, 0)))] [] M 0 0 := by
  unfold FX1_law
  refine j_lm lm_bd ?_
  refine j_aload_n hC 0 dX1_law_0 rfl ?_
  refine j_callV (nA := 0) (rest := []) hC [] rfl (fun r hr => mX1_took (XL X) (XG X) hG fu (XD X) M r hr) q742 q744 qs8 q126 q745 (dmY hG rfl) rfl rfl (by decide +kernel) rfl rfl rfl rfl (bk (by omega)) (bk (by omega)) dX1_law_1 (fun v1 => [.int v1]) (fun _ => rfl) (fun v1 M1 => ?_)
  refine j_istore_n hC [(1, .int v1), (0, .ref (gadr (XG X) (4, 0, 0)))] hnl dX1_law_4 rfl rfl ?_
  refine j_aload_n hC 1 dX1_law_5 rfl ?_
  refine j_iconst (v := (-1)) hC dX1_law_6 (by decide) ?_
  refine j_put (fk := 12) (ty := .int) hC (dmY hG rfl) rfl rfl in_X1 rfl rfl q508 tyX1 tyX1_ok nmX1 rfl rfl (by decide +kernel) rfl rfl dX1_law_7 ?_
  refine j_lm lm_lt ?_
  refine j_lt (fun M7 => ?_)
  refine j_aload_n hC 1 dX1_law_10 rfl ?_
  refine j_getR (fk := 1) hC (dmY hG rfl) rfl rfl in_X1 rfl rfl q496 rfl dX1_law_11 ?_
  refine j_aload_n hC 1 dX1_law_14 rfl ?_
  refine j_getR (fk := 0) hC (dmY hG rfl) rfl rfl in_X1 rfl rfl q495 rfl dX1_law_15 ?_
  refine j_iload_n hC 0 dX1_law_18 rfl ?_
  refine j_callL (nA := 1) (rest := [.ref (gadr (XG X) (0, 0, 0))]) hC (fun _ _ => ZL_tick) hP [.int v1] rfl (fun r hr => mX2_law (XL X) (JTW.st hT) (XG X) hP hG h80 h81 fu (XD X) M7 v1 r hr) q918 q919 q920 q127 q921 (dmY hG rfl) rfl rfl (by decide +kernel) (by omega) (by omega) rfl rfl (by omega) (by omega) dX1_law_19 (fun v19 D1 c1 M19 hc1 => ?_) (fun e D1 c1 M19 hc1 => ?_)
  · unfold FX1_law_22
    refine j_putN (fk := 10) (ty := .int) (JC.xL D1 hC) (dmS hG (by decide) rfl) rfl rfl in_X3 rfl rfl q282 tyX3 tyX3_ok nmX3 rfl rfl (by decide +kernel) rfl rfl dX1_law_22 ?_
    refine j_lm lm_lt ?_
    refine j_lt (fun M22 => ?_)
    refine j_goto (tgt := 35) (JC.xL D1 hC) dX1_law_25 (by decide) ?_
    refine j_aload_n (JC.xL D1 hC) 1 dX1_law_35 rfl ?_
    refine j_getR (fk := 0) (JC.xL D1 hC) (dmY hG rfl) rfl rfl in_X1 rfl rfl q495 rfl dX1_law_36 ?_
    refine j_getNR (fk := 3) (JC.xL D1 hC) (dmY hG rfl) rfl rfl in_X2 rfl rfl q428 rfl dX1_law_39 ?_
    refine j_iconst (v := 0) (JC.xL D1 hC) dX1_law_42 (by decide) ?_
    refine j_aload_n (JC.xL D1 hC) 1 dX1_law_43 rfl ?_
    refine j_getR (fk := 1) (JC.xL D1 hC) (dmY hG rfl) rfl rfl in_X1 rfl rfl q496 rfl dX1_law_44 ?_
    refine j_getNR (fk := 2) (JC.xL D1 hC) (dmS hG (by decide) rfl) rfl rfl in_X3 rfl rfl q263 rfl dX1_law_47 ?_
    refine j_iconst (v := 0) (JC.xL D1 hC) dX1_law_50 (by decide) ?_
    refine j_bipush (v := 12) (JC.xL D1 hC) dX1_law_51 (by decide) ?_
    refine j_lm lm_lok ?_
    refine j_copyQ (w := 12) (JC.xL D1 hC) (dmY hG rfl) (dmS hG (by decide) rfl) rfl rfl (by decide) (by decide) rfl rfl (fun _ => rfl) (fun _ => rfl) q1048 q667 q666 q137 rfl (Nat.le_of_ble_eq_true rfl) dX1_law_53 ?_
    refine j_lm lm_lt ?_
    refine j_lt (fun M53 => ?_)
    refine j_aload_n (JC.xL D1 hC) 1 dX1_law_56 rfl ?_
    refine j_iconst (v := 0) (JC.xL D1 hC) dX1_law_57 (by decide) ?_
    refine j_put (fk := 13) (ty := .int) (JC.xL D1 hC) (dmY hG rfl) rfl rfl in_X1 rfl rfl q509 tyX1 tyX1_ok nmX1 rfl rfl (by decide +kernel) rfl rfl dX1_law_58 ?_
    refine j_lm lm_lt ?_
    refine j_lt (fun M58 => ?_)
    refine j_lm lm_some ?_
    refine j_aload_n (JC.xL D1 hC) 1 dX1_law_61 rfl ?_
    refine j_getR (fk := 1) (JC.xL D1 hC) (dmY hG rfl) rfl rfl in_X1 rfl rfl q496 rfl dX1_law_62 ?_
    refine j_getNI (fk := 10) (JC.xL D1 hC) (dmS hG (by decide) rfl) rfl rfl in_X3 rfl rfl q282 rfl dX1_law_65 ?_
    exact jl_iret hC hP (by omega) (by omega) dX1_law_68
  · refine jh_lm lm_ite ?_
    refine jh_case ?_ jh_none
    refine jh_tickG (fun _ _ => ZL_tick) (fun h1 => ?_)
    refine jh_lm lm_some ?_
    refine jh_catchW (JC.xL D1 hC) (JTW.xL D1 hT) (by decide) (by decide) q741 ?_
    refine j_astore_n (JC.xL D1 hC) [(2, .ref (gadr (XG X) (4, 0, 13))), (1, .int v1), (0, .ref (gadr (XG X) (4, 0, 0)))] hnl dX1_law_28 rfl rfl ?_
    refine j_aload_n (JC.xL D1 hC) 2 dX1_law_29 rfl ?_
    refine j_aload_n (JC.xL D1 hC) 0 dX1_law_30 rfl ?_
    refine jl_isWrong hP ?_
    exact j_isWrong (JC.xL D1 hC) (JTW.st hT) hG (JTW.nc (JTW.xL D1 hT) (by decide)) q868 q870 qs23 q126 q871 rfl rfl (bk (by omega)) (bk (by omega)) dX1_law_31 dX1_law_34
theorem CLW.of {l : Launch} (hst : l.stackTraces = false) {y : MethodName} {own : String} {cc : ByteArray} {maxL : Nat} {ret : Option FieldType} {hh : List (Nat × Nat × Nat × Nat)} {fr lc : Nat} {Γ : xG} {D : List LDen} {av : List Value} {M : Mem} {pr : Option (PR LV)} {lv0 : List (Nat × Value)}
    (hy : plainName y.cls = true) (ho : y.cls = own) (hlen : (lg_sl av).length ≤ maxL) (hlv : lv_args 0 av = lv0) (r : PR LV) (hr : pr = some r)
    (body : ∀ X : JX, XG X = Γ → XD X = D → XL X = l → nLof X = maxL → JC X cc own ret fr lc r.2.2.1 (8 * r.2.2.1) → JTW X hh → J X (ZL X r.2.2.1 (8 * r.2.2.1)) (lm r.2.2.1 pr) 0 lv0 [] M 0 0) : CL l y (wsW_ y cc maxL ret hh) fr lc r.2.2.1 (8 * r.2.2.1) Γ D av M r := by
  intro sz
  refine vx_ofWH (cc := cc) (maxL := maxL) (ret := ret) (hh := hh) hy rfl ?_
  intro p e s m args below meth c s₁ B hml hv
  obtain ⟨rfl, hsz, hW, hE, hG⟩ := hv
  have hts0 := atoms_spec (ws := wsW_ y cc maxL ret hh) B.pre
  have hts : ∀ w ∈ lw_all, w.before _ s = true := fun w h => hts0 w (List.mem_cons_of_mem _ h)
  have htab := vx_table (x := y) B (hts0 _ List.mem_cons_self)
  subst hsz
  have hl := lv_entry av (n := maxL) hlen
  rw [lg_entry_eq]
  rw [hlv] at hl
  exact body (p, l, e, (headSpec (wsW_ y cc maxL ret hh) { frames := fr, cells := r.2.2.1, slots := 8 * r.2.2.1, locals := lc }).room, s, m, av.toArray, below, meth, c, Γ, D, maxL) rfl rfl rfl rfl ⟨B.exec, B.bytes, hml, by rw [← ho]; exact findClass_of_methodNamed B.named, hts, hE, hG, rfl, B.returns, B.notSynchronized⟩ ⟨htab, hst⟩ r (lm_self hr) _ _ _ hW va_S.rf hl
theorem mX1_law (l : Launch) (hst : l.stackTraces = false) (Γ : xG) (hP : gP Γ = []) (hG : dmI dmX Γ) (h80 : gdm Γ (8, 0, 0) = false) (h81 : gdm Γ (8, 0, 1) = false) (fu : Nat) (D : List LDen) (M : Mem) (r : PR LV) (hr : FX1_law fu D M = some r) : CL l yX1_law (wsW_ yX1_law cX1_law 3 (some .int) [(10, 25, 28, 118)]) 42 1010 r.2.2.1 (8 * r.2.2.1) Γ D [.ref (gadr Γ (4, 0, 0))] M r := by
  refine CLW.of hst (own := RX1) (lv0 := lv_args 0 [.ref (gadr Γ (4, 0, 0))]) (by decide +kernel) rfl (Nat.le_of_ble_eq_true rfl) rfl r hr (fun X e1 e2 e3 e4 hC hT => ?_)
  subst e1
  subst e2
  exact wX1_law hC hT hP hG h80 h81 e4 fu M
noncomputable def FX0_law (fu : Nat) (D : List LDen) (M : Mem) : Option (PR LV) :=
  bl (FX1_law fu D M) (fun v3 D1 M3 => gd 0 1 (lt (up M3 (7, 0, 0) 0 v3) (fun M7 => some (0, (0, D1), 0, M7)))) (fun e D1 M3 => if e = 1 then some (0, (1, D1), 0, M3) else none)
theorem wX0_law {X : JX} {c : Nat} (hC : JC X cX0_law RX0 (some .int) 43 1040 c (8 * c)) (hT : JTW X [(0, 8, 11, 13)]) (hP : gP (XG X) = []) (hG : dmI dmX (XG X)) (h80 : gdm (XG X) (8, 0, 0) = false) (h81 : gdm (XG X) (8, 0, 1) = false) (hnl : nLof X = 3) (fu : Nat) (M : Mem) : J X (ZL X c (8 * c)) (lm c (FX0_law fu (XD X) M)) 0 [(0, .ref (gadr (XG X) (4, 0, 0))), (1, .ref (gadr (XG X) (7, 0, 0)))] [] M 0 0 := by
  unfold FX0_law
  refine j_aload_n hC 1 dX0_law_0 rfl ?_
  refine j_iconst (v := 0) hC dX0_law_1 (by decide) ?_
  refine j_aload_n hC 0 dX0_law_2 rfl ?_
  refine j_callLW (nA := 0) (rest := [.int 0, .ref (gadr (XG X) (7, 0, 0))]) hC (fun _ _ => ZL_tick) hP [] rfl (fun r hr => mX1_law (XL X) (JTW.st hT) (XG X) hP hG h80 h81 fu (XD X) M r hr) q914 q915 q916 q126 q917 (dmY hG rfl) rfl rfl (by decide +kernel) (by omega) (by omega) rfl rfl (by omega) (by omega) dX0_law_3 (fun v3 D1 c1 M3 hc1 => ?_) (fun e D1 c1 M3 hc1 => ?_)
  · refine j_lm lm_gd ?_
    refine j_i2l (JC.xL D1 hC) dX0_law_6 ?_
    refine j_last (JC.xL D1 hC) (dmO hG) rfl dX0_law_7 (fun h7 => ?_)
    refine j_lm lm_lt ?_
    refine j_lt (fun M7 => ?_)
    refine j_lm lm_some ?_
    refine j_goto (tgt := 14) (JC.xL D1 hC) dX0_law_8 (by decide) ?_
    refine j_iconst (v := 0) (JC.xL D1 hC) dX0_law_14 (by decide) ?_
    exact jl_iret hC hP (by omega) (by omega) dX0_law_15
  · refine jh_lm lm_ite ?_
    refine jh_case ?_ jh_none
    refine jh_lm lm_some ?_
    refine jh_catch (JC.xL D1 hC) (JTW.xL D1 hT) (by decide) (by decide) (by decide) q735 (by decide +kernel) (fun q3 => ?_)
    refine j_astore_n (JC.xL D1 hC) [(2, .ref q3), (0, .ref (gadr (XG X) (4, 0, 0))), (1, .ref (gadr (XG X) (7, 0, 0)))] hnl dX0_law_11 rfl rfl ?_
    refine j_iconst (v := 1) (JC.xL D1 hC) dX0_law_12 (by decide) ?_
    exact jl_iret hC hP (by omega) (by omega) dX0_law_13
theorem mX0_law (l : Launch) (hst : l.stackTraces = false) (Γ : xG) (hP : gP Γ = []) (hG : dmI dmX Γ) (h80 : gdm Γ (8, 0, 0) = false) (h81 : gdm Γ (8, 0, 1) = false) (fu : Nat) (D : List LDen) (M : Mem) (r : PR LV) (hr : FX0_law fu D M = some r) : CL l yX0_law (wsW_ yX0_law cX0_law 3 (some .int) [(0, 8, 11, 13)]) 43 1040 r.2.2.1 (8 * r.2.2.1) Γ D [.ref (gadr Γ (4, 0, 0)), .ref (gadr Γ (7, 0, 0))] M r := by
  refine CLW.of hst (own := RX0) (lv0 := lv_args 0 [.ref (gadr Γ (4, 0, 0)), .ref (gadr Γ (7, 0, 0))]) (by decide +kernel) rfl (Nat.le_of_ble_eq_true rfl) rfl r hr (fun X e1 e2 e3 e4 hC hT => ?_)
  subst e1
  subst e2
  exact wX0_law hC hT hP hG h80 h81 e4 fu M
