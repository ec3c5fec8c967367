set_option maxRecDepth 100000
/-! the law's own loop: its rows -/
def JSc (X : JX) (b L : Nat) (xs : Nat → Int32) : Prop :=
  match X with
  | (p, l, e, R, s, m, args, below, meth, c, Γ, D, nL) => va_X b L xs s s.heap ∧ b < s.heap.size ∧ ¬ AX Γ s.heap.size b
theorem JSc.xL {X : JX} {b L : Nat} {xs : Nat → Int32} (D : List LDen) (h : JSc X b L xs) : JSc (xL D X) b L xs := by
  obtain ⟨p, l, e, R, s, m, args, below, meth, co, Γ, D0, nL⟩ := X
  exact h
def bz (x : Int32) : Int32 := if x = 0 then 0 else 1
theorem lm_bhN {α : Type} {m : Nat} {g : Option TR} {k : Int32 → Mem → Option (PR α)} : lm m (bh g k (fun _ _ => none)) = bh g (fun v M => lm m (k v M)) (fun _ _ => none) := by
  rcases g with _ | ⟨_ | e, v, M⟩
  · rfl
  · rfl
  · rfl
section
variable {ρ : Type} {X : JX} {Z : ρ → State → Prop} {pr A B : Option ρ} {pc : Nat} {lv : List (Nat × Value)} {rest st : List Value} {M : Mem} {k n : Nat} {cc : ByteArray} {own : String} {ret : Option FieldType} {fr lc mc ms : Nat} {b L : Nat} {xs : Nat → Int32}
theorem j_sld (hC : JC X cc own ret fr lc mc ms) (hS9 : JSc X b L xs) {i : Int32} (hin : vp_in i L) (hd : decode cc pc = .ok (.iaload, 1)) (kk : J X Z pr (pc + 1) lv (.int (xs i.toNatClampNeg) :: rest) M k n) : J X Z pr pc lv (.int i :: .ref b :: rest) M k n := by
  obtain ⟨p, l, e, R, s, m, args, below, meth, co, Γ, D, nL⟩ := X
  intro r hr H locs ls hW hS hl
  exact va_sld hC.1 hC.2.1 hS9.1 hS9.2.1 hS9.2.2 hS hin hd (kk r hr H locs ls hW hS hl)
theorem j_slen (hC : JC X cc own ret fr lc mc ms) (hS9 : JSc X b L xs) (hd : decode cc pc = .ok (.arraylength, 1)) (kk : J X Z pr (pc + 1) lv (.int (nI L) :: rest) M k n) : J X Z pr pc lv (.ref b :: rest) M k n := by
  obtain ⟨p, l, e, R, s, m, args, below, meth, co, Γ, D, nL⟩ := X
  intro r hr H locs ls hW hS hl
  exact va_slen hC.1 hC.2.1 hS9.1 hS9.2.1 hS9.2.2 hS hd (kk r hr H locs ls hW hS hl)
theorem vp_nI {a L : Nat} (h : a < L) (hL : L ≤ 384) : vp_in (nI a) L := nI_in h (by omega)
/-- script[i + j] -/
theorem j_scr (hC : JC X cc own ret fr lc mc ms) (hS9 : JSc X b L xs) (hL : L ≤ 384) {t j : Nat} {z : Int} (ht : t + j < L) (j0 j4 : Nat) (h0 : lv[j0]? = some (0, .ref b)) (h4 : lv[j4]? = some (4, .int (nI t))) (d0 : decode cc pc = .ok (.aload_n 0, 1)) (d1 : decode cc (pc + 1) = .ok (.iload 4, 2)) (d3 : decode cc (pc + 3) = .ok (.iconst z, 1)) (hz : Int32.ofInt z = nI j) (d4 : decode cc (pc + 4) = .ok (.iadd, 1)) (d5 : decode cc (pc + 5) = .ok (.iaload, 1)) (kk : J X Z pr (pc + 6) lv (.int (xs (t + j)) :: rest) M k n) : J X Z pr pc lv rest M k n := by
  refine j_aload_n hC j0 d0 h0 ?_
  refine j_iload hC j4 d1 h4 ?_
  refine j_iconst hC d3 hz ?_
  refine j_iadd hC d4 ?_
  rw [nI_add]
  refine j_sld hC hS9 (vp_nI ht hL) d5 ?_
  rw [nI_clamp (show t + j < 2 ^ 31 by omega)]
  exact kk
/-- x != 0 as a boolean -/
theorem j_bool (hC : JC X cc own ret fr lc mc ms) {x : Int32} (d0 : decode cc pc = .ok (.ifCond .eq 7, 3)) (d3 : decode cc (pc + 3) = .ok (.iconst 1, 1)) (d4 : decode cc (pc + 4) = .ok (.goto 4, 3)) (d7 : decode cc (pc + 7) = .ok (.iconst 0, 1)) (kk : J X Z pr (pc + 8) lv (.int (bz x) :: rest) M k n) : J X Z pr pc lv (.int x :: rest) M k n := by
  by_cases h : x = 0
  · refine j_ifeqT (tgt := pc + 7) hC d0 (by omega) h ?_
    refine j_iconst (v := 0) hC d7 (by decide) ?_
    have e : bz x = 0 := if_pos h
    rw [e] at kk
    exact kk
  · refine j_ifeqF (tgt := pc + 7) hC d0 (by omega) h ?_
    refine j_iconst (v := 1) hC d3 (by decide) ?_
    refine j_goto (tgt := pc + 8) hC d4 (by omega) ?_
    have e : bz x = 1 := if_neg h
    rw [e] at kk
    exact kk
theorem toInt64_inj {x y : Int32} (h : x.toInt64 = y.toInt64) : x = y := by
  have h1 := congrArg Int64.toInt h
  rw [Int32.toInt_toInt64, Int32.toInt_toInt64] at h1
  exact Int32.toInt_inj.mp h1
/-- out[0] == b -/
theorem j_cmpOut (hC : JC X cc own ret fr lc mc ms) (hG : dmI dmX (XG X)) {y : Int32} (j3 j6 : Nat) (h3 : lv[j3]? = some (3, .ref (gadr (XG X) (7, 0, 0)))) (h6 : lv[j6]? = some (6, .int y)) (d0 : decode cc pc = .ok (.aload_n 3, 1)) (d1 : decode cc (pc + 1) = .ok (.iconst 0, 1)) (d2 : decode cc (pc + 2) = .ok (.laload, 1)) (d3 : decode cc (pc + 3) = .ok (.iload 6, 2)) (d5 : decode cc (pc + 5) = .ok (.i2l, 1)) (d6 : decode cc (pc + 6) = .ok (.lcmp, 1)) (d7 : decode cc (pc + 7) = .ok (.ifCond .eq 5, 3)) (kt : J X Z A (pc + 12) lv rest M k n) (kf : J X Z B (pc + 10) lv rest M k n) : J X Z (if M (7, 0, 0) 0 = y then A else B) pc lv rest M k n := by
  refine j_aload_n hC j3 d0 h3 ?_
  refine j_iconst (v := 0) hC d1 (by decide) ?_
  have key : J X Z (if M (7, 0, 0) 0 = y then A else B) (pc + 2 + 1) lv (.long (M (7, 0, 0) 0).toInt64 :: rest) M k n := by
    refine j_iload hC j6 d3 h6 ?_
    refine j_i2l hC d5 ?_
    have key2 : J X Z (if M (7, 0, 0) 0 = y then A else B) (pc + 6 + 1) lv (.int (lg_cmp (M (7, 0, 0) 0).toInt64 y.toInt64) :: rest) M k n := by
      have h := j_if_eq (A := A) (B := B) (x := lg_cmp (M (7, 0, 0) 0).toInt64 y.toInt64) (tgt := pc + 12) hC d7 (by omega) (fun _ => kt) (fun _ => kf)
      have e : (lg_cmp (M (7, 0, 0) 0).toInt64 y.toInt64 = 0) = (M (7, 0, 0) 0 = y) := propext ((lg_cmp_eq _ _).trans ⟨toInt64_inj, fun h => by rw [h]⟩)
      simp only [e] at h
      exact h
    obtain ⟨p, l, e, R, s, m, args, below, meth, co, Γ, D, nL⟩ := X
    intro r hr H locs ls hW hS hl
    exact W.lcmp hC.1 hC.2.1 d6 (key2 r hr H locs ls hW hS hl)
  obtain ⟨p, l, e, R, s, m, args, below, meth, co, Γ, D, nL⟩ := X
  intro r hr H locs ls hW hS hl
  obtain ⟨aL, hW1, hW2⟩ := id hW
  have h1 := hW1 (7, 0, 0) (dmO hG)
  have h1 : H[gadr Γ (7, 0, 0)]? = some (vp_cell (gA Γ 8) (1, .inr (.inl fun j => (M (7, 0, 0) j).toInt64))) := h1
  have hP : va_P (gD Γ) xcl [(gadr Γ (7, 0, 0), .inl (gA Γ 8, 1, .inr (.inl fun j => (M (7, 0, 0) j).toInt64)))] H := fun i q hi => by
    cases i with
    | zero => cases hi; exact h1
    | succ i => cases hi
  exact va_lald (i := 0) hC.1 hC.2.1 hC.2.2.2.2.2.1.1 hP 0 8 rfl rfl (by unfold vp_in; decide) d2 (key r hr H locs ls hW hS hl)
variable {y : MethodName} {bytes : ByteArray} {maxL fr' lc' mc' ms' idx : Nat} {retc : Option FieldType} {fo : Int32 → Option Value} {g : Option TR} {kont : Int32 → Mem → Option ρ} {kh : Nat → Mem → Option ρ}
theorem j_callSHW {hh : List (Nat × Nat × Nat × Nat)} (hC : JC X cc own ret fr lc mc ms) (As : List Value) {nA : Nat} (hnA : As.length = nA) (hM : ∀ r, g = some r → CT (XL X) y (wsW_ y bytes maxL retc hh) fr' lc' mc' ms' (XG X) (XD X) As M fo r)
    (h1 : Cond.methodLink own idx y ∈ lw_all) (h2 : Cond.static y ∈ lw_all) (h3 : Cond.initialized y.cls ∈ lw_all) (h4 : Cond.codeWith y bytes maxL retc hh ∈ lw_all)
    (hdesc : y.cls ≠ "java/lang/invoke/MethodHandle" ∧ y.cls ≠ "java/lang/invoke/VarHandle" ∧ (parseMethodDescriptor y.desc).map (fun d => d.parameters.length) = some nA)
    (hfr : Nat.ble (fr' + 1) fr = true) (hlc : Nat.ble (8 + (maxL + 11) + lc') lc = true) (hst : st = As.reverse ++ rest) (hrm : Nat.ble ((rest.map fun v => v.category).sum) 8 = true) (hk : Nat.ble (k + mc') mc = true) (hn : Nat.ble (n + ms') ms = true)
    (hd : decode cc pc = .ok (.invokestatic idx, 3)) (st2 : Int32 → List Value) (hs2 : ∀ v, (fo v).toList ++ rest = st2 v) (kk : ∀ v M1, J X Z (kont v M1) (pc + 3) lv (st2 v) M1 (k + mc') (n + ms')) (kx : ∀ e M1, JH X Z (kh (e + 1) M1) (e + 1) pc lv rest M1 (k + mc') (n + ms')) : J X Z (bh g kont kh) pc lv st M k n := by
  refine j_afterX ?_ st2 hs2 kk kx
  obtain ⟨p, l, e, R, s, m, args, below, meth, co, Γ, D, nL⟩ := X
  subst hst
  intro q hg H locs ls hW hS hl
  have hR := hC.2.2.2.2.2.2.2.1
  exact vx_runSX (l := l) (R := R) (e := e) (below := below) (meth := meth) (rest := rest) (As := As) (g := F0 m pc ls (As.reverse ++ rest)) (locs := locs) (cells := k) (slots := n) ⟨hC.1, hC.2.1, hC.2.2.1, hC.2.2.2.1, hC.2.2.2.2.1⟩ (hM q hg H.size) (vx_cwSW nA hC.2.2.2.2.1 (lw_SW h1 h2 h3 h4) rfl rfl rfl hdesc ⟨by rw [hR]; exact Nat.le_of_ble_eq_true hfr, by rw [hR]; exact Nat.le_of_ble_eq_true hlc⟩)
      ⟨Pre.blind, fun U hU hWm => ⟨rfl, by rw [hU], by rw [hU]; exact hW, hC.2.2.2.2.2.1.pass hS hU hWm, hC.2.2.2.2.2.2.1⟩⟩ rfl hnA hl.1 rfl (lv_room (Nat.le_of_ble_eq_true hrm)) hd ⟨by rw [hR]; exact Nat.le_of_ble_eq_true hk, by rw [hR]; exact Nat.le_of_ble_eq_true hn⟩
end
section
variable {α : Type} {X : JX} {Z : PR α → State → Prop} {pc : Nat} {lv : List (Nat × Value)} {rest st : List Value} {M : Mem} {k n m : Nat} {cc : ByteArray} {own : String} {ret : Option FieldType} {fr lc mc0 ms0 : Nat} {g : Option (PR LV)} {kont : Int32 → List LDen → Mem → Option (PR α)} {kh : Nat → List LDen → Mem → Option (PR α)} {y : MethodName} {bytes : ByteArray} {maxL fr' lc' idx : Nat} {retc : Option FieldType}
theorem j_callSL {hh : List (Nat × Nat × Nat × Nat)} (hC : JC X cc own ret fr lc mc0 ms0) (hZ : ∀ (r : PR α) (c : Nat), Z (r.1, r.2.1, c + r.2.2.1, r.2.2.2) = Z r) (hP : gP (XG X) = []) (As : List Value) {nA : Nat} (hnA : As.length = nA) (hM : ∀ r, g = some r → CL (XL X) y (wsW_ y bytes maxL retc hh) fr' lc' r.2.2.1 (8 * r.2.2.1) (XG X) (XD X) As M r)
    (h1 : Cond.methodLink own idx y ∈ lw_all) (h2 : Cond.static y ∈ lw_all) (h3 : Cond.initialized y.cls ∈ lw_all) (h4 : Cond.codeWith y bytes maxL retc hh ∈ lw_all)
    (hdesc : y.cls ≠ "java/lang/invoke/MethodHandle" ∧ y.cls ≠ "java/lang/invoke/VarHandle" ∧ (parseMethodDescriptor y.desc).map (fun d => d.parameters.length) = some nA)
    (hfr : fr' + 1 ≤ fr) (hlc : 8 + (maxL + 11) + lc' ≤ lc) (hst : st = As.reverse ++ rest) (hrm : Nat.ble ((rest.map fun v => v.category).sum) 8 = true) (hk : k + m ≤ mc0) (hn : n + 8 * m ≤ ms0)
    (hd : decode cc pc = .ok (.invokestatic idx, 3)) (kk : ∀ v D1 c M1, c ≤ m → J (xL D1 X) Z (lm (m - c) (kont v D1 M1)) (pc + 3) lv (.int v :: rest) M1 (k + c) (n + 8 * c)) (kx : ∀ e D1 c M1, c ≤ m → JH (xL D1 X) Z (lm (m - c) (kh (e + 1) D1 M1)) (e + 1) pc lv rest M1 (k + c) (n + 8 * c)) : J X Z (lm m (bl g kont kh)) pc lv st M k n := by
  refine j_afterL hZ hP ?_ kk kx
  obtain ⟨p, l, e, R, s, m', args, below, meth, co, Γ, D, nL⟩ := X
  subst hst
  intro q hg hq H locs ls hW hS hl
  have hR := hC.2.2.2.2.2.2.2.1
  exact vx_runSX (l := l) (R := R) (e := e) (below := below) (meth := meth) (rest := rest) (As := As) (g := F0 m' pc ls (As.reverse ++ rest)) (locs := locs) (cells := k) (slots := n) ⟨hC.1, hC.2.1, hC.2.2.1, hC.2.2.2.1, hC.2.2.2.2.1⟩ (hM q hg H.size) (vx_cwSW nA hC.2.2.2.2.1 (lw_SW h1 h2 h3 h4) rfl rfl rfl hdesc ⟨by rw [hR]; exact hfr, by rw [hR]; exact hlc⟩)
      ⟨Pre.blind, fun U hU hWm => ⟨rfl, by rw [hU], by rw [hU]; exact hW, hC.2.2.2.2.2.1.pass hS hU hWm, hC.2.2.2.2.2.2.1⟩⟩ rfl hnA hl.1 rfl (lv_room (Nat.le_of_ble_eq_true hrm)) hd ⟨by rw [hR]; show k + q.2.2.1 ≤ mc0; omega, by rw [hR]; show n + 8 * q.2.2.1 ≤ ms0; omega⟩
end
