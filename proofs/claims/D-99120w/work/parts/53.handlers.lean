set_option maxRecDepth 100000
/-! static calls in a method with handlers -/
theorem JTW.st {X : JX} {hh : List (Nat × Nat × Nat × Nat)} (h : JTW X hh) : (XL X).stackTraces = false := by
  obtain ⟨p, l, e, R, s, m, args, below, meth, co, Γ, D, nL⟩ := X
  exact h.2
theorem JTW.nc {X : JX} {hh : List (Nat × Nat × Nat × Nat)} (h : JTW X hh) {pc : Nat} (hcov : ∀ q ∈ hh, pc < q.1 ∨ q.2.1 ≤ pc) : ∀ x ∈ (X.2.2.2.2.2.2.2.2.2.1).exceptionTable.toList, covers x pc = false := by
  obtain ⟨p, l, e, R, s, m, args, below, meth, co, Γ, D, nL⟩ := X
  intro x hx
  have hx : x ∈ co.exceptionTable.toList := hx
  rw [h.1] at hx
  obtain ⟨q, hq, rfl⟩ := List.mem_map.mp hx
  have := hcov q hq
  simp [covers]
  omega
section JHS
variable {ρ : Type} {X : JX} {Z : ρ → State → Prop} {pc : Nat} {lv : List (Nat × Value)} {rest st : List Value} {M : Mem} {k n : Nat} {cc : ByteArray} {own : String} {ret : Option FieldType} {fr lc mc ms : Nat}
variable {y : MethodName} {bytes : ByteArray} {maxL fr' lc' mc' ms' idx : Nat} {retc : Option FieldType} {fo : Int32 → Option Value} {g : Option TR} {kont : Int32 → Mem → Option ρ} {kh : Nat → Mem → Option ρ}
theorem j_callSH (hC : JC X cc own ret fr lc mc ms) (As : List Value) {nA : Nat} (hnA : As.length = nA) (hM : ∀ r, g = some r → CT (XL X) y (ws_ y bytes maxL retc) fr' lc' mc' ms' (XG X) (XD X) As M fo r)
    (h1 : Cond.methodLink own idx y ∈ lw_all) (h2 : Cond.static y ∈ lw_all) (h3 : Cond.initialized y.cls ∈ lw_all) (h4 : Cond.code y bytes maxL retc ∈ lw_all)
    (hdesc : y.cls ≠ "java/lang/invoke/MethodHandle" ∧ y.cls ≠ "java/lang/invoke/VarHandle" ∧ (parseMethodDescriptor y.desc).map (fun d => d.parameters.length) = some nA)
    (hfr : Nat.ble (fr' + 1) fr = true) (hlc : Nat.ble (8 + (maxL + 11) + lc') lc = true) (hst : st = As.reverse ++ rest) (hrm : Nat.ble ((rest.map fun v => v.category).sum) 8 = true) (hk : Nat.ble (k + mc') mc = true) (hn : Nat.ble (n + ms') ms = true)
    (hd : decode cc pc = .ok (.invokestatic idx, 3)) (st2 : Int32 → List Value) (hs2 : ∀ v, (fo v).toList ++ rest = st2 v) (kk : ∀ v M1, J X Z (kont v M1) (pc + 3) lv (st2 v) M1 (k + mc') (n + ms')) (kx : ∀ e M1, JH X Z (kh (e + 1) M1) (e + 1) pc lv rest M1 (k + mc') (n + ms')) : J X Z (bh g kont kh) pc lv st M k n := by
  refine j_afterX ?_ st2 hs2 kk kx
  obtain ⟨p, l, e, R, s, m, args, below, meth, co, Γ, D, nL⟩ := X
  subst hst
  intro q hg H locs ls hW hS hl
  have hR := hC.2.2.2.2.2.2.2.1
  exact vx_runS (l := l) (R := R) (e := e) (below := below) (meth := meth) (rest := rest) (As := As) (g := F0 m pc ls (As.reverse ++ rest)) (locs := locs) (cells := k) (slots := n) ⟨hC.1, hC.2.1, hC.2.2.1, hC.2.2.2.1, hC.2.2.2.2.1⟩ (hM q hg H.size) (va_cwS nA hC.2.2.2.2.1 (lw_S h1 h2 h3 h4) rfl rfl rfl hdesc ⟨by rw [hR]; exact Nat.le_of_ble_eq_true hfr, by rw [hR]; exact Nat.le_of_ble_eq_true hlc⟩)
      ⟨Pre.blind, fun U hU hWm => ⟨rfl, by rw [hU], by rw [hU]; exact hW, hC.2.2.2.2.2.1.pass hS hU hWm, hC.2.2.2.2.2.2.1⟩⟩ rfl hnA hl.1 rfl (lv_room (Nat.le_of_ble_eq_true hrm)) hd ⟨by rw [hR]; exact Nat.le_of_ble_eq_true hk, by rw [hR]; exact Nat.le_of_ble_eq_true hn⟩
end JHS
