set_option maxRecDepth 100000
/-! a constructor's call on a thing that lies beside the world -/
section
variable {ρ : Type} {X : JX} {Z : ρ → State → Prop} {pr : Option ρ} {pc : Nat} {lv : List (Nat × Value)} {rest st : List Value} {M : Mem} {k n : Nat} {cc : ByteArray} {own : String} {ret : Option FieldType} {fr lc mc ms : Nat}
set_option maxHeartbeats 400000 in
theorem j_init (hC : JC X cc own ret fr lc mc ms) {P1 P2 : va_W} {a ci : Nat} {fs0 fs1 : List Value} (hP : gP (XG X) = P1 ++ (a, .inr (ci, fs0)) :: P2) (hnd : ∀ z ∈ P1 ++ P2, z.1 ≠ a) (ha : (XS X).heap.size ≤ a) {y : MethodName} {bytes : ByteArray} {maxL fr' lc' idx : Nat} (As : List Value) {nA : Nat} (hnA : As.length = nA)
    (hM : ∀ sz : Nat, Met (XL X) y (ws_ y bytes maxL none) { frames := fr', cells := 0, slots := 0, locals := lc' } (PI (XG X) sz (.ref a :: As) [(a, .inr (ci, fs0))]) (QI (XG X) [(a, .inr (ci, fs1))] (AI a sz)) 0 0 (AI a sz))
    (h1 : Cond.methodLink own idx y ∈ lw_all) (h2 : Cond.instanceMethod y ∈ lw_all) (h4 : Cond.initialized y.cls ∈ lw_all) (h5 : Cond.code y bytes maxL none ∈ lw_all) (hnm : y.name = "<init>")
    (hdesc : y.cls ≠ "java/lang/invoke/MethodHandle" ∧ y.cls ≠ "java/lang/invoke/VarHandle" ∧ (parseMethodDescriptor y.desc).map (fun d => d.parameters.length) = some nA)
    (hfr : Nat.ble (fr' + 1) fr = true) (hlc : Nat.ble (8 + (maxL + 11) + lc') lc = true) (hst : st = As.reverse ++ .ref a :: rest) (hrm : Nat.ble ((rest.map fun v => v.category).sum) 8 = true) (hk : k ≤ mc) (hn : n ≤ ms)
    (hd : decode cc pc = .ok (.invokespecial idx, 3)) (kk : J (xwP (P1 ++ (a, .inr (ci, fs1)) :: P2) X) Z pr (pc + 3) lv rest M k n) : J X Z pr pc lv st M k n := by
  obtain ⟨p, l, e, R, s, m, args, below, meth, co, ⟨g1, g2, g3, g4, g5, g6, g7⟩, D, nL⟩ := X
  have hP : g7 = P1 ++ (a, .inr (ci, fs0)) :: P2 := hP
  subst hP
  subst hst
  intro r hr H locs ls hW hS hl
  have hW : Wd (gwP (P1 ++ (a, .inr (ci, fs0)) :: P2) (g1, g2, g3, g4, g5, g6, [])) M D H := hW
  have hR := hC.2.2.2.2.2.2.2.1
  have hts := hC.2.2.2.2.1
  have hK := hC.2.2.2.2.2.1.1
  obtain ⟨aL, -, -, h3⟩ := Wd_gw.mp hW
  have hat := (h3 (a, .inr (ci, fs0)) (List.mem_append.mpr (Or.inr List.mem_cons_self))).2
  have hPa : va_P (g1, g2) xcl [(a, .inr (ci, fs0))] H := fun i q hi => by
    cases i with
    | zero => cases hi; exact hat
    | succ i => cases hi
  refine QI_call (va_runI (As := As) (rest := rest) ⟨hC.1, hC.2.1, hC.2.2.1, hC.2.2.2.1, hts⟩ (hM H.size) (cwI nA hts (lw_meth h5) rfl rfl rfl (hts _ h4) (hts _ h1) (hts _ h2) hnm hdesc ⟨by rw [hR]; exact Nat.le_of_ble_eq_true hfr, by rw [hR]; exact Nat.le_of_ble_eq_true hlc⟩) ⟨PI.blind, fun U hU hWm => ⟨rfl, by rw [hU], by rw [hU]; exact hPa, va_K.moved hWm.alike hK⟩⟩ rfl hnA hl.1 rfl (lv_room (Nat.le_of_ble_eq_true hrm)) hd ⟨by rw [hR]; exact hk, by rw [hR]; exact hn⟩) hS (Or.inr ha) (fun q h => Or.inr h) (fun H1 locs1 hP1 hS1 hz hq => ?_)
  exact kk r hr H1 locs1 ls (Wd.putP hW hq (hP1 0 _ rfl) hnd [] (fun z hz => by cases hz)) hS1 hl
end
