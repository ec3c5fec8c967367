set_option maxRecDepth 100000
/-! isWrong: an exception made and handed back; the two methods with a handler -/
/-- a method that hands back a new exception -/
def QE (Γ : xG) (D : List LDen) (E : String) (M : Mem) (A : Nat → Prop) : Array Value → State → Outcome → State → Prop := fun _ st oc t => (∃ (a : Nat) (ce : Cell), oc = .returned (some (.ref a)) ∧ t.heap[a]? = some ce ∧ ce.vm = .none ∧ t.vm.findClass E = some ce.cls) ∧ Wd Γ M D t.heap ∧ va_F A st t
theorem hat0_of {X : JX} {cc : ByteArray} {own : String} {ret : Option FieldType} {fr lc mc ms : Nat} (hC : JC X cc own ret fr lc mc ms) {own' : String} {ic en : Nat} {names : List String} (hat : ∀ w ∈ vx_at0 own' ic (exN en) names, w ∈ lw_tbl) (hat2 : (vx_at0 own' ic (exN en) names).all (fun w => goodWord w || xnest w) = true) : (∀ w ∈ vx_at0 own' ic (exN en) names, w.before X.2.2.2.2.2.2.1 (XS X) = true) ∧ (∀ w ∈ vx_at0 own' ic (exN en) names, vx_ot w = true) := by
  obtain ⟨p, l, e, R, s, m, args, below, meth, co, Γ, D, nL⟩ := X
  have hg2 := List.all_eq_true.mp hat2
  refine ⟨fun w hw => ?_, fun w hw => ?_⟩
  · have h9 := hg2 w hw
    by_cases hg : goodWord w = true
    · exact hC.2.2.2.2.1 w (lw_g (hat w hw) hg)
    · have hn9 : xnest w = true := by simpa [hg] using h9
      exact va_Nw.use (xnest_tabs hn9) (hC.2.2.2.2.2.1.2.1.2.1 w (hat w hw) hn9)
  · have h9 := hg2 w hw
    by_cases hg : goodWord w = true
    · unfold vx_ot; rw [hg]; simp
    · have hn9 : xnest w = true := by simpa [hg] using h9
      unfold vx_ot; rw [xnest_tabs hn9]; simp
abbrev wrM (M : Mem) : Mem := up M (4, 0, 0) 12 (M (4, 0, 13) 6)
theorem mX1_isWrong (l : Launch) (hst : l.stackTraces = false) (Γ : xG) (hG : dmI dmX Γ) (D : List LDen) (M : Mem) : ∀ sz : Nat, Met l yX1_isWrong (ws_ yX1_isWrong cX1_isWrong 2 (some (.object "java/lang/IllegalArgumentException"))) { frames := 6, cells := 1, slots := 6, locals := 93 } (Pre Γ D M sz [.ref (gadr Γ (4, 0, 0)), .ref (gadr Γ (4, 0, 13))]) (QE Γ D "java/lang/IllegalArgumentException" (wrM M) (AX Γ sz)) 1 6 (AX Γ sz) := by
  intro sz
  refine Met.ofW (cc := cX1_isWrong) (maxL := 2) (ret := some (.object "java/lang/IllegalArgumentException")) (by decide +kernel) rfl ?_
  intro p e s m args below meth c s₁ B hml hv
  obtain ⟨rfl, hsz, hW, hE, hGO⟩ := hv
  have hts := atoms_spec (ws := ws_ yX1_isWrong cX1_isWrong 2 (some (.object "java/lang/IllegalArgumentException"))) B.pre
  have hts : ∀ w ∈ lw_all, w.before _ s = true := fun w h => hts w (List.mem_cons_of_mem _ h)
  subst hsz
  have hl := lv_entry [.ref (gadr Γ (4, 0, 0)), .ref (gadr Γ (4, 0, 13))] (n := 2) (Nat.le_of_ble_eq_true rfl)
  rw [lg_entry_eq]
  obtain ⟨X, hX⟩ : ∃ X : JX, X = (p, l, e, (headSpec (ws_ yX1_isWrong cX1_isWrong 2 (some (.object "java/lang/IllegalArgumentException"))) { frames := 6, cells := 1, slots := 6, locals := 93 }).room, s, m, ([.ref (gadr Γ (4, 0, 0)), .ref (gadr Γ (4, 0, 13))] : List Value).toArray, below, meth, c, Γ, D, 2) := ⟨_, rfl⟩
  have hC : JC X cX1_isWrong RX1 (some (.object "java/lang/IllegalArgumentException")) 6 93 1 6 := by
    rw [hX]
    exact ⟨B.exec, B.bytes, hml, findClass_of_methodNamed B.named, hts, hE, hGO, rfl, B.returns, B.notSynchronized⟩
  have hGX : dmI dmX (XG X) := by rw [hX]; exact hG
  obtain ⟨ha1, ha2⟩ := hat0_of hC (own' := RX1) (ic := 68) (en := 1) (names := ["java/lang/RuntimeException", "java/lang/Exception"]) (tbl_in _ [131, 371, 380, 388, 391, 393, 372, 373, 164, 165, 374, 379, 389, 410, 361, 411, 363, 412, 365, 375, 377, 367, 882, 883, 884, 885, 352, 885, 886, 887, 888, 354, 888, 889, 890, 372, 356, 881, 873, 874, 875, 383, 876, 877, 878, 879, 370, 369, 880] (by decide +kernel)) (by decide +kernel)
  -- the end, from the new
  have fin : J (ρ := Unit) X (fun _ => MQ X.2.2.2.2.2.2.2.1 (QE (XG X) (XD X) "java/lang/IllegalArgumentException" (wrM M) (AX (XG X) (XS X).heap.size)) X.2.2.2.2.2.2.1 (XS X) 1 6 (AX (XG X) (XS X).heap.size)) (some ()) 8 [(0, .ref (gadr (XG X) (4, 0, 0))), (1, .ref (gadr (XG X) (4, 0, 13)))] [] (wrM M) 0 0 := by
    subst hX
    intro r hr H locs ls hW hS hl
    refine vx_make0 (cls := "java/lang/IllegalArgumentException") (names := ["java/lang/RuntimeException", "java/lang/Exception"]) hC.1 hC.2.1 hst hC.2.2.2.1 (by decide +kernel) (by decide +kernel) (hts _ q872) (hts _ q142) ha1 (fun w hw => ?_) hE.2.2.2.2.2.1 hE.2.2.2.2.2.2.1 hS (hl.1.trans hC.2.2.1.symm) dX1_isWrong_8 dX1_isWrong_11 dX1_isWrong_12 (by decide) (by decide) (by decide) (by decide) (fun q H1 ce h1 h2 h3 h4 h5 hS1 => ?_)
    · rcases List.mem_cons.mp hw with e1 | hw
      · rw [e1]; rfl
      rcases List.mem_cons.mp hw with e1 | hw
      · rw [e1]; rfl
      · exact ha2 w hw
    · exact W.aret hC.1 hC.2.1 hC.2.2.2.2.2.2.2.2.1 (Or.inl ⟨_, rfl⟩) (Or.inr ⟨_, rfl⟩) (fun t ht hWm => ⟨⟨q, ce, rfl, by rw [ht]; exact h1, h2, by rw [hWm.alike.findClass]; exact h3⟩, by rw [ht]; exact hW.kept h5, hS1.F ht⟩) hS1.2.2 dX1_isWrong_15 hC.2.2.2.2.2.2.2.2.2
  have all : J (ρ := Unit) X (fun _ => MQ X.2.2.2.2.2.2.2.1 (QE (XG X) (XD X) "java/lang/IllegalArgumentException" (wrM M) (AX (XG X) (XS X).heap.size)) X.2.2.2.2.2.2.1 (XS X) 1 6 (AX (XG X) (XS X).heap.size)) (some ()) 0 [(0, .ref (gadr (XG X) (4, 0, 0))), (1, .ref (gadr (XG X) (4, 0, 13)))] [] M 0 0 := by
    refine j_aload_n hC 0 dX1_isWrong_0 rfl ?_
    refine j_aload_n hC 1 dX1_isWrong_1 rfl ?_
    refine j_getNI (fk := 6) hC (dmY hGX rfl) rfl rfl in_X6 rfl rfl q407 rfl dX1_isWrong_2 ?_
    refine j_put (fk := 12) (ty := .int) hC (dmY hGX rfl) rfl rfl in_X1 rfl rfl q508 tyX1 tyX1_ok nmX1 rfl rfl (by decide +kernel) rfl rfl dX1_isWrong_5 ?_
    exact fin
  subst hX
  exact all () rfl _ _ _ hW va_S.rf hl
/-- 'throw isWrong(w)': the call, and athrow behind it -/
theorem j_isWrong {X : JX} {fc : Int32 → Option Value} {pc : Nat} {lv : List (Nat × Value)} {M : Mem} {k n : Nat} {cc : ByteArray} {ret : Option FieldType} {fr lc mc ms idx : Nat} {v : Int32} (hC : JC X cc RX1 ret fr lc mc ms) (hst : (XL X).stackTraces = false) (hG : dmI dmX (XG X))
    (hout : ∀ x ∈ (X.2.2.2.2.2.2.2.2.2.1).exceptionTable.toList, covers x (pc + 3) = false) (h1 : Cond.methodLink RX1 idx yX1_isWrong ∈ lw_all) (h2 : Cond.instanceMethod yX1_isWrong ∈ lw_all) (h3 : Cond.selects RX1 yX1_isWrong yX1_isWrong ∈ lw_all) (h4 : Cond.initialized RX1 ∈ lw_all) (h5 : Cond.code yX1_isWrong cX1_isWrong 2 (some (.object "java/lang/IllegalArgumentException")) ∈ lw_all)
    (hfr : Nat.ble 7 fr = true) (hlc : Nat.ble (8 + (2 + 11) + 93) lc = true) (hk : Nat.ble (k + 1) mc = true) (hn : Nat.ble (n + 6) ms = true) (hd : decode cc pc = .ok (.invokevirtual idx, 3)) (hd3 : decode cc (pc + 3) = .ok (.athrow, 1)) : J X (ZT X fc mc ms) (some (1, v, wrM M)) pc lv [.ref (gadr (XG X) (4, 0, 13)), .ref (gadr (XG X) (4, 0, 0))] M k n := by
  obtain ⟨p, l, e, R, s, m, args, below, meth, co, Γ, D, nL⟩ := X
  intro r hr H locs ls hW hS hl
  cases hr
  have hR := hC.2.2.2.2.2.2.2.1
  have hk' := Nat.le_of_ble_eq_true hk
  have hn' := Nat.le_of_ble_eq_true hn
  have run := va_runV (l := l) (R := R) (e := e) (below := below) (meth := meth) (rest := []) (As := [.ref (gadr Γ (4, 0, 13))]) (g := F0 m pc ls [.ref (gadr Γ (4, 0, 13)), .ref (gadr Γ (4, 0, 0))]) (locs := locs) (cells := k) (slots := n) ⟨hC.1, hC.2.1, hC.2.2.1, hC.2.2.2.1, hC.2.2.2.2.1⟩ (mX1_isWrong l hst Γ hG D M H.size) (cwV 1 hC.2.2.2.2.1 (lw_V h1 h2 h3 h4 h5) rfl rfl rfl (by decide +kernel) ⟨by rw [hR]; exact Nat.le_of_ble_eq_true hfr, by rw [hR]; exact Nat.le_of_ble_eq_true hlc⟩)
    ⟨Pre.blind, jrecv (cb := (4, 0, 0)) hC.2.2.2.2.2.1.1 hW (dmY hG rfl) rfl rfl, fun U hU hWm => ⟨rfl, by rw [hU], by rw [hU]; exact hW, hC.2.2.2.2.2.1.pass hS hU hWm, hC.2.2.2.2.2.2.1⟩⟩ rfl rfl hl.1 rfl (lv_room (Nat.le_of_ble_eq_true rfl)) hd ⟨by rw [hR]; exact hk', by rw [hR]; exact hn'⟩
  intro T0 hT X0
  obtain ⟨v0, st₀, t, T', L, e0, X', hL, e1, e2, ⟨⟨a, ce, hv, hce, hcv, hcl⟩, hWd, hF⟩, hgo⟩ := run T0 hT X0
  cases hv
  obtain ⟨-, -, k3⟩ := vx_keep e0 e1 hS (fun q _ h => AX_mono hS.1 q h) (fun q h => AX_mono hS.1 q h) hL hF
  have hcl' : s.vm.findClass "java/lang/IllegalArgumentException" = some ce.cls := by
    rw [← X'.warmed.alike.findClass, e2]; exact hcl
  have end9 : W p l e R s m args below meth co T'.heap (locs ++ L) (k + 1) (n + 6) (ZT (p, l, e, R, s, m, args, below, meth, co, Γ, D, nL) fc mc ms (1, v, wrM M)) (F0 m (pc + 3) ls [.ref a]) :=
    vx_athrow hC.1 hC.2.1 hd3 (vx_out (E := "java/lang/IllegalArgumentException") (Qc := QcT Γ D fc (1, v, wrM M) (AX Γ s.heap.size)) (XC := XcT Γ D (1, v, wrM M) (AX Γ s.heap.size)) hout hC.2.2.2.2.2.2.2.2.2 (by rw [e1]; exact hce) hcv hcl' (fun t3 ht3 _ => ⟨(fun h => absurd (show (1 : Nat) = 0 from h) (by decide)), rfl, fun h => absurd (show (6 : Nat) ≤ 1 from h) (by decide), by rw [ht3, e1]; exact hWd, k3.F ht3⟩) k3.2.2 hk' hn')
  obtain ⟨t2, a1, b1⟩ := end9 T' rfl X'
  exact ⟨t2, hgo t2 a1, b1⟩
