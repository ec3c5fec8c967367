set_option maxRecDepth 100000
/-! CONDITIONS AND LINES OF THE LAW: their objects lie outside the memory; contracts with a premise of the heap -/
abbrev XS (X : JX) : State := X.2.2.2.2.1
def PreP (Γ : xG) (D : List LDen) (M : Mem) (sz : Nat) (av : List Value) (P : Heap → Prop) : Array Value → State → Prop := va_Pc av (fun U => U.heap.size = sz ∧ Wd Γ M D U.heap ∧ EN Γ sz U ∧ GOK Γ ∧ P U.heap)
theorem PreP.blind {Γ : xG} {D : List LDen} {M : Mem} {sz : Nat} {av : List Value} {P : Heap → Prop} : FrameBlind (PreP Γ D M sz av P) := fun a U g mk q => ⟨q.1, q.2.1, q.2.2.1, q.2.2.2.1.same rfl rfl, q.2.2.2.2⟩
def CNP (l : Launch) (y : MethodName) (ws : List Cond) (fr lc : Nat) (Γ : xG) (D : List LDen) (av : List Value) (M : Mem) (P : Heap → Prop) (v : Int32) : Prop := ∀ sz : Nat, Met l y ws { frames := fr, cells := 0, slots := 0, locals := lc } (PreP Γ D M sz av P) (QV Γ D (some (.int v)) M (AX Γ sz)) 0 0 (AX Γ sz)
theorem CNP.of {l : Launch} {y : MethodName} {own : String} {cc : ByteArray} {maxL : Nat} {ret : Option FieldType} {fr lc : Nat} {Γ : xG} {D : List LDen} {av : List Value} {M : Mem} {P : Heap → Prop} {v : Int32} {lv0 : List (Nat × Value)}
    (hy : plainName y.cls = true) (ho : y.cls = own) (hlen : (lg_sl av).length ≤ maxL) (hlv : lv_args 0 av = lv0)
    (body : ∀ X : JX, XG X = Γ → XD X = D → XL X = l → nLof X = maxL → JC X cc own ret fr lc 0 0 → P (XS X).heap → J X (ZN X foI) (some (v, M)) 0 lv0 [] M 0 0) : CNP l y (ws_ y cc maxL ret) fr lc Γ D av M P v := by
  intro sz
  refine Met.ofW (cc := cc) (maxL := maxL) (ret := ret) hy rfl ?_
  intro p e s m args below meth c s₁ B hml hv
  obtain ⟨rfl, hsz, hW, hE, hG, hP⟩ := hv
  have hts := atoms_spec (ws := ws_ y cc maxL ret) B.pre
  have hts : ∀ w ∈ lw_all, w.before _ s = true := fun w h => hts w (List.mem_cons_of_mem _ h)
  subst hsz
  have hl := lv_entry av (n := maxL) hlen
  rw [lg_entry_eq]
  rw [hlv] at hl
  exact body (p, l, e, (headSpec (ws_ y cc maxL ret) { frames := fr, cells := 0, slots := 0, locals := lc }).room, s, m, av.toArray, below, meth, c, Γ, D, maxL) rfl rfl rfl rfl ⟨B.exec, B.bytes, hml, by rw [← ho]; exact findClass_of_methodNamed B.named, hts, hE, hG, rfl, B.returns, B.notSynchronized⟩ hP (v, M) rfl _ _ _ hW va_S.rf hl
/-- a heap in which nothing outside the world has changed -/
def Kp (Γ : xG) (H0 H : Heap) : Prop := ∀ q : Nat, q < H0.size → nX Γ q → H[q]? = H0[q]?
theorem Kp.of {Γ : xG} {H0 H : Heap} {locs : List Loc} (hS : va_S (AX Γ H0.size) H0 H locs) : Kp Γ H0 H := fun q h hn => hS.2.1 q h (fun z => z.elim (fun ⟨c, h1, h2⟩ => hn.1 c h1 h2) (fun h2 => by omega))
theorem lw_U {own : String} {idx : Nat} {C owner : String} {x y : MethodName} {b : ByteArray} {L : Nat} {r : Option FieldType} (h1 : Cond.methodLink own idx x ∈ lw_all) (h2 : Cond.sameMethod x.cls owner x.name x.desc ∈ lw_all) (h3 : Cond.selects C x y ∈ lw_all) (h4 : Cond.instanceMethod y ∈ lw_all) (h5 : Cond.initialized y.cls ∈ lw_all) (h6 : Cond.code y b L r ∈ lw_all) : GoodIn lw_all (va_wsU own idx C owner x y (ws_ y b L r)) := by
  refine lw_app ?_ (lw_meth h6)
  intro w hw
  simp only [List.mem_cons, List.not_mem_nil, or_false] at hw
  rcases hw with e | e | e | e | e
  · rw [e]; exact h1
  · rw [e]; exact h2
  · rw [e]; exact h3
  · rw [e]; exact h4
  · rw [e]; exact h5
theorem lw_O {own : String} {idx : Nat} {C owner : String} {x y : MethodName} {b : ByteArray} {L : Nat} {r : Option FieldType} (h1 : Cond.methodLink own idx x ∈ lw_all) (h2 : Cond.sameMethod x.cls owner x.name x.desc ∈ lw_all) (h7 : Cond.instanceMethod ⟨owner, x.name, x.desc⟩ ∈ lw_all) (h3 : Cond.selects C x y ∈ lw_all) (h4 : Cond.instanceMethod y ∈ lw_all) (h5 : Cond.initialized y.cls ∈ lw_all) (h6 : Cond.code y b L r ∈ lw_all) : GoodIn lw_all (va_wsO own idx C owner x y (ws_ y b L r)) := by
  refine lw_app ?_ (lw_meth h6)
  intro w hw
  simp only [List.mem_cons, List.not_mem_nil, or_false] at hw
  rcases hw with e | e | e | e | e | e
  · rw [e]; exact h1
  · rw [e]; exact h2
  · rw [e]; exact h7
  · rw [e]; exact h3
  · rw [e]; exact h4
  · rw [e]; exact h5
theorem lw_F {own : String} {idx : Nat} {C : String} {x y : MethodName} {b : ByteArray} {L : Nat} {r : Option FieldType} (h1 : Cond.methodLink own idx x ∈ lw_all) (h3 : Cond.selects C x y ∈ lw_all) (h4 : Cond.instanceMethod y ∈ lw_all) (h5 : Cond.initialized y.cls ∈ lw_all) (h6 : Cond.code y b L r ∈ lw_all) : GoodIn lw_all (va_wsF own idx C x y (ws_ y b L r)) := by
  refine lw_app ?_ (lw_meth h6)
  intro w hw
  simp only [List.mem_cons, List.not_mem_nil, or_false] at hw
  rcases hw with e | e | e | e
  · rw [e]; exact h1
  · rw [e]; exact h3
  · rw [e]; exact h4
  · rw [e]; exact h5
section AFTER
variable {p : Program} {l : Launch} {e : Env} {R : Room} {s : State} {m : MethodId} {args : Array Value} {below : List Frame} {meth : Method} {c : Code} {H : Heap} {locs : List Loc} {k n : Nat} {Q : State → Prop} {g : JFrame} {rest : List Value} {Γ : xG} {D : List LDen} {M1 : Mem} {o : Option Value} {a : Array Value}
theorem W_after (hr : va_Run p l e R s m args below meth c H locs k n 0 0 g rest (QV Γ D o M1 (AX Γ H.size) a) (AX Γ H.size)) (hS : va_S (AX Γ s.heap.size) s.heap H locs) (kk : ∀ (H1 : Heap) (locs1 : List Loc), Wd Γ M1 D H1 → va_S (AX Γ s.heap.size) s.heap H1 locs1 → W p l e R s m args below meth c H1 locs1 k n Q { g with pc := g.pc + 3, stack := o.toList ++ rest }) : W p l e R s m args below meth c H locs k n Q g := by
  intro T0 hT X0
  obtain ⟨v0, st₀, t, T', L, e0, X', hL, e1, e2, ⟨hv, hWd, hF⟩, hgo⟩ := hr T0 hT X0
  cases hv
  obtain ⟨-, -, k3⟩ := vx_keep e0 e1 hS (fun q _ h => AX_mono hS.1 q h) (fun q h => AX_mono hS.1 q h) hL hF
  obtain ⟨t2, a1, b1⟩ := kk T'.heap (locs ++ L) (by rw [e1]; exact hWd) k3 T' rfl X'
  exact ⟨t2, hgo t2 a1, b1⟩
theorem W_after5 (hr : va_Run5 p l e R s m args below meth c H locs k n 0 0 g rest (QV Γ D o M1 (AX Γ H.size) a) (AX Γ H.size)) (hS : va_S (AX Γ s.heap.size) s.heap H locs) (kk : ∀ (H1 : Heap) (locs1 : List Loc), Wd Γ M1 D H1 → va_S (AX Γ s.heap.size) s.heap H1 locs1 → W p l e R s m args below meth c H1 locs1 k n Q { g with pc := g.pc + 5, stack := o.toList ++ rest }) : W p l e R s m args below meth c H locs k n Q g := by
  intro T0 hT X0
  obtain ⟨v0, st₀, t, T', L, e0, X', hL, e1, e2, ⟨hv, hWd, hF⟩, hgo⟩ := hr T0 hT X0
  cases hv
  obtain ⟨-, -, k3⟩ := vx_keep e0 e1 hS (fun q _ h => AX_mono hS.1 q h) (fun q h => AX_mono hS.1 q h) hL hF
  obtain ⟨t2, a1, b1⟩ := kk T'.heap (locs ++ L) (by rw [e1]; exact hWd) k3 T' rfl X'
  exact ⟨t2, hgo t2 a1, b1⟩
end AFTER
section JDYN
variable {ρ : Type} {X : JX} {Z : ρ → State → Prop} {pr : Option ρ} {pc : Nat} {lv : List (Nat × Value)} {rest st : List Value} {M : Mem} {k n : Nat} {cc : ByteArray} {own : String} {ret : Option FieldType} {fr lc mc ms : Nat}
theorem j_dget (hC : JC X cc own ret fr lc mc ms) {a ci fk idx N : Nat} {C ref : String} {T : u_T} {fs : List Value} {v : Value} (hn : nX (XG X) a) (hat : va_at (gD (XG X)) xcl (a, .inr (ci, fs)) (XS X).heap) (hcl : xcl[ci]? = some (C, T, N)) (hin : ∀ w ∈ u_ws C T N, w ∈ lw_all) (hfk : Nat.ble (fk + 1) N = true) (href : (T fk).1 = ref) (hq : Cond.fieldLink own idx ref (T fk).2.1 (T fk).2.2.1 ∈ lw_all) (hv : fs[fk]? = some v) (hd : decode cc pc = .ok (.getfield idx, 3)) (kk : J X Z pr (pc + 3) lv (v :: rest) M k n) : J X Z pr pc lv (.ref a :: rest) M k n := by
  obtain ⟨p, l, e, R, s, m, args, below, meth, co, Γ, D, nL⟩ := X
  intro r hr H locs ls hW hS hl
  have hat' := hat.kept (Kp.of hS _ (va_at_lt hat) hn)
  have hP : va_P (gD Γ) xcl [(a, .inr (ci, fs))] H := fun i q hi => by
    cases i with
    | zero => cases hi; exact hat'
    | succ i => cases hi
  exact va_get (k := fk) hC.1 hC.2.1 hC.2.2.2.2.1 hin hC.2.2.2.1 hC.2.2.2.2.2.1.1 hP 0 rfl hcl (Nat.le_of_ble_eq_true hfk) (hC.2.2.2.2.1 _ hq) (fun x hx => by rw [← href]; exact hx) hv hd (kk r hr H locs ls hW hS hl)
theorem j_diald (hC : JC X cc own ret fr lc mc ms) {a L : Nat} {f : Nat → Int32} {i : Int32} (hn : nX (XG X) a) (hat : va_at (gD (XG X)) xcl (a, .inl (gA (XG X) 0, L, .inl f)) (XS X).heap) (hin : vp_in i L) (hd : decode cc pc = .ok (.iaload, 1)) (kk : J X Z pr (pc + 1) lv (.int (f i.toNatClampNeg) :: rest) M k n) : J X Z pr pc lv (.int i :: .ref a :: rest) M k n := by
  obtain ⟨p, l, e, R, s, m, args, below, meth, co, Γ, D, nL⟩ := X
  intro r hr H locs ls hW hS hl
  have hat' := hat.kept (Kp.of hS _ (va_at_lt hat) hn)
  have hP : va_P (gD Γ) xcl [(a, .inl (gA Γ 0, L, .inl f))] H := fun i q hi => by
    cases i with
    | zero => cases hi; exact hat'
    | succ i => cases hi
  exact va_iald hC.1 hC.2.1 hC.2.2.2.2.2.1.1 hP 0 0 rfl rfl hin hd (kk r hr H locs ls hW hS hl)
/-- an array of the memory, its index within -/
theorem j_ialdP (hC : JC X cc own ret fr lc mc ms) {c : CId} {L : Nat} {i : Int32} (hdm : gdm (XG X) c = true) (hk : kd c = .inr (0, L)) (hin : vp_in i L) (hd : decode cc pc = .ok (.iaload, 1)) (kk : J X Z pr (pc + 1) lv (.int (M c i.toNatClampNeg) :: rest) M k n) : J X Z pr pc lv (.int i :: .ref (gadr (XG X) c) :: rest) M k n := by
  have e : gd i L pr = pr := by unfold gd; rw [if_neg hin]
  rw [← e]
  exact j_iald hC hdm hk hd (fun _ => kk)
variable {y x : MethodName} {bytes : ByteArray} {maxL fr' lc' idx : Nat} {retc : Option FieldType} {C owner : String} {ci N b : Nat} {T : u_T} {fs : List Value} {v : Int32} {P : Heap → Prop}
theorem drecv {Γ : xG} {s : State} {H : Heap} {locs : List Loc} (hK : va_K (gD Γ) xcl (xtys Γ) s) (hS : va_S (AX Γ s.heap.size) s.heap H locs) (hn : nX Γ b) (hat : va_at (gD Γ) xcl (b, .inr (ci, fs)) s.heap) (hcl : xcl[ci]? = some (C, T, N)) : ∃ cell : Cell, H[b]? = some cell ∧ cell.vm.isStatics = false ∧ s.vm.findClass C = some cell.cls :=
  va_recv (ws := [(b, .inr (ci, fs))]) hK (fun i q hi => by
    cases i with
    | zero => cases hi; exact hat.kept (Kp.of hS _ (va_at_lt hat) hn)
    | succ i => cases hi) hcl (q0 := 0) rfl
theorem j_callVP (hC : JC X cc own ret fr lc mc ms) (As : List Value) {nA : Nat} (hnA : As.length = nA) (hM : CNP (XL X) y (ws_ y bytes maxL retc) fr' lc' (XG X) (XD X) (.ref b :: As) M P v) (hP : ∀ H1, Kp (XG X) (XS X).heap H1 → P H1)
    (h1 : Cond.methodLink own idx y ∈ lw_all) (h2 : Cond.instanceMethod y ∈ lw_all) (h3 : Cond.selects C y y ∈ lw_all) (h4 : Cond.initialized C ∈ lw_all) (h5 : Cond.code y bytes maxL retc ∈ lw_all)
    (hnb : nX (XG X) b) (hat : va_at (gD (XG X)) xcl (b, .inr (ci, fs)) (XS X).heap) (hcl : xcl[ci]? = some (C, T, N))
    (hdesc : y.cls = C ∧ y.cls ≠ "java/lang/invoke/MethodHandle" ∧ y.cls ≠ "java/lang/invoke/VarHandle" ∧ (parseMethodDescriptor y.desc).map (fun d => d.parameters.length) = some nA)
    (hfr : Nat.ble (fr' + 1) fr = true) (hlc : Nat.ble (8 + (maxL + 11) + lc') lc = true) (hst : st = As.reverse ++ .ref b :: rest) (hrm : Nat.ble ((rest.map fun v => v.category).sum) 8 = true) (hk : Nat.ble k mc = true) (hn : Nat.ble n ms = true)
    (hd : decode cc pc = .ok (.invokevirtual idx, 3)) (kk : J X Z pr (pc + 3) lv (.int v :: rest) M k n) : J X Z pr pc lv st M k n := by
  obtain ⟨p, l, e, R, s, m, args, below, meth, co, Γ, D, nL⟩ := X
  subst hst
  intro r hr H locs ls hW hS hl
  have hR := hC.2.2.2.2.2.2.2.1
  have run := va_runV (l := l) (R := R) (e := e) (below := below) (meth := meth) (rest := rest) (As := As) (g := F0 m pc ls (As.reverse ++ .ref b :: rest)) (locs := locs) (cells := k) (slots := n) ⟨hC.1, hC.2.1, hC.2.2.1, hC.2.2.2.1, hC.2.2.2.2.1⟩ (hM H.size) (cwV nA hC.2.2.2.2.1 (lw_V h1 h2 h3 h4 h5) rfl rfl rfl hdesc ⟨by rw [hR]; exact Nat.le_of_ble_eq_true hfr, by rw [hR]; exact Nat.le_of_ble_eq_true hlc⟩)
    ⟨PreP.blind, drecv hC.2.2.2.2.2.1.1 hS hnb hat hcl, fun U hU hWm => ⟨rfl, by rw [hU], by rw [hU]; exact hW, hC.2.2.2.2.2.1.pass hS hU hWm, hC.2.2.2.2.2.2.1, by rw [hU]; exact hP H (Kp.of hS)⟩⟩ rfl hnA hl.1 rfl (lv_room (Nat.le_of_ble_eq_true hrm)) hd ⟨by rw [hR]; exact Nat.le_of_ble_eq_true hk, by rw [hR]; exact Nat.le_of_ble_eq_true hn⟩
  exact W_after run hS (fun H1 locs1 hW1 hS1 => kk r hr H1 locs1 ls hW1 hS1 hl)
theorem j_callUP (hC : JC X cc own ret fr lc mc ms) (As : List Value) {nA : Nat} (hnA : As.length = nA) (hM : CNP (XL X) y (ws_ y bytes maxL retc) fr' lc' (XG X) (XD X) (.ref b :: As) M P v) (hP : ∀ H1, Kp (XG X) (XS X).heap H1 → P H1)
    (h1 : Cond.methodLink own idx x ∈ lw_all) (h2 : Cond.sameMethod x.cls owner x.name x.desc ∈ lw_all) (h3 : Cond.selects C x y ∈ lw_all) (h4 : Cond.instanceMethod y ∈ lw_all) (h5 : Cond.initialized y.cls ∈ lw_all) (h6 : Cond.code y bytes maxL retc ∈ lw_all)
    (hnb : nX (XG X) b) (hat : va_at (gD (XG X)) xcl (b, .inr (ci, fs)) (XS X).heap) (hcl : xcl[ci]? = some (C, T, N))
    (hyx : y = ⟨owner, x.name, x.desc⟩) (hdesc : owner ≠ "java/lang/invoke/MethodHandle" ∧ owner ≠ "java/lang/invoke/VarHandle" ∧ (parseMethodDescriptor x.desc).map (fun d => d.parameters.length) = some nA)
    (hfr : Nat.ble (fr' + 1) fr = true) (hlc : Nat.ble (8 + (maxL + 11) + lc') lc = true) (hst : st = As.reverse ++ .ref b :: rest) (hrm : Nat.ble ((rest.map fun v => v.category).sum) 8 = true) (hk : Nat.ble k mc = true) (hn : Nat.ble n ms = true)
    (hd : decode cc pc = .ok (.invokevirtual idx, 3)) (kk : J X Z pr (pc + 3) lv (.int v :: rest) M k n) : J X Z pr pc lv st M k n := by
  obtain ⟨p, l, e, R, s, m, args, below, meth, co, Γ, D, nL⟩ := X
  subst hst
  intro r hr H locs ls hW hS hl
  have hR := hC.2.2.2.2.2.2.2.1
  have run := va_runU (l := l) (R := R) (e := e) (below := below) (meth := meth) (rest := rest) (As := As) (g := F0 m pc ls (As.reverse ++ .ref b :: rest)) (locs := locs) (cells := k) (slots := n) ⟨hC.1, hC.2.1, hC.2.2.1, hC.2.2.2.1, hC.2.2.2.2.1⟩ (hM H.size) (va_cwU nA hC.2.2.2.2.1 (lw_U h1 h2 h3 h4 h5 h6) rfl rfl rfl hyx hdesc ⟨by rw [hR]; exact Nat.le_of_ble_eq_true hfr, by rw [hR]; exact Nat.le_of_ble_eq_true hlc⟩)
    ⟨PreP.blind, drecv hC.2.2.2.2.2.1.1 hS hnb hat hcl, fun U hU hWm => ⟨rfl, by rw [hU], by rw [hU]; exact hW, hC.2.2.2.2.2.1.pass hS hU hWm, hC.2.2.2.2.2.2.1, by rw [hU]; exact hP H (Kp.of hS)⟩⟩ rfl hnA hl.1 rfl (lv_room (Nat.le_of_ble_eq_true hrm)) hd ⟨by rw [hR]; exact Nat.le_of_ble_eq_true hk, by rw [hR]; exact Nat.le_of_ble_eq_true hn⟩
  exact W_after run hS (fun H1 locs1 hW1 hS1 => kk r hr H1 locs1 ls hW1 hS1 hl)
theorem j_callFP (hC : JC X cc own ret fr lc mc ms) (As : List Value) {nA count : Nat} (hnA : As.length = nA) (hM : CNP (XL X) y (ws_ y bytes maxL retc) fr' lc' (XG X) (XD X) (.ref b :: As) M P v) (hP : ∀ H1, Kp (XG X) (XS X).heap H1 → P H1)
    (h1 : Cond.methodLink own idx x ∈ lw_all) (h3 : Cond.selects C x y ∈ lw_all) (h4 : Cond.instanceMethod y ∈ lw_all) (h5 : Cond.initialized y.cls ∈ lw_all) (h6 : Cond.code y bytes maxL retc ∈ lw_all) (hFw : va_Fw C x y (XS X))
    (hnb : nX (XG X) b) (hat : va_at (gD (XG X)) xcl (b, .inr (ci, fs)) (XS X).heap) (hcl : xcl[ci]? = some (C, T, N))
    (hdesc : x.cls ≠ "java/lang/invoke/MethodHandle" ∧ x.cls ≠ "java/lang/invoke/VarHandle" ∧ (parseMethodDescriptor x.desc).map (fun d => d.parameters.length) = some nA)
    (hfr : fr' + 1 ≤ fr) (hlc : 8 + (maxL + 11) + lc' ≤ lc) (hst : st = As.reverse ++ .ref b :: rest) (hrm : Nat.ble ((rest.map fun v => v.category).sum) 8 = true) (hk : Nat.ble k mc = true) (hn : Nat.ble n ms = true)
    (hd : decode cc pc = .ok (.invokeinterface idx count, 5)) (kk : J X Z pr (pc + 5) lv (.int v :: rest) M k n) : J X Z pr pc lv st M k n := by
  obtain ⟨p, l, e, R, s, m, args, below, meth, co, Γ, D, nL⟩ := X
  subst hst
  intro r hr H locs ls hW hS hl
  have hR := hC.2.2.2.2.2.2.2.1
  have run := va_runF (l := l) (R := R) (e := e) (below := below) (meth := meth) (rest := rest) (As := As) (g := F0 m pc ls (As.reverse ++ .ref b :: rest)) (locs := locs) (cells := k) (slots := n) (hC.2.2.2.2.2.1.1.1 ci _ hcl).2 ⟨hC.1, hC.2.1, hC.2.2.1, hC.2.2.2.1, hC.2.2.2.2.1⟩ (hM H.size) (va_cwF nA hC.2.2.2.2.1 (lw_F h1 h3 h4 h5 h6) rfl rfl rfl hFw hdesc ⟨by rw [hR]; exact hfr, by rw [hR]; exact hlc⟩)
    ⟨PreP.blind, drecv hC.2.2.2.2.2.1.1 hS hnb hat hcl, fun U hU hWm => ⟨rfl, by rw [hU], by rw [hU]; exact hW, hC.2.2.2.2.2.1.pass hS hU hWm, hC.2.2.2.2.2.2.1, by rw [hU]; exact hP H (Kp.of hS)⟩⟩ rfl hnA hl.1 rfl (lv_room (Nat.le_of_ble_eq_true hrm)) hd ⟨by rw [hR]; exact Nat.le_of_ble_eq_true hk, by rw [hR]; exact Nat.le_of_ble_eq_true hn⟩
  exact W_after5 run hS (fun H1 locs1 hW1 hS1 => kk r hr H1 locs1 ls hW1 hS1 hl)
end JDYN
theorem JC.KN {X : JX} {cc : ByteArray} {own : String} {ret : Option FieldType} {fr lc mc ms : Nat} (hC : JC X cc own ret fr lc mc ms) : KN (XS X) := by
  obtain ⟨p, l, e, R, s, m, args, below, meth, co, Γ, D, nL⟩ := X
  exact hC.2.2.2.2.2.1.2.1
theorem int_ofBool (b : Bool) : (if b then (1 : Int32) else 0) = if b = true then 1 else 0 := rfl
def bi (b : Bool) : Int32 := if b then 1 else 0
/-- the sum -/
theorem mX11_of (l : Launch) (Γ : xG) (hG : dmI dmX Γ) (D : List LDen) (s : Nat) (hs : s < 15) (M : Mem) (a : Nat) (t : Nat → Int32) (n0 : Int32) : CNP l yX11_of (ws_ yX11_of cX11_of 4 (some .int)) 1 12 Γ D [.ref a, .ref (gadr Γ (0, s, 6))] M (SumAt Γ a t n0) (sumv t n0 (M (0, s, 6))) := by
  refine CNP.of (own := RX11) (lv0 := lv_args 0 [.ref a, .ref (gadr Γ (0, s, 6))]) (by decide +kernel) rfl (Nat.le_of_ble_eq_true rfl) rfl (fun X e1 e2 e3 hnl hC hP => ?_)
  subst e1
  obtain ⟨b, hna, hnb, ha, hb⟩ := hP
  refine j_aload_n hC 0 dX11_of_0 rfl ?_
  refine j_dget (fk := 1) hC hna ha rfl in_X11 rfl rfl q962 rfl dX11_of_1 ?_
  refine j_istore_n hC [(2, .int n0), (0, .ref a), (1, .ref (gadr (XG X) (0, s, 6)))] hnl dX11_of_4 rfl rfl ?_
  refine j_iconst (v := 0) hC dX11_of_5 (by decide) ?_
  refine j_istore_n hC [(3, .int 0), (2, .int n0), (0, .ref a), (1, .ref (gadr (XG X) (0, s, 6)))] hnl dX11_of_6 rfl rfl ?_
  have step : ∀ (i : Int32) (j : Nat) (acc : Int32), i.toNatClampNeg = j → vp_in i 6 → ¬ (6 : Int32) ≤ i → (J X (ZN X foI) (some (sumv t n0 (M (0, s, 6)), M)) 7 [(0, .ref a), (1, .ref (gadr (XG X) (0, s, 6))), (2, .int (acc + t j * M (0, s, 6) j)), (3, .int (i + 1))] [] M 0 0) → J X (ZN X foI) (some (sumv t n0 (M (0, s, 6)), M)) 7 [(0, .ref a), (1, .ref (gadr (XG X) (0, s, 6))), (2, .int acc), (3, .int i)] [] M 0 0 := by
    intro i j acc hj hi hlt kk
    have e : (some (sumv t n0 (M (0, s, 6)), M)) = if (6 : Int32) ≤ i then none else some (sumv t n0 (M (0, s, 6)), M) := by rw [if_neg hlt]
    rw [e]
    refine j_iload_n hC 3 dX11_of_7 rfl ?_
    refine j_bipush (v := 6) hC dX11_of_8 (by decide) ?_
    refine j_icmp_ge (tgt := 32) hC dX11_of_10 (by decide) (fun h => absurd h hlt) (fun _ => ?_)
    refine j_iload_n hC 2 dX11_of_13 rfl ?_
    refine j_aload_n hC 0 dX11_of_14 rfl ?_
    refine j_dget (fk := 0) hC hna ha rfl in_X11 rfl rfl q960 rfl dX11_of_15 ?_
    refine j_iload_n hC 3 dX11_of_18 rfl ?_
    refine j_diald hC hnb hb hi dX11_of_19 ?_
    refine j_aload_n hC 1 dX11_of_20 rfl ?_
    refine j_iload_n hC 3 dX11_of_21 rfl ?_
    refine j_ialdP (L := 8) hC (dmS hG hs rfl) rfl (fun z => hi (z.imp id (fun z => by omega))) dX11_of_22 ?_
    refine j_imul hC dX11_of_23 ?_
    refine j_iadd hC dX11_of_24 ?_
    rw [hj]
    refine j_istore_n hC [(2, .int (acc + t j * M (0, s, 6) j)), (0, .ref a), (1, .ref (gadr (XG X) (0, s, 6))), (3, .int i)] hnl dX11_of_25 rfl rfl ?_
    refine j_iinc hC (v := i + 1) 3 [(3, .int (i + 1)), (2, .int (acc + t j * M (0, s, 6) j)), (0, .ref a), (1, .ref (gadr (XG X) (0, s, 6)))] hnl dX11_of_26 rfl rfl rfl rfl ?_
    refine j_goto (tgt := 7) hC dX11_of_29 (by decide) ?_
    exact j_sub [2, 3, 1, 0] rfl kk
  refine j_sub [2, 3, 1, 0] rfl ?_
  refine step 0 0 _ (by decide) (by unfold vp_in; decide) (by decide) ?_
  refine step 1 1 _ (by decide) (by unfold vp_in; decide) (by decide) ?_
  refine step 2 2 _ (by decide) (by unfold vp_in; decide) (by decide) ?_
  refine step 3 3 _ (by decide) (by unfold vp_in; decide) (by decide) ?_
  refine step 4 4 _ (by decide) (by unfold vp_in; decide) (by decide) ?_
  refine step 5 5 _ (by decide) (by unfold vp_in; decide) (by decide) ?_
  have e : (some (sumv t n0 (M (0, s, 6)), M)) = if (6 : Int32) ≤ 6 then some (sumv t n0 (M (0, s, 6)), M) else none := by rw [if_pos (by decide)]
  rw [e]
  refine j_iload_n hC 3 dX11_of_7 rfl ?_
  refine j_bipush (v := 6) hC dX11_of_8 (by decide) ?_
  refine j_icmp_ge (tgt := 32) hC dX11_of_10 (by decide) (fun _ => ?_) (fun h => absurd (by decide) h)
  refine j_iload_n hC 2 dX11_of_32 rfl ?_
  exact j_iret hC dX11_of_33
