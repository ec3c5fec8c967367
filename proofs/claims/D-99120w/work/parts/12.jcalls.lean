set_option maxRecDepth 100000
/-- names of what is thrown, by number -/
def exN : Nat → String
  | 1 => "java/lang/IllegalArgumentException"
  | 2 => "java/lang/UnsupportedOperationException"
  | 3 => "java/lang/IndexOutOfBoundsException"
  | 4 => "java/util/NoSuchElementException"
  | 5 => "java/lang/IllegalStateException"
  | _ => "FeatherYard$Wrong"
abbrev TR : Type := Nat × Int32 × Mem
/-- a method that returns or throws: 0 and what it answers, or the number of what it throws; the memory behind it -/
def QcT (Γ : xG) (D : List LDen) (fo : Int32 → Option Value) (r : TR) (A : Nat → Prop) : Array Value → State → Outcome → State → Prop := fun a st o t => r.1 = 0 ∧ QV Γ D (fo r.2.1) r.2.2 A a st o t
def XcT (Γ : xG) (D : List LDen) (r : TR) (A : Nat → Prop) : String → Addr → State → State → Prop := fun E q st t => r.1 ≠ 0 ∧ E = exN r.1 ∧ (6 ≤ r.1 → q = gadr Γ (4, 0, 13)) ∧ Wd Γ r.2.2 D t.heap ∧ va_F A st t
def CT (l : Launch) (y : MethodName) (ws : List Cond) (fr lc mc ms : Nat) (Γ : xG) (D : List LDen) (av : List Value) (M : Mem) (fo : Int32 → Option Value) (r : TR) : Prop := ∀ sz : Nat, vx_Met l y ws { frames := fr, cells := mc, slots := ms, locals := lc } (Pre Γ D M sz av) (QcT Γ D fo r (AX Γ sz)) (XcT Γ D r (AX Γ sz)) mc ms (AX Γ sz)
def ZT (X : JX) (fo : Int32 → Option Value) (mc ms : Nat) : TR → State → Prop :=
  match X with
  | (p, l, e, R, s, m, args, below, meth, c, Γ, D, nL) => fun r => vx_MQ below (QcT Γ D fo r (AX Γ s.heap.size)) (XcT Γ D r (AX Γ s.heap.size)) args s mc ms (AX Γ s.heap.size)
/-- beside JC: no handlers of its own, no traces kept -/
def JT (X : JX) : Prop :=
  match X with
  | (p, l, e, R, s, m, args, below, meth, c, Γ, D, nL) => (∀ x ∈ c.exceptionTable.toList, False) ∧ l.stackTraces = false
def bx (x : Option TR) (k : Int32 → Mem → Option TR) : Option TR := match x with
  | none => none
  | some (0, v, M) => k v M
  | some (e + 1, v, M) => some (e + 1, v, M)
theorem CT.of {l : Launch} (hst : l.stackTraces = false) {y : MethodName} {own : String} {cc : ByteArray} {maxL : Nat} {ret : Option FieldType} {fr lc mc ms : Nat} {Γ : xG} {D : List LDen} {av : List Value} {M : Mem} {fo : Int32 → Option Value} {pr : Option TR} {lv0 : List (Nat × Value)}
    (hy : plainName y.cls = true) (ho : y.cls = own) (hlen : (lg_sl av).length ≤ maxL) (hlv : lv_args 0 av = lv0)
    (body : ∀ X : JX, XG X = Γ → XD X = D → XL X = l → nLof X = maxL → JC X cc own ret fr lc mc ms → JT X → J X (ZT X fo mc ms) pr 0 lv0 [] M 0 0) (r : TR) (hr : pr = some r) : CT l y (ws_ y cc maxL ret) fr lc mc ms Γ D av M fo r := by
  intro sz
  refine vx_ofW (cc := cc) (maxL := maxL) (ret := ret) hy rfl ?_
  intro p e s m args below meth c s₁ B hml htab hv
  obtain ⟨rfl, hsz, hW, hE, hG⟩ := hv
  have hts := atoms_spec (ws := ws_ y cc maxL ret) B.pre
  have hts : ∀ w ∈ lw_all, w.before _ s = true := fun w h => hts w (List.mem_cons_of_mem _ h)
  subst hsz
  have hl := lv_entry av (n := maxL) hlen
  rw [lg_entry_eq]
  rw [hlv] at hl
  exact body (p, l, e, (headSpec (ws_ y cc maxL ret) { frames := fr, cells := mc, slots := ms, locals := lc }).room, s, m, av.toArray, below, meth, c, Γ, D, maxL) rfl rfl rfl rfl ⟨B.exec, B.bytes, hml, by rw [← ho]; exact findClass_of_methodNamed B.named, hts, hE, hG, rfl, B.returns, B.notSynchronized⟩ ⟨htab, hst⟩ r hr _ _ _ hW va_S.rf hl
section JCALLS
variable {ρ : Type} {X : JX} {Z : ρ → State → Prop} {pc : Nat} {lv : List (Nat × Value)} {rest st : List Value} {M : Mem} {k n : Nat} {cc : ByteArray} {own : String} {ret : Option FieldType} {fr lc mc ms : Nat}
variable {y : MethodName} {bytes : ByteArray} {maxL fr' lc' idx : Nat} {retc : Option FieldType} {C : String} {cb : CId} {ci N : Nat} {T : u_T} {fo : Int32 → Option Value} {g : Option (Int32 × Mem)} {kont : Int32 → Mem → Option ρ}
/-- the receiver -/
theorem jrecv {Γ : xG} {D : List LDen} {s : State} {H : Heap} (hK : va_K (gD Γ) xcl (xtys Γ) s) (hW : Wd Γ M D H) (hdm : gdm Γ cb = true) (hkd : kd cb = .inl ci) (hcl : xcl[ci]? = some (C, T, N)) : ∃ cell : Cell, H[gadr Γ cb]? = some cell ∧ cell.vm.isStatics = false ∧ s.vm.findClass C = some cell.cls := by
  obtain ⟨aL, hW1, -⟩ := hW
  have h1 := hW1 cb hdm
  rw [kd_obj hkd] at h1
  exact va_recv (ws := [(gadr Γ cb, .inr (ci, (List.range (fN ci)).map (vl Γ aL (M cb) cb)))]) hK (fun i q hi => by
    cases i with
    | zero => cases hi; exact h1
    | succ i => cases hi) hcl (q0 := 0) rfl
theorem j_callV (hC : JC X cc own ret fr lc mc ms) (As : List Value) {nA : Nat} (hnA : As.length = nA) (hM : ∀ r, g = some r → CN (XL X) y (ws_ y bytes maxL retc) fr' lc' (XG X) (XD X) (.ref (gadr (XG X) cb) :: As) M (fo r.1) r.2)
    (h1 : Cond.methodLink own idx y ∈ lw_all) (h2 : Cond.instanceMethod y ∈ lw_all) (h3 : Cond.selects C y y ∈ lw_all) (h4 : Cond.initialized C ∈ lw_all) (h5 : Cond.code y bytes maxL retc ∈ lw_all)
    (hdm : gdm (XG X) cb = true) (hkd : kd cb = .inl ci) (hcl : xcl[ci]? = some (C, T, N))
    (hdesc : y.cls = C ∧ y.cls ≠ "java/lang/invoke/MethodHandle" ∧ y.cls ≠ "java/lang/invoke/VarHandle" ∧ (parseMethodDescriptor y.desc).map (fun d => d.parameters.length) = some nA)
    (hfr : Nat.ble (fr' + 1) fr = true) (hlc : Nat.ble (8 + (maxL + 11) + lc') lc = true) (hst : st = As.reverse ++ .ref (gadr (XG X) cb) :: rest) (hrm : Nat.ble ((rest.map fun v => v.category).sum) 8 = true) (hk : Nat.ble k mc = true) (hn : Nat.ble n ms = true)
    (hd : decode cc pc = .ok (.invokevirtual idx, 3)) (st2 : Int32 → List Value) (hs2 : ∀ v, (fo v).toList ++ rest = st2 v) (kk : ∀ v M1, J X Z (kont v M1) (pc + 3) lv (st2 v) M1 k n) : J X Z (bd g kont) pc lv st M k n := by
  obtain ⟨p, l, e, R, s, m, args, below, meth, co, Γ, D, nL⟩ := X
  subst hst
  intro r hr H locs ls hW hS hl
  cases hg : g with
  | none => rw [hg] at hr; cases hr
  | some q =>
    obtain ⟨v, M1⟩ := q
    rw [hg] at hr
    have hr : kont v M1 = some r := hr
    have hR := hC.2.2.2.2.2.2.2.1
    have run := va_runV (l := l) (R := R) (e := e) (below := below) (meth := meth) (rest := rest) (As := As) (g := F0 m pc ls (As.reverse ++ .ref (gadr Γ cb) :: rest)) (locs := locs) (cells := k) (slots := n) ⟨hC.1, hC.2.1, hC.2.2.1, hC.2.2.2.1, hC.2.2.2.2.1⟩ (hM (v, M1) hg H.size) (cwV nA hC.2.2.2.2.1 (lw_V h1 h2 h3 h4 h5) rfl rfl rfl hdesc ⟨by rw [hR]; exact Nat.le_of_ble_eq_true hfr, by rw [hR]; exact Nat.le_of_ble_eq_true hlc⟩)
      ⟨Pre.blind, jrecv hC.2.2.2.2.2.1.1 hW hdm hkd hcl, fun U hU hWm => ⟨rfl, by rw [hU], by rw [hU]; exact hW, hC.2.2.2.2.2.1.pass hS hU hWm, hC.2.2.2.2.2.2.1⟩⟩ rfl hnA hl.1 rfl (lv_room (Nat.le_of_ble_eq_true hrm)) hd ⟨by rw [hR]; exact Nat.le_of_ble_eq_true hk, by rw [hR]; exact Nat.le_of_ble_eq_true hn⟩
    intro T0 hT X0
    obtain ⟨v0, st₀, t, T', L, e0, X', hL, e1, e2, ⟨hv, hWd, hF⟩, hgo⟩ := run T0 hT X0
    cases hv
    obtain ⟨-, -, k3⟩ := vx_keep e0 e1 hS (fun q _ h => AX_mono hS.1 q h) (fun q h => AX_mono hS.1 q h) hL hF
    have kk := kk v M1
    rw [← hs2] at kk
    obtain ⟨t2, a1, b1⟩ := kk r hr T'.heap (locs ++ L) ls (by rw [e1]; exact hWd) k3 hl T' rfl X'
    exact ⟨t2, hgo t2 a1, b1⟩
theorem j_callS (hC : JC X cc own ret fr lc mc ms) (As : List Value) {nA : Nat} (hnA : As.length = nA) (hM : ∀ r, g = some r → CN (XL X) y (ws_ y bytes maxL retc) fr' lc' (XG X) (XD X) As M (fo r.1) r.2)
    (h1 : Cond.methodLink own idx y ∈ lw_all) (h2 : Cond.static y ∈ lw_all) (h3 : Cond.initialized y.cls ∈ lw_all) (h4 : Cond.code y bytes maxL retc ∈ lw_all)
    (hdesc : y.cls ≠ "java/lang/invoke/MethodHandle" ∧ y.cls ≠ "java/lang/invoke/VarHandle" ∧ (parseMethodDescriptor y.desc).map (fun d => d.parameters.length) = some nA)
    (hfr : Nat.ble (fr' + 1) fr = true) (hlc : Nat.ble (8 + (maxL + 11) + lc') lc = true) (hst : st = As.reverse ++ rest) (hrm : Nat.ble ((rest.map fun v => v.category).sum) 8 = true) (hk : Nat.ble k mc = true) (hn : Nat.ble n ms = true)
    (hd : decode cc pc = .ok (.invokestatic idx, 3)) (st2 : Int32 → List Value) (hs2 : ∀ v, (fo v).toList ++ rest = st2 v) (kk : ∀ v M1, J X Z (kont v M1) (pc + 3) lv (st2 v) M1 k n) : J X Z (bd g kont) pc lv st M k n := by
  obtain ⟨p, l, e, R, s, m, args, below, meth, co, Γ, D, nL⟩ := X
  subst hst
  intro r hr H locs ls hW hS hl
  cases hg : g with
  | none => rw [hg] at hr; cases hr
  | some q =>
    obtain ⟨v, M1⟩ := q
    rw [hg] at hr
    have hr : kont v M1 = some r := hr
    have hR := hC.2.2.2.2.2.2.2.1
    have run := va_runS (l := l) (R := R) (e := e) (below := below) (meth := meth) (rest := rest) (As := As) (g := F0 m pc ls (As.reverse ++ rest)) (locs := locs) (cells := k) (slots := n) ⟨hC.1, hC.2.1, hC.2.2.1, hC.2.2.2.1, hC.2.2.2.2.1⟩ (hM (v, M1) hg H.size) (va_cwS nA hC.2.2.2.2.1 (lw_S h1 h2 h3 h4) rfl rfl rfl hdesc ⟨by rw [hR]; exact Nat.le_of_ble_eq_true hfr, by rw [hR]; exact Nat.le_of_ble_eq_true hlc⟩)
      ⟨Pre.blind, fun U hU hWm => ⟨rfl, by rw [hU], by rw [hU]; exact hW, hC.2.2.2.2.2.1.pass hS hU hWm, hC.2.2.2.2.2.2.1⟩⟩ rfl hnA hl.1 rfl (lv_room (Nat.le_of_ble_eq_true hrm)) hd ⟨by rw [hR]; exact Nat.le_of_ble_eq_true hk, by rw [hR]; exact Nat.le_of_ble_eq_true hn⟩
    intro T0 hT X0
    obtain ⟨v0, st₀, t, T', L, e0, X', hL, e1, e2, ⟨hv, hWd, hF⟩, hgo⟩ := run T0 hT X0
    cases hv
    obtain ⟨-, -, k3⟩ := vx_keep e0 e1 hS (fun q _ h => AX_mono hS.1 q h) (fun q h => AX_mono hS.1 q h) hL hF
    have kk := kk v M1
    rw [← hs2] at kk
    obtain ⟨t2, a1, b1⟩ := kk r hr T'.heap (locs ++ L) ls (by rw [e1]; exact hWd) k3 hl T' rfl X'
    exact ⟨t2, hgo t2 a1, b1⟩
end JCALLS
section JTCALLS
variable {X : JX} {fc : Int32 → Option Value} {pc : Nat} {lv : List (Nat × Value)} {rest st : List Value} {M : Mem} {k n : Nat} {cc : ByteArray} {own : String} {ret : Option FieldType} {fr lc mc ms : Nat}
variable {y : MethodName} {bytes : ByteArray} {maxL fr' lc' mc' ms' idx : Nat} {retc : Option FieldType} {C : String} {cb : CId} {ci N : Nat} {T : u_T} {fo : Int32 → Option Value} {g : Option TR} {kont : Int32 → Mem → Option TR}
theorem j_callVT (hC : JC X cc own ret fr lc mc ms) (hT9 : JT X) (As : List Value) {nA : Nat} (hnA : As.length = nA) (hM : ∀ r, g = some r → CT (XL X) y (ws_ y bytes maxL retc) fr' lc' mc' ms' (XG X) (XD X) (.ref (gadr (XG X) cb) :: As) M fo r)
    (h1 : Cond.methodLink own idx y ∈ lw_all) (h2 : Cond.instanceMethod y ∈ lw_all) (h3 : Cond.selects C y y ∈ lw_all) (h4 : Cond.initialized C ∈ lw_all) (h5 : Cond.code y bytes maxL retc ∈ lw_all)
    (hdm : gdm (XG X) cb = true) (hkd : kd cb = .inl ci) (hcl : xcl[ci]? = some (C, T, N))
    (hdesc : y.cls = C ∧ y.cls ≠ "java/lang/invoke/MethodHandle" ∧ y.cls ≠ "java/lang/invoke/VarHandle" ∧ (parseMethodDescriptor y.desc).map (fun d => d.parameters.length) = some nA)
    (hfr : Nat.ble (fr' + 1) fr = true) (hlc : Nat.ble (8 + (maxL + 11) + lc') lc = true) (hst : st = As.reverse ++ .ref (gadr (XG X) cb) :: rest) (hrm : Nat.ble ((rest.map fun v => v.category).sum) 8 = true) (hk : Nat.ble (k + mc') mc = true) (hn : Nat.ble (n + ms') ms = true)
    (hd : decode cc pc = .ok (.invokevirtual idx, 3)) (st2 : Int32 → List Value) (hs2 : ∀ v, (fo v).toList ++ rest = st2 v) (kk : ∀ v M1, J X (ZT X fc mc ms) (kont v M1) (pc + 3) lv (st2 v) M1 (k + mc') (n + ms')) : J X (ZT X fc mc ms) (bx g kont) pc lv st M k n := by
  obtain ⟨p, l, e, R, s, m, args, below, meth, co, Γ, D, nL⟩ := X
  subst hst
  intro r hr H locs ls hW hS hl
  cases hg : g with
  | none => rw [hg] at hr; cases hr
  | some q =>
    rw [hg] at hr
    have hR := hC.2.2.2.2.2.2.2.1
    have hk' := Nat.le_of_ble_eq_true hk
    have hn' := Nat.le_of_ble_eq_true hn
    have run := vx_runV (l := l) (R := R) (e := e) (below := below) (meth := meth) (rest := rest) (As := As) (g := F0 m pc ls (As.reverse ++ .ref (gadr Γ cb) :: rest)) (locs := locs) (cells := k) (slots := n) ⟨hC.1, hC.2.1, hC.2.2.1, hC.2.2.2.1, hC.2.2.2.2.1⟩ (hM q hg H.size) (cwV nA hC.2.2.2.2.1 (lw_V h1 h2 h3 h4 h5) rfl rfl rfl hdesc ⟨by rw [hR]; exact Nat.le_of_ble_eq_true hfr, by rw [hR]; exact Nat.le_of_ble_eq_true hlc⟩)
      ⟨Pre.blind, jrecv hC.2.2.2.2.2.1.1 hW hdm hkd hcl, fun U hU hWm => ⟨rfl, by rw [hU], by rw [hU]; exact hW, hC.2.2.2.2.2.1.pass hS hU hWm, hC.2.2.2.2.2.2.1⟩⟩ rfl hnA hl.1 rfl (lv_room (Nat.le_of_ble_eq_true hrm)) hd ⟨by rw [hR]; exact hk', by rw [hR]; exact hn'⟩
    intro T0 hT X0
    rcases run T0 hT X0 with ⟨v0, st₀, t, T', L, e0, X', hL, e1, e2, ⟨h0, hv, hWd, hF⟩, hgo⟩ | ⟨q9, st₀, t, T', L, E, ce, e0, X', hL, e1, e2, ⟨h0, hE, hq9, hWd, hF⟩, hce, hcv, hcl9, hgo⟩
    · obtain ⟨q0, v, M1⟩ := q
      have h0 : q0 = 0 := h0
      subst h0
      cases hv
      have hr : kont v M1 = some r := hr
      obtain ⟨-, -, k3⟩ := vx_keep e0 e1 hS (fun q _ h => AX_mono hS.1 q h) (fun q h => AX_mono hS.1 q h) hL hF
      have kk := kk v M1
      rw [← hs2] at kk
      obtain ⟨t2, a1, b1⟩ := kk r hr T'.heap (locs ++ L) ls (by rw [e1]; exact hWd) k3 hl T' rfl X'
      exact ⟨t2, hgo t2 a1, b1⟩
    · obtain ⟨q0, v, M1⟩ := q
      cases q0 with
      | zero => exact absurd rfl h0
      | succ q0 =>
        have hr : some (q0 + 1, v, M1) = some r := hr
        cases hr
        obtain ⟨-, -, k3⟩ := vx_keep e0 e1 hS (fun q _ h => AX_mono hS.1 q h) (fun q h => AX_mono hS.1 q h) hL hF
        obtain ⟨t2, a1, b1⟩ := vx_out (Qc := QcT Γ D fc (q0 + 1, v, M1) (AX Γ s.heap.size)) (XC := XcT Γ D (q0 + 1, v, M1) (AX Γ s.heap.size)) (free := AX Γ s.heap.size) (mc := mc) (ms := ms) (args := args) (pc := pc) (ls := ls) (rest := rest) (H := T'.heap) (locs := locs ++ L) (fun x hx => (hT9.1 x hx).elim) hC.2.2.2.2.2.2.2.2.2 (by rw [e1]; exact hce) hcv hcl9 (fun t3 ht3 _ => ⟨h0, hE, hq9, by rw [ht3, e1]; exact hWd, k3.F ht3⟩) k3.2.2 hk' hn' T' rfl X'
        exact ⟨t2, hgo.trans a1, b1⟩
theorem j_callST (hC : JC X cc own ret fr lc mc ms) (hT9 : JT X) (As : List Value) {nA : Nat} (hnA : As.length = nA) (hM : ∀ r, g = some r → CT (XL X) y (ws_ y bytes maxL retc) fr' lc' mc' ms' (XG X) (XD X) As M fo r)
    (h1 : Cond.methodLink own idx y ∈ lw_all) (h2 : Cond.static y ∈ lw_all) (h3 : Cond.initialized y.cls ∈ lw_all) (h4 : Cond.code y bytes maxL retc ∈ lw_all)
    (hdesc : y.cls ≠ "java/lang/invoke/MethodHandle" ∧ y.cls ≠ "java/lang/invoke/VarHandle" ∧ (parseMethodDescriptor y.desc).map (fun d => d.parameters.length) = some nA)
    (hfr : Nat.ble (fr' + 1) fr = true) (hlc : Nat.ble (8 + (maxL + 11) + lc') lc = true) (hst : st = As.reverse ++ rest) (hrm : Nat.ble ((rest.map fun v => v.category).sum) 8 = true) (hk : Nat.ble (k + mc') mc = true) (hn : Nat.ble (n + ms') ms = true)
    (hd : decode cc pc = .ok (.invokestatic idx, 3)) (st2 : Int32 → List Value) (hs2 : ∀ v, (fo v).toList ++ rest = st2 v) (kk : ∀ v M1, J X (ZT X fc mc ms) (kont v M1) (pc + 3) lv (st2 v) M1 (k + mc') (n + ms')) : J X (ZT X fc mc ms) (bx g kont) pc lv st M k n := by
  obtain ⟨p, l, e, R, s, m, args, below, meth, co, Γ, D, nL⟩ := X
  subst hst
  intro r hr H locs ls hW hS hl
  cases hg : g with
  | none => rw [hg] at hr; cases hr
  | some q =>
    rw [hg] at hr
    have hR := hC.2.2.2.2.2.2.2.1
    have hk' := Nat.le_of_ble_eq_true hk
    have hn' := Nat.le_of_ble_eq_true hn
    have run := vx_runS (l := l) (R := R) (e := e) (below := below) (meth := meth) (rest := rest) (As := As) (g := F0 m pc ls (As.reverse ++ rest)) (locs := locs) (cells := k) (slots := n) ⟨hC.1, hC.2.1, hC.2.2.1, hC.2.2.2.1, hC.2.2.2.2.1⟩ (hM q hg H.size) (va_cwS nA hC.2.2.2.2.1 (lw_S h1 h2 h3 h4) rfl rfl rfl hdesc ⟨by rw [hR]; exact Nat.le_of_ble_eq_true hfr, by rw [hR]; exact Nat.le_of_ble_eq_true hlc⟩)
      ⟨Pre.blind, fun U hU hWm => ⟨rfl, by rw [hU], by rw [hU]; exact hW, hC.2.2.2.2.2.1.pass hS hU hWm, hC.2.2.2.2.2.2.1⟩⟩ rfl hnA hl.1 rfl (lv_room (Nat.le_of_ble_eq_true hrm)) hd ⟨by rw [hR]; exact hk', by rw [hR]; exact hn'⟩
    intro T0 hT X0
    rcases run T0 hT X0 with ⟨v0, st₀, t, T', L, e0, X', hL, e1, e2, ⟨h0, hv, hWd, hF⟩, hgo⟩ | ⟨q9, st₀, t, T', L, E, ce, e0, X', hL, e1, e2, ⟨h0, hE, hq9, hWd, hF⟩, hce, hcv, hcl9, hgo⟩
    · obtain ⟨q0, v, M1⟩ := q
      have h0 : q0 = 0 := h0
      subst h0
      cases hv
      have hr : kont v M1 = some r := hr
      obtain ⟨-, -, k3⟩ := vx_keep e0 e1 hS (fun q _ h => AX_mono hS.1 q h) (fun q h => AX_mono hS.1 q h) hL hF
      have kk := kk v M1
      rw [← hs2] at kk
      obtain ⟨t2, a1, b1⟩ := kk r hr T'.heap (locs ++ L) ls (by rw [e1]; exact hWd) k3 hl T' rfl X'
      exact ⟨t2, hgo t2 a1, b1⟩
    · obtain ⟨q0, v, M1⟩ := q
      cases q0 with
      | zero => exact absurd rfl h0
      | succ q0 =>
        have hr : some (q0 + 1, v, M1) = some r := hr
        cases hr
        obtain ⟨-, -, k3⟩ := vx_keep e0 e1 hS (fun q _ h => AX_mono hS.1 q h) (fun q h => AX_mono hS.1 q h) hL hF
        obtain ⟨t2, a1, b1⟩ := vx_out (Qc := QcT Γ D fc (q0 + 1, v, M1) (AX Γ s.heap.size)) (XC := XcT Γ D (q0 + 1, v, M1) (AX Γ s.heap.size)) (free := AX Γ s.heap.size) (mc := mc) (ms := ms) (args := args) (pc := pc) (ls := ls) (rest := rest) (H := T'.heap) (locs := locs ++ L) (fun x hx => (hT9.1 x hx).elim) hC.2.2.2.2.2.2.2.2.2 (by rw [e1]; exact hce) hcv hcl9 (fun t3 ht3 _ => ⟨h0, hE, hq9, by rw [ht3, e1]; exact hWd, k3.F ht3⟩) k3.2.2 hk' hn' T' rfl X'
        exact ⟨t2, hgo.trans a1, b1⟩
/-- ends of such a method -/
theorem j_iretT (hC : JC X cc own (some .int) fr lc mc ms) {v : Int32} (hk : Nat.ble k mc = true) (hn : Nat.ble n ms = true) (hd : decode cc pc = .ok (.ireturn, 1)) : J X (ZT X foI mc ms) (some (0, v, M)) pc lv [.int v] M k n := by
  obtain ⟨p, l, e, R, s, m, args, below, meth, co, Γ, D, nL⟩ := X
  intro r hr H locs ls hW hS hl
  cases hr
  exact W.widen (Nat.le_of_ble_eq_true hk) (Nat.le_of_ble_eq_true hn) (vx_ret (W.iret hC.1 hC.2.1 hC.2.2.2.2.2.2.2.2.1 (fun t ht _ => ⟨rfl, rfl, by rw [ht]; exact hW, hS.F ht⟩) hS.2.2 hd hC.2.2.2.2.2.2.2.2.2))
theorem j_vretT (hC : JC X cc own none fr lc mc ms) (hk : Nat.ble k mc = true) (hn : Nat.ble n ms = true) (hd : decode cc pc = .ok (.return_, 1)) : J X (ZT X foV mc ms) (some (0, (0 : Int32), M)) pc lv [] M k n := by
  obtain ⟨p, l, e, R, s, m, args, below, meth, co, Γ, D, nL⟩ := X
  intro r hr H locs ls hW hS hl
  cases hr
  exact W.widen (Nat.le_of_ble_eq_true hk) (Nat.le_of_ble_eq_true hn) (vx_ret (W.vret hC.1 hC.2.1 hC.2.2.2.2.2.2.2.2.1 (fun t ht _ => ⟨rfl, rfl, by rw [ht]; exact hW, hS.F ht⟩) hS.2.2 hd hC.2.2.2.2.2.2.2.2.2))
/-- 'throw new E()' -/
theorem j_throw0 (hC : JC X cc own ret fr lc mc ms) (hT9 : JT X) {ik ic en : Nat} {names : List String} {v : Int32} (hcls : Bundle.fit (exN en) = true) (hnames : ∀ n ∈ names, Bundle.fit n = true) (hen : en ≠ 0 ∧ en < 6)
    (hk : Cond.classLink own ik (exN en) ∈ lw_all) (hini : Cond.initialized (exN en) ∈ lw_all) (hat : ∀ w ∈ vx_at0 own ic (exN en) names, w ∈ lw_tbl) (hat2 : (vx_at0 own ic (exN en) names).all (fun w => goodWord w || xnest w) = true)
    (d0 : decode cc pc = .ok (.new ik, 3)) (d3 : decode cc (pc + 3) = .ok (.dup, 1)) (d4 : decode cc (pc + 4) = .ok (.invokespecial ic, 3)) (d7 : decode cc (pc + 7) = .ok (.athrow, 1))
    (hRf : names.length + 3 < fr) (hRl : (rest.map fun v => v.category).sum + (13 * (names.length + 1) + 42) ≤ lc) (hkc : Nat.ble (k + 1) mc = true) (hks : Nat.ble (n + 6) ms = true) : J X (ZT X fc mc ms) (some (en, v, M)) pc lv rest M k n := by
  obtain ⟨p, l, e, R, s, m, args, below, meth, co, Γ, D, nL⟩ := X
  intro r hr H locs ls hW hS hl
  cases hr
  have hR := hC.2.2.2.2.2.2.2.1
  have hts := hC.2.2.2.2.1
  have hg2 := List.all_eq_true.mp hat2
  refine vx_throw0 (cls := exN en) (names := names) hC.1 hC.2.1 hT9.2 hC.2.2.2.1 hcls hnames (hts _ hk) (hts _ hini) (fun w hw => by
    have h9 := hg2 w hw
    by_cases hg : goodWord w = true
    · exact hts w (lw_g (hat w hw) hg)
    · have hn9 : xnest w = true := by simpa [hg] using h9
      exact va_Nw.use (xnest_tabs hn9) (hC.2.2.2.2.2.1.2.1.2.1 w (hat w hw) hn9)) (fun w hw => ?_) hC.2.2.2.2.2.1.2.2.2.2.2.1 hC.2.2.2.2.2.1.2.2.2.2.2.2.1 hS (hl.1.trans hC.2.2.1.symm) d0 d3 d4 d7 (fun x hx => (hT9.1 x hx).elim)
    (by rw [hR]; exact hRf) (by rw [hR]; exact hRl) (by rw [hR]; exact Nat.le_of_ble_eq_true hkc) (by rw [hR]; exact Nat.le_of_ble_eq_true hks) hC.2.2.2.2.2.2.2.2.2 (fun q9 t hv hz hq => ⟨hen.1, rfl, fun h => absurd hen.2 (by omega), hW.kept hq, ⟨Nat.le_trans hS.1 hz, fun q h1 h2 => by rw [hq q (Nat.lt_of_lt_of_le h1 hS.1)]; exact hS.2.1 q h1 h2⟩⟩) hS.2.2 (Nat.le_of_ble_eq_true hkc) (Nat.le_of_ble_eq_true hks)
  rcases List.mem_cons.mp hw with e1 | hw
  · rw [e1]; unfold vx_ot; rw [(List.mem_filter.mp hk).2]; simp
  rcases List.mem_cons.mp hw with e1 | hw
  · rw [e1]; unfold vx_ot; rw [(List.mem_filter.mp hini).2]; simp
  · have h9 := hg2 w hw
    by_cases hg : goodWord w = true
    · unfold vx_ot; rw [hg]; simp
    · have hn9 : xnest w = true := by simpa [hg] using h9
      unfold vx_ot; rw [xnest_tabs hn9]; simp
end JTCALLS
