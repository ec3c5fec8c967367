set_option maxRecDepth 100000
/-! methods with a table of handlers -/
def JTW (X : JX) (hh : List (Nat × Nat × Nat × Nat)) : Prop :=
  match X with
  | (p, l, e, R, s, m, args, below, meth, c, Γ, D, nL) => c.exceptionTable.toList = tableOf hh ∧ l.stackTraces = false
/-- a thrown object over the frame at pc -/
def JH {ρ : Type} (X : JX) (Z : ρ → State → Prop) (pr : Option ρ) (en pc : Nat) (lv : List (Nat × Value)) (rest : List Value) (M : Mem) (k n : Nat) : Prop :=
  match X with
  | (p, l, e, R, s, m, args, below, meth, c, Γ, D, nL) => ∀ r, pr = some r → ∀ (H : Heap) (locs : List Loc) (ls : Array Slot) (q : Addr) (ce : Cell), Wd Γ M D H → va_S (AX Γ s.heap.size) s.heap H locs → lv_has ls nL lv → H[q]? = some ce → ce.vm = .none → s.vm.findClass (exN en) = some ce.cls → (6 ≤ en → q = gadr Γ (4, 0, 13)) → vx_W p l e R s m args below meth c H locs k n (Z r) (F0 m pc ls rest) q
def bh {ρ : Type} (x : Option TR) (k : Int32 → Mem → Option ρ) (kx : Nat → Mem → Option ρ) : Option ρ := match x with
  | none => none
  | some (0, v, M) => k v M
  | some (e + 1, _, M) => kx (e + 1) M
theorem CTW.of {l : Launch} (hst : l.stackTraces = false) {y : MethodName} {own : String} {cc : ByteArray} {maxL : Nat} {ret : Option FieldType} {hh : List (Nat × Nat × Nat × Nat)} {fr lc mc ms : Nat} {Γ : xG} {D : List LDen} {av : List Value} {M : Mem} {fo : Int32 → Option Value} {pr : Option TR} {lv0 : List (Nat × Value)}
    (hy : plainName y.cls = true) (ho : y.cls = own) (hlen : (lg_sl av).length ≤ maxL) (hlv : lv_args 0 av = lv0)
    (body : ∀ X : JX, XG X = Γ → XD X = D → XL X = l → nLof X = maxL → JC X cc own ret fr lc mc ms → JTW X hh → J X (ZT X fo mc ms) pr 0 lv0 [] M 0 0) (r : TR) (hr : pr = some r) : CT l y (wsW_ y cc maxL ret hh) fr lc mc ms Γ D av M fo r := by
  intro sz
  refine vx_ofWH (cc := cc) (maxL := maxL) (ret := ret) (hh := hh) hy rfl ?_
  intro p e s m args below meth c s₁ B hml hv
  obtain ⟨rfl, hsz, hW, hE, hG⟩ := hv
  have hts0 := atoms_spec (ws := wsW_ y cc maxL ret hh) B.pre
  have hts : ∀ w ∈ lw_all, w.before _ s = true := fun w h => hts0 w (List.mem_cons_of_mem _ h)
  have htab := vx_table (x := y) B (hts0 _ List.mem_cons_self)
  subst hsz
  have hl := lv_entry av (n := maxL) hlen
  rw [lg_entry_eq]
  rw [hlv] at hl
  exact body (p, l, e, (headSpec (wsW_ y cc maxL ret hh) { frames := fr, cells := mc, slots := ms, locals := lc }).room, s, m, av.toArray, below, meth, c, Γ, D, maxL) rfl rfl rfl rfl ⟨B.exec, B.bytes, hml, by rw [← ho]; exact findClass_of_methodNamed B.named, hts, hE, hG, rfl, B.returns, B.notSynchronized⟩ ⟨htab, hst⟩ r hr _ _ _ hW va_S.rf hl
section JHS
variable {ρ : Type} {X : JX} {Z : ρ → State → Prop} {pr A B : Option ρ} {en pc : Nat} {lv : List (Nat × Value)} {rest st : List Value} {M : Mem} {k n : Nat} {cc : ByteArray} {own : String} {ret : Option FieldType} {fr lc mc ms : Nat}
theorem jh_none : JH X Z (none : Option ρ) en pc lv rest M k n := by
  obtain ⟨p, l, e, R, s, m, args, below, meth, co, Γ, D, nL⟩ := X
  intro r hr
  cases hr
theorem jh_case {c : Nat} (h1 : JH X Z A c pc lv rest M k n) (h2 : JH X Z B en pc lv rest M k n) : JH X Z (if en = c then A else B) en pc lv rest M k n := by
  by_cases h : en = c
  · rw [if_pos h, h]; exact h1
  · rw [if_neg h]; exact h2
theorem cs_before {args : Array Value} {C T : String} {s : State} (h : va_Cs C T s) : (Cond.castable C T).before args s = true := by
  obtain ⟨c, t, h1, h2, h3⟩ := h
  simp [Cond.before, Cond.holds, Cond.value, h1, h2, h3]
/-- caught by the table's first row -/
theorem jh_catch {a b h ct : Nat} {hs : List (Nat × Nat × Nat × Nat)} (hC : JC X cc own ret fr lc mc ms) (hT : JTW X ((a, b, h, ct) :: hs)) (hen : en < 6) (hcov : a ≤ pc ∧ pc < b) (hct : ct ≠ 0) (hq : Cond.classLink own ct (exN en) ∈ lw_all) (hcs : (exN en, exN en) ∈ xcast) (kk : ∀ q : Nat, J X Z pr h lv [.ref q] M k n) : JH X Z pr en pc lv rest M k n := by
  obtain ⟨p, l, e, R, s, m, args, below, meth, co, Γ, D, nL⟩ := X
  intro r hr H locs ls q ce hW hS hl hce hcv hcl h6
  exact vx_catch hC.2.2.2.1 [] ⟨a, b, h, ct⟩ (tableOf hs) hT.1 (fun z hz => by cases hz) (by simp [covers, hcov.1, hcov.2]) hct (hC.2.2.2.2.1 _ hq) (cs_before (hC.2.2.2.2.2.1.2.1.1.1 _ hcs)) hce hcv hcl (kk q r hr H locs ls hW hS hl)
/-- caught by its second row -/
theorem jh_catch2 {a0 b0 h0 ct0 a b h ct : Nat} {nm0 : String} {hs : List (Nat × Nat × Nat × Nat)} (hC : JC X cc own ret fr lc mc ms) (hT : JTW X ((a0, b0, h0, ct0) :: (a, b, h, ct) :: hs)) (hen : en < 6) (hcov : a ≤ pc ∧ pc < b) (hct : ct ≠ 0) (hct0 : ct0 ≠ 0) (hq0 : Cond.classLink own ct0 nm0 ∈ lw_all) (hnc : (exN en, nm0) ∈ xncast) (hq : Cond.classLink own ct (exN en) ∈ lw_all) (hcs : (exN en, exN en) ∈ xcast) (kk : ∀ q : Nat, J X Z pr h lv [.ref q] M k n) : JH X Z pr en pc lv rest M k n := by
  obtain ⟨p, l, e, R, s, m, args, below, meth, co, Γ, D, nL⟩ := X
  intro r hr H locs ls q ce hW hS hl hce hcv hcl h6
  exact vx_catch hC.2.2.2.1 [⟨a0, b0, h0, ct0⟩] ⟨a, b, h, ct⟩ (tableOf hs) hT.1 (fun z hz => by
    rw [List.mem_singleton.mp hz]
    exact Or.inr ⟨hct0, nm0, hC.2.2.2.2.1 _ hq0, hC.2.2.2.2.2.1.2.1.1.2 _ hnc⟩) (by simp [covers, hcov.1, hcov.2]) hct (hC.2.2.2.2.1 _ hq) (cs_before (hC.2.2.2.2.2.1.2.1.1.1 _ hcs)) hce hcv hcl (kk q r hr H locs ls hW hS hl)
/-- the one Wrong, caught by the first row -/
theorem jh_catchW {a b h ct : Nat} {hs : List (Nat × Nat × Nat × Nat)} (hC : JC X cc own ret fr lc mc ms) (hT : JTW X ((a, b, h, ct) :: hs)) (hcov : a ≤ pc ∧ pc < b) (hct : ct ≠ 0) (hq : Cond.classLink own ct RX6 ∈ lw_all) (kk : J X Z pr h lv [.ref (gadr (XG X) (4, 0, 13))] M k n) : JH X Z pr 6 pc lv rest M k n := by
  obtain ⟨p, l, e, R, s, m, args, below, meth, co, Γ, D, nL⟩ := X
  intro r hr H locs ls q ce hW hS hl hce hcv hcl h6
  have hq6 := h6 (Nat.le_refl _)
  subst hq6
  exact vx_catch (E := RX6) hC.2.2.2.1 [] ⟨a, b, h, ct⟩ (tableOf hs) hT.1 (fun z hz => by cases hz) (by simp [covers, hcov.1, hcov.2]) hct (hC.2.2.2.2.1 _ hq) (cs_before (hC.2.2.2.2.2.1.2.1.1.1 (RX6, RX6) (by simp [xcast]))) hce hcv hcl (kk r hr H locs ls hW hS hl)
variable {y : MethodName} {bytes : ByteArray} {maxL fr' lc' mc' ms' idx : Nat} {retc : Option FieldType} {C : String} {cb : CId} {ci N : Nat} {T : u_T} {fo : Int32 → Option Value} {g : Option TR} {kont : Int32 → Mem → Option ρ} {kh : Nat → Mem → Option ρ}
/-- after a call that returned or threw -/
theorem j_afterX (hr9 : match X with | (p, l, e, R, s, m, args, below, meth, c, Γ, D, nL) => ∀ q, g = some q → ∀ (H : Heap) (locs : List Loc) (ls : Array Slot), Wd Γ M D H → va_S (AX Γ s.heap.size) s.heap H locs → lv_has ls nL lv → vx_Run p l e R s m args below meth c H locs k n mc' ms' (F0 m pc ls st) rest ((QcT Γ D fo q (AX Γ H.size)) args) (XcT Γ D q (AX Γ H.size)) (AX Γ H.size))
    (st2 : Int32 → List Value) (hs2 : ∀ v, (fo v).toList ++ rest = st2 v) (kk : ∀ v M1, J X Z (kont v M1) (pc + 3) lv (st2 v) M1 (k + mc') (n + ms')) (kx : ∀ e M1, JH X Z (kh (e + 1) M1) (e + 1) pc lv rest M1 (k + mc') (n + ms')) : J X Z (bh g kont kh) pc lv st M k n := by
  obtain ⟨p, l, e, R, s, m, args, below, meth, co, Γ, D, nL⟩ := X
  intro r hr H locs ls hW hS hl
  cases hg : g with
  | none => rw [hg] at hr; cases hr
  | some q =>
    rw [hg] at hr
    have run := hr9 q hg H locs ls hW hS hl
    intro T0 hT X0
    rcases run T0 hT X0 with ⟨v0, st₀, t, T', L, e0, X', hL, e1, e2, ⟨h0, hv, hWd, hF⟩, hgo⟩ | ⟨q9, st₀, t, T', L, E, ce, e0, X', hL, e1, e2, ⟨h0, hE, hq9, hWd, hF⟩, hce, hcv, hcl9, hgo⟩
    · obtain ⟨q0, v, M1⟩ := q
      have h0 : q0 = 0 := h0
      subst h0
      cases hv
      have hr : kont v M1 = some r := hr
      obtain ⟨-, -, k3⟩ := vx_keep e0 e1 hS (fun q _ h => AX_mono hS.1 q h) (fun q h => AX_mono hS.1 q h) hL hF
      have kk := kk v M1
      rw [← hs2] at kk
      obtain ⟨t2, a1, b1⟩ := kk r hr T'.heap (locs ++ L) ls (by rw [e1]; exact hWd) k3 hl T' rfl X'
      exact ⟨t2, hgo t2 a1, b1⟩
    · obtain ⟨q0, v, M1⟩ := q
      cases q0 with
      | zero => exact absurd rfl h0
      | succ q0 =>
        have hr : kh (q0 + 1) M1 = some r := hr
        obtain ⟨-, -, k3⟩ := vx_keep e0 e1 hS (fun q _ h => AX_mono hS.1 q h) (fun q h => AX_mono hS.1 q h) hL hF
        obtain ⟨t2, a1, b1⟩ := kx q0 M1 r hr T'.heap (locs ++ L) ls q9 ce (by rw [e1]; exact hWd) k3 hl (by rw [e1]; exact hce) hcv (by rw [← hE]; exact hcl9) hq9 T' rfl X'
        exact ⟨t2, hgo.trans a1, b1⟩
theorem j_callVH (hC : JC X cc own ret fr lc mc ms) (As : List Value) {nA : Nat} (hnA : As.length = nA) (hM : ∀ r, g = some r → CT (XL X) y (ws_ y bytes maxL retc) fr' lc' mc' ms' (XG X) (XD X) (.ref (gadr (XG X) cb) :: As) M fo r)
    (h1 : Cond.methodLink own idx y ∈ lw_all) (h2 : Cond.instanceMethod y ∈ lw_all) (h3 : Cond.selects C y y ∈ lw_all) (h4 : Cond.initialized C ∈ lw_all) (h5 : Cond.code y bytes maxL retc ∈ lw_all)
    (hdm : gdm (XG X) cb = true) (hkd : kd cb = .inl ci) (hcl : xcl[ci]? = some (C, T, N))
    (hdesc : y.cls = C ∧ y.cls ≠ "java/lang/invoke/MethodHandle" ∧ y.cls ≠ "java/lang/invoke/VarHandle" ∧ (parseMethodDescriptor y.desc).map (fun d => d.parameters.length) = some nA)
    (hfr : Nat.ble (fr' + 1) fr = true) (hlc : Nat.ble (8 + (maxL + 11) + lc') lc = true) (hst : st = As.reverse ++ .ref (gadr (XG X) cb) :: rest) (hrm : Nat.ble ((rest.map fun v => v.category).sum) 8 = true) (hk : Nat.ble (k + mc') mc = true) (hn : Nat.ble (n + ms') ms = true)
    (hd : decode cc pc = .ok (.invokevirtual idx, 3)) (st2 : Int32 → List Value) (hs2 : ∀ v, (fo v).toList ++ rest = st2 v) (kk : ∀ v M1, J X Z (kont v M1) (pc + 3) lv (st2 v) M1 (k + mc') (n + ms')) (kx : ∀ e M1, JH X Z (kh (e + 1) M1) (e + 1) pc lv rest M1 (k + mc') (n + ms')) : J X Z (bh g kont kh) pc lv st M k n := by
  refine j_afterX ?_ st2 hs2 kk kx
  obtain ⟨p, l, e, R, s, m, args, below, meth, co, Γ, D, nL⟩ := X
  subst hst
  intro q hg H locs ls hW hS hl
  have hR := hC.2.2.2.2.2.2.2.1
  exact vx_runV (l := l) (R := R) (e := e) (below := below) (meth := meth) (rest := rest) (As := As) (g := F0 m pc ls (As.reverse ++ .ref (gadr Γ cb) :: rest)) (locs := locs) (cells := k) (slots := n) ⟨hC.1, hC.2.1, hC.2.2.1, hC.2.2.2.1, hC.2.2.2.2.1⟩ (hM q hg H.size) (cwV nA hC.2.2.2.2.1 (lw_V h1 h2 h3 h4 h5) rfl rfl rfl hdesc ⟨by rw [hR]; exact Nat.le_of_ble_eq_true hfr, by rw [hR]; exact Nat.le_of_ble_eq_true hlc⟩)
      ⟨Pre.blind, jrecv hC.2.2.2.2.2.1.1 hW hdm hkd hcl, fun U hU hWm => ⟨rfl, by rw [hU], by rw [hU]; exact hW, hC.2.2.2.2.2.1.pass hS hU hWm, hC.2.2.2.2.2.2.1⟩⟩ rfl hnA hl.1 rfl (lv_room (Nat.le_of_ble_eq_true hrm)) hd ⟨by rw [hR]; exact Nat.le_of_ble_eq_true hk, by rw [hR]; exact Nat.le_of_ble_eq_true hn⟩
/-- .. of a method with a table of its own -/
theorem j_callVHW {hh : List (Nat × Nat × Nat × Nat)} (hC : JC X cc own ret fr lc mc ms) (As : List Value) {nA : Nat} (hnA : As.length = nA) (hM : ∀ r, g = some r → CT (XL X) y (wsW_ y bytes maxL retc hh) fr' lc' mc' ms' (XG X) (XD X) (.ref (gadr (XG X) cb) :: As) M fo r)
    (h1 : Cond.methodLink own idx y ∈ lw_all) (h2 : Cond.instanceMethod y ∈ lw_all) (h3 : Cond.selects C y y ∈ lw_all) (h4 : Cond.initialized C ∈ lw_all) (h5 : Cond.codeWith y bytes maxL retc hh ∈ lw_all)
    (hdm : gdm (XG X) cb = true) (hkd : kd cb = .inl ci) (hcl : xcl[ci]? = some (C, T, N))
    (hdesc : y.cls = C ∧ y.cls ≠ "java/lang/invoke/MethodHandle" ∧ y.cls ≠ "java/lang/invoke/VarHandle" ∧ (parseMethodDescriptor y.desc).map (fun d => d.parameters.length) = some nA)
    (hfr : Nat.ble (fr' + 1) fr = true) (hlc : Nat.ble (8 + (maxL + 11) + lc') lc = true) (hst : st = As.reverse ++ .ref (gadr (XG X) cb) :: rest) (hrm : Nat.ble ((rest.map fun v => v.category).sum) 8 = true) (hk : Nat.ble (k + mc') mc = true) (hn : Nat.ble (n + ms') ms = true)
    (hd : decode cc pc = .ok (.invokevirtual idx, 3)) (st2 : Int32 → List Value) (hs2 : ∀ v, (fo v).toList ++ rest = st2 v) (kk : ∀ v M1, J X Z (kont v M1) (pc + 3) lv (st2 v) M1 (k + mc') (n + ms')) (kx : ∀ e M1, JH X Z (kh (e + 1) M1) (e + 1) pc lv rest M1 (k + mc') (n + ms')) : J X Z (bh g kont kh) pc lv st M k n := by
  refine j_afterX ?_ st2 hs2 kk kx
  obtain ⟨p, l, e, R, s, m, args, below, meth, co, Γ, D, nL⟩ := X
  subst hst
  intro q hg H locs ls hW hS hl
  have hR := hC.2.2.2.2.2.2.2.1
  exact vx_runVX (l := l) (R := R) (e := e) (below := below) (meth := meth) (rest := rest) (As := As) (g := F0 m pc ls (As.reverse ++ .ref (gadr Γ cb) :: rest)) (locs := locs) (cells := k) (slots := n) ⟨hC.1, hC.2.1, hC.2.2.1, hC.2.2.2.1, hC.2.2.2.2.1⟩ (hM q hg H.size) (vx_cwVW nA hC.2.2.2.2.1 (lw_VW h1 h2 h3 h4 h5) rfl rfl rfl hdesc ⟨by rw [hR]; exact Nat.le_of_ble_eq_true hfr, by rw [hR]; exact Nat.le_of_ble_eq_true hlc⟩)
      ⟨Pre.blind, jrecv hC.2.2.2.2.2.1.1 hW hdm hkd hcl, fun U hU hWm => ⟨rfl, by rw [hU], by rw [hU]; exact hW, hC.2.2.2.2.2.1.pass hS hU hWm, hC.2.2.2.2.2.2.1⟩⟩ rfl hnA hl.1 rfl (lv_room (Nat.le_of_ble_eq_true hrm)) hd ⟨by rw [hR]; exact Nat.le_of_ble_eq_true hk, by rw [hR]; exact Nat.le_of_ble_eq_true hn⟩
/-- thrown on, past rows that don't cover -/
theorem jh_out {X : JX} {fc : Int32 → Option Value} {en pc : Nat} {lv : List (Nat × Value)} {rest : List Value} {M : Mem} {k n : Nat} {cc : ByteArray} {own : String} {ret : Option FieldType} {fr lc mc ms : Nat} {hh : List (Nat × Nat × Nat × Nat)} {v : Int32} (hC : JC X cc own ret fr lc mc ms) (hT : JTW X hh) (hne : en ≠ 0) (hcov : ∀ q ∈ hh, pc < q.1 ∨ q.2.1 ≤ pc) (hk : Nat.ble k mc = true) (hn : Nat.ble n ms = true) : JH X (ZT X fc mc ms) (some (en, v, M)) en pc lv rest M k n := by
  obtain ⟨p, l, e, R, s, m, args, below, meth, co, Γ, D, nL⟩ := X
  intro r hr H locs ls q ce hW hS hl hce hcv hcl h6
  cases hr
  refine vx_out (E := exN en) (fun x hx => ?_) hC.2.2.2.2.2.2.2.2.2 hce hcv hcl (fun t ht _ => ⟨hne, rfl, h6, by rw [ht]; exact hW, hS.F ht⟩) hS.2.2 (Nat.le_of_ble_eq_true hk) (Nat.le_of_ble_eq_true hn)
  rw [hT.1] at hx
  obtain ⟨q, hq, rfl⟩ := List.mem_map.mp hx
  have := hcov q hq
  simp [covers]
  omega
end JHS
theorem bx_bh (g : Option TR) (k : Int32 → Mem → Option TR) : bx g k = bh g k (fun e M => match g with | some (_, v, _) => some (e, v, M) | none => none) := by
  cases g with
  | none => rfl
  | some q =>
    obtain ⟨e, v, M⟩ := q
    cases e <;> rfl
