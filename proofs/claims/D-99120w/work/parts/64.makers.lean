set_option maxRecDepth 100000
/-! methods that make objects: what they answer lies beside the world -/
/-- what is thrown (0: nothing), what is answered, how many cells were made, the memory -/
abbrev PR (α : Type) : Type := Nat × α × Nat × Mem
def tick {α : Type} (c : Nat) (x : Option (PR α)) : Option (PR α) := match x with
  | none => none
  | some r => some (r.1, r.2.1, c + r.2.2.1, r.2.2.2)
/-- a call of a method that makes objects -/
def bm {α β : Type} (d : α) (x : Option (PR β)) (k : β → Mem → Option (PR α)) : Option (PR α) := match x with
  | none => none
  | some (0, v, c, M) => tick c (k v M)
  | some (e + 1, _, c, M) => some (e + 1, d, c, M)
/-- a call of one that makes none but may throw -/
def bX {α : Type} (d : α) (x : Option TR) (k : Int32 → Mem → Option (PR α)) : Option (PR α) := bh x k (fun e M => some (e, d, 0, M))
/-- no more cells than m -/
def lm {α : Type} (m : Nat) (x : Option (PR α)) : Option (PR α) := match x with
  | none => none
  | some r => if r.2.2.1 ≤ m then some r else none
theorem lm_self {α : Type} {x : Option (PR α)} {r : PR α} (h : x = some r) : lm r.2.2.1 x = some r := by
  subst h
  simp [lm]
theorem lm_bd {α : Type} {m : Nat} {g : Option (Int32 × Mem)} {k : Int32 → Mem → Option (PR α)} : lm m (bd g k) = bd g (fun v M => lm m (k v M)) := by
  cases g <;> rfl
theorem lm_bX {α : Type} {m : Nat} {d : α} {g : Option TR} {k : Int32 → Mem → Option (PR α)} : lm m (bX d g k) = bh g (fun v M => lm m (k v M)) (fun e M => some (e, d, 0, M)) := by
  rcases g with _ | ⟨_ | e, v, M⟩
  · rfl
  · rfl
  · simp [bX, bh, lm]
theorem lm_ite {α : Type} {m : Nat} {c : Prop} [Decidable c] {x y : Option (PR α)} : lm m (if c then x else y) = if c then lm m x else lm m y := by
  by_cases h : c
  · rw [if_pos h, if_pos h]
  · rw [if_neg h, if_neg h]
theorem lm_gd {α : Type} {m : Nat} {i : Int32} {n : Nat} {x : Option (PR α)} : lm m (gd i n x) = gd i n (lm m x) := by
  unfold gd
  rw [lm_ite]
  rfl
theorem lm_lt {α β : Type} {m : Nat} {a : β} {k : β → Option (PR α)} : lm m (lt a k) = lt a (fun v => lm m (k v)) := rfl
theorem lm_some {α : Type} {m e : Nat} {v : α} {M : Mem} : lm m (some (e, v, 0, M)) = some (e, v, 0, M) := by simp [lm]
/-- such a method's ends -/
def QM {α : Type} (Γ : xG) (D : List LDen) (Sem : Nat → α → va_W → Prop) (r : PR α) (sz : Nat) (A : Nat → Prop) : Array Value → State → Outcome → State → Prop := fun _ st o t => r.1 = 0 ∧ ∃ (q : Nat) (N : va_W), o = .returned (some (.ref q)) ∧ Sem q r.2.1 N ∧ (∀ z ∈ N, sz ≤ z.1) ∧ Wd (gwP (N ++ gP Γ) Γ) r.2.2.2 D t.heap ∧ va_F A st t
def XM {α : Type} (Γ : xG) (D : List LDen) (r : PR α) (A : Nat → Prop) : String → Addr → State → State → Prop := fun E q st t => r.1 ≠ 0 ∧ E = exN r.1 ∧ (6 ≤ r.1 → q = gadr Γ (4, 0, 13)) ∧ Wd Γ r.2.2.2 D t.heap ∧ va_F A st t
def CM {α : Type} (l : Launch) (y : MethodName) (ws : List Cond) (fr lc : Nat) (Γ : xG) (D : List LDen) (av : List Value) (M : Mem) (Sem : Nat → α → va_W → Prop) (r : PR α) : Prop := ∀ sz : Nat, vx_Met l y ws { frames := fr, cells := r.2.2.1, slots := 8 * r.2.2.1, locals := lc } (Pre Γ D M sz av) (QM Γ D Sem r sz (AX Γ sz)) (XM Γ D r (AX Γ sz)) r.2.2.1 (8 * r.2.2.1) (AX Γ sz)
def ZM {α : Type} (X : JX) (Sem : Nat → α → va_W → Prop) (mc ms : Nat) : PR α → State → Prop :=
  match X with
  | (p, l, e, R, s, m, args, below, meth, c, Γ, D, nL) => fun r => vx_MQ below (QM Γ D Sem r s.heap.size (AX Γ s.heap.size)) (XM Γ D r (AX Γ s.heap.size)) args s mc ms (AX Γ s.heap.size)
theorem ZM_tick {α : Type} {X : JX} {Sem : Nat → α → va_W → Prop} {mc ms c : Nat} {r : PR α} : ZM X Sem mc ms (r.1, r.2.1, c + r.2.2.1, r.2.2.2) = ZM X Sem mc ms r := by
  obtain ⟨p, l, e, R, s, m, args, below, meth, co, Γ, D, nL⟩ := X
  rfl
theorem CM.of {α : Type} {l : Launch} (hst : l.stackTraces = false) {y : MethodName} {own : String} {cc : ByteArray} {maxL : Nat} {ret : Option FieldType} {fr lc : Nat} {Γ : xG} {D : List LDen} {av : List Value} {M : Mem} {Sem : Nat → α → va_W → Prop} {pr : Option (PR α)} {lv0 : List (Nat × Value)}
    (hy : plainName y.cls = true) (ho : y.cls = own) (hlen : (lg_sl av).length ≤ maxL) (hlv : lv_args 0 av = lv0) (r : PR α) (hr : pr = some r)
    (body : ∀ X : JX, XG X = Γ → XD X = D → XL X = l → nLof X = maxL → JC X cc own ret fr lc r.2.2.1 (8 * r.2.2.1) → JT X → J X (ZM X Sem r.2.2.1 (8 * r.2.2.1)) (lm r.2.2.1 pr) 0 lv0 [] M 0 0) : CM l y (ws_ y cc maxL ret) fr lc Γ D av M Sem r := by
  intro sz
  refine vx_ofW (cc := cc) (maxL := maxL) (ret := ret) hy rfl ?_
  intro p e s m args below meth c s₁ B hml htab hv
  obtain ⟨rfl, hsz, hW, hE, hG⟩ := hv
  have hts := atoms_spec (ws := ws_ y cc maxL ret) B.pre
  have hts : ∀ w ∈ lw_all, w.before _ s = true := fun w h => hts w (List.mem_cons_of_mem _ h)
  subst hsz
  have hl := lv_entry av (n := maxL) hlen
  rw [lg_entry_eq]
  rw [hlv] at hl
  exact body (p, l, e, (headSpec (ws_ y cc maxL ret) { frames := fr, cells := r.2.2.1, slots := 8 * r.2.2.1, locals := lc }).room, s, m, av.toArray, below, meth, c, Γ, D, maxL) rfl rfl rfl rfl ⟨B.exec, B.bytes, hml, by rw [← ho]; exact findClass_of_methodNamed B.named, hts, hE, hG, rfl, B.returns, B.notSynchronized⟩ ⟨htab, hst⟩ r (lm_self hr) _ _ _ hW va_S.rf hl
section
variable {α β : Type} {X : JX} {pc en : Nat} {lv : List (Nat × Value)} {rest st : List Value} {M : Mem} {k n m : Nat} {cc : ByteArray} {own : String} {ret : Option FieldType} {fr lc mc ms mc0 ms0 : Nat} {Y : JX} {Sem : Nat → α → va_W → Prop} {pr : Option (PR α)}
theorem jm_tickG {Z : PR α → State → Prop} (hZ : ∀ (r : PR α) (c : Nat), Z (r.1, r.2.1, c + r.2.2.1, r.2.2.2) = Z r) {c : Nat} (kk : c ≤ m → J Y Z (lm (m - c) pr) pc lv st M k n) : J Y Z (lm m (tick c pr)) pc lv st M k n := by
  obtain ⟨p, l, e, R, s, m', args, below, meth, co, Γ, D, nL⟩ := Y
  intro r hr
  cases pr with
  | none => cases hr
  | some q =>
    have hr : (if c + q.2.2.1 ≤ m then some (q.1, q.2.1, c + q.2.2.1, q.2.2.2) else none) = some r := hr
    by_cases h9 : c + q.2.2.1 ≤ m
    · rw [if_pos h9] at hr
      cases hr
      rw [hZ]
      exact kk (by omega) q (by show (if q.2.2.1 ≤ m - c then some q else none) = some q; rw [if_pos (by omega)])
    · rw [if_neg h9] at hr; cases hr
theorem jm_tick {c : Nat} (kk : c ≤ m → J Y (ZM X Sem mc ms) (lm (m - c) pr) pc lv st M k n) : J Y (ZM X Sem mc ms) (lm m (tick c pr)) pc lv st M k n := jm_tickG (fun _ _ => ZM_tick) kk
/-- an answer: the object at q, N its objects -/
theorem jm_aret {cn : String} {P : va_W} (hC : JC X cc own (some (.object cn)) fr lc mc0 ms0) {v : α} {c q : Nat} {N : va_W} (hP : P = N ++ gP (XG X)) (hS : Sem q v N) (hN : ∀ z ∈ N, (XS X).heap.size ≤ z.1) (hk : k ≤ mc) (hn : n ≤ ms) (hd : decode cc pc = .ok (.areturn, 1)) : J (xwP P X) (ZM X Sem mc ms) (some (0, v, c, M)) pc lv [.ref q] M k n := by
  obtain ⟨p, l, e, R, s, m, args, below, meth, co, Γ, D, nL⟩ := X
  subst hP
  intro r hr H locs ls hW hS9 hl
  cases hr
  exact W.widen hk hn (vx_ret (W.aret hC.1 hC.2.1 hC.2.2.2.2.2.2.2.2.1 (Or.inl ⟨_, rfl⟩) (Or.inr ⟨_, rfl⟩) (fun t ht _ => ⟨rfl, q, N, rfl, hS, hN, by rw [ht]; exact hW, hS9.F ht⟩) hS9.2.2 hd hC.2.2.2.2.2.2.2.2.2))
/-- thrown on: what was made is forgotten -/
theorem jhm_out {P : va_W} (hC : JC X cc own ret fr lc mc0 ms0) (hT : JT X) {v : α} {c : Nat} (hP : ∀ z ∈ gP (XG X), z ∈ P) (hne : en ≠ 0) (hk : k ≤ mc) (hn : n ≤ ms) : JH (xwP P X) (ZM X Sem mc ms) (some (en, v, c, M)) en pc lv rest M k n := by
  obtain ⟨p, l, e, R, s, m, args, below, meth, co, ⟨g1, g2, g3, g4, g5, g6, g7⟩, D, nL⟩ := X
  intro r hr H locs ls q ce hW hS hl hce hcv hcl h6
  cases hr
  refine vx_out (E := exN en) (fun x hx => (hT.1 x hx).elim) hC.2.2.2.2.2.2.2.2.2 hce hcv hcl (fun t ht _ => ⟨hne, rfl, h6, ?_, hS.F ht⟩) hS.2.2 hk hn
  rw [ht]
  exact Wd.drop (Γ := (g1, g2, g3, g4, g5, g6, g7)) (P' := g7) hW hP
variable {y : MethodName} {bytes : ByteArray} {maxL fr' lc' idx : Nat} {retc : Option FieldType} {C : String} {cb : CId} {ci N0 : Nat} {T : u_T} {g : Option (PR β)} {kont : β → Mem → Option (PR α)} {SemB : Nat → β → va_W → Prop} {d : α}
/-- a call of a method that makes objects -/
theorem jm_callG {Z : PR α → State → Prop} (hZ : ∀ (r : PR α) (c : Nat), Z (r.1, r.2.1, c + r.2.2.1, r.2.2.2) = Z r) {P : va_W} (hC : JC X cc own ret fr lc mc0 ms0) (As : List Value) {nA : Nat} (hnA : As.length = nA) (hM : ∀ r, g = some r → CM (XL X) y (ws_ y bytes maxL retc) fr' lc' (gwP P (XG X)) (XD X) (.ref (gadr (XG X) cb) :: As) M SemB r)
    (h1 : Cond.methodLink own idx y ∈ lw_all) (h2 : Cond.instanceMethod y ∈ lw_all) (h3 : Cond.selects C y y ∈ lw_all) (h4 : Cond.initialized C ∈ lw_all) (h5 : Cond.code y bytes maxL retc ∈ lw_all)
    (hdm : gdm (XG X) cb = true) (hkd : kd cb = .inl ci) (hcl : xcl[ci]? = some (C, T, N0))
    (hdesc : y.cls = C ∧ y.cls ≠ "java/lang/invoke/MethodHandle" ∧ y.cls ≠ "java/lang/invoke/VarHandle" ∧ (parseMethodDescriptor y.desc).map (fun d => d.parameters.length) = some nA)
    (hfr : fr' + 1 ≤ fr) (hlc : 8 + (maxL + 11) + lc' ≤ lc) (hst : st = As.reverse ++ .ref (gadr (XG X) cb) :: rest) (hrm : Nat.ble ((rest.map fun v => v.category).sum) 8 = true) (hk : k + m ≤ mc0) (hn : n + 8 * m ≤ ms0)
    (hd : decode cc pc = .ok (.invokevirtual idx, 3)) (kx : ∀ (e c : Nat) (M1 : Mem), c ≤ m → JH (xwP P X) Z (some (e + 1, d, c, M1)) (e + 1) pc lv rest M1 (k + c) (n + 8 * c))
    (kk : ∀ (q : Nat) (v : β) (N : va_W) (c : Nat) (M1 : Mem), SemB q v N → (∀ z ∈ N, (XS X).heap.size ≤ z.1 ∧ ∀ w ∈ P, z.1 ≠ w.1) → c ≤ m → J (xwP (N ++ P) X) Z (lm (m - c) (kont v M1)) (pc + 3) lv (.ref q :: rest) M1 (k + c) (n + 8 * c)) : J (xwP P X) Z (lm m (bm d g kont)) pc lv st M k n := by
  obtain ⟨p, l, e, R, s, m', args, below, meth, co, Γ, D, nL⟩ := X
  subst hst
  intro r hr H locs ls hW hS hl
  cases hg : g with
  | none => rw [hg] at hr; cases hr
  | some q =>
    rw [hg] at hr
    obtain ⟨q0, v, c, M1⟩ := q
    have hcm : c ≤ m := by
      cases q0 with
      | zero =>
        have hr : lm m (tick c (kont v M1)) = some r := hr
        cases h9 : kont v M1 with
        | none => rw [h9] at hr; cases hr
        | some q9 =>
          rw [h9] at hr
          have hr : (if c + q9.2.2.1 ≤ m then some (q9.1, q9.2.1, c + q9.2.2.1, q9.2.2.2) else none) = some r := hr
          by_cases h8 : c + q9.2.2.1 ≤ m
          · omega
          · rw [if_neg h8] at hr; cases hr
      | succ e9 =>
        have hr : (if c ≤ m then some (e9 + 1, d, c, M1) else none) = some r := hr
        by_cases h8 : c ≤ m
        · exact h8
        · rw [if_neg h8] at hr; cases hr
    have hR := hC.2.2.2.2.2.2.2.1
    have hk' : k + c ≤ mc0 := by omega
    have hn' : n + 8 * c ≤ ms0 := by omega
    have hWd : ∀ z ∈ P, z.1 < H.size := by
      obtain ⟨aL, -, -, h3⟩ := Wd_gw.mp hW
      exact fun z hz => va_at_lt (h3 z hz).2
    have run := vx_runV (l := l) (R := R) (e := e) (below := below) (meth := meth) (rest := rest) (As := As) (g := F0 m' pc ls (As.reverse ++ .ref (gadr Γ cb) :: rest)) (locs := locs) (cells := k) (slots := n) ⟨hC.1, hC.2.1, hC.2.2.1, hC.2.2.2.1, hC.2.2.2.2.1⟩ (hM _ hg H.size) (cwV nA hC.2.2.2.2.1 (lw_V h1 h2 h3 h4 h5) rfl rfl rfl hdesc ⟨by rw [hR]; exact hfr, by rw [hR]; exact hlc⟩)
      ⟨Pre.blind, jrecv (Γ := gwP P Γ) hC.2.2.2.2.2.1.1 hW hdm hkd hcl, fun U hU hWm => ⟨rfl, by rw [hU], by rw [hU]; exact hW, (JC.xw P hC).2.2.2.2.2.1.pass hS hU hWm, hC.2.2.2.2.2.2.1⟩⟩ rfl hnA hl.1 rfl (lv_room (Nat.le_of_ble_eq_true hrm)) hd ⟨by rw [hR]; exact hk', by rw [hR]; exact hn'⟩
    intro T0 hT0 X0
    rcases run T0 hT0 X0 with ⟨v0, st₀, t, T', L, e0, X', hL, e1, e2, ⟨h0, q, N, hv, hSem, hN, hWd1, hF⟩, hgo⟩ | ⟨q9, st₀, t, T', L, E, ce, e0, X', hL, e1, e2, ⟨h0, hE, hq9, hWd1, hF⟩, hce, hcv, hcl9, hgo⟩
    · have h0 : q0 = 0 := h0
      subst h0
      cases hv
      have hr : lm m (tick c (kont v M1)) = some r := hr
      obtain ⟨-, -, k3⟩ := vx_keep e0 e1 hS (fun q _ h => AX_mono hS.1 q h) (fun q h => AX_mono hS.1 q h) hL hF
      have kk := kk q v N c M1 hSem (fun z hz => ⟨Nat.le_trans hS.1 (hN z hz), fun w hw => by have := hWd w hw; have := hN z hz; omega⟩) hcm
      have kt := jm_tickG hZ (fun _ => kk)
      obtain ⟨t2, a1, b1⟩ := kt r hr T'.heap (locs ++ L) ls (by rw [e1]; exact hWd1) k3 hl T' rfl X'
      exact ⟨t2, hgo t2 a1, b1⟩
    · cases q0 with
      | zero => exact absurd rfl h0
      | succ q0 =>
        have hr : lm m (some (q0 + 1, d, c, M1)) = some r := hr
        obtain ⟨-, -, k3⟩ := vx_keep e0 e1 hS (fun q _ h => AX_mono hS.1 q h) (fun q h => AX_mono hS.1 q h) hL hF
        have hr : (if c ≤ m then some (q0 + 1, d, c, M1) else none) = some r := hr
        rw [if_pos hcm] at hr
        have out := kx q0 c M1 hcm
        obtain ⟨t2, a1, b1⟩ := out r hr T'.heap (locs ++ L) ls q9 ce (by rw [e1]; exact hWd1) k3 hl (by rw [e1]; exact hce) hcv (by rw [← hE]; exact hcl9) hq9 T' rfl X'
        exact ⟨t2, hgo.trans a1, b1⟩
theorem jm_call {P : va_W} (hC : JC X cc own ret fr lc mc0 ms0) (hT : JT X) (As : List Value) {nA : Nat} (hnA : As.length = nA) (hP0 : ∀ z ∈ gP (XG X), z ∈ P) (hM : ∀ r, g = some r → CM (XL X) y (ws_ y bytes maxL retc) fr' lc' (gwP P (XG X)) (XD X) (.ref (gadr (XG X) cb) :: As) M SemB r)
    (h1 : Cond.methodLink own idx y ∈ lw_all) (h2 : Cond.instanceMethod y ∈ lw_all) (h3 : Cond.selects C y y ∈ lw_all) (h4 : Cond.initialized C ∈ lw_all) (h5 : Cond.code y bytes maxL retc ∈ lw_all)
    (hdm : gdm (XG X) cb = true) (hkd : kd cb = .inl ci) (hcl : xcl[ci]? = some (C, T, N0))
    (hdesc : y.cls = C ∧ y.cls ≠ "java/lang/invoke/MethodHandle" ∧ y.cls ≠ "java/lang/invoke/VarHandle" ∧ (parseMethodDescriptor y.desc).map (fun d => d.parameters.length) = some nA)
    (hfr : fr' + 1 ≤ fr) (hlc : 8 + (maxL + 11) + lc' ≤ lc) (hst : st = As.reverse ++ .ref (gadr (XG X) cb) :: rest) (hrm : Nat.ble ((rest.map fun v => v.category).sum) 8 = true) (hk : k + m ≤ mc0) (hn : n + 8 * m ≤ ms0) (hmc : mc0 ≤ mc) (hms : ms0 ≤ ms)
    (hd : decode cc pc = .ok (.invokevirtual idx, 3))
    (kk : ∀ (q : Nat) (v : β) (N : va_W) (c : Nat) (M1 : Mem), SemB q v N → (∀ z ∈ N, (XS X).heap.size ≤ z.1 ∧ ∀ w ∈ P, z.1 ≠ w.1) → c ≤ m → J (xwP (N ++ P) X) (ZM X Sem mc ms) (lm (m - c) (kont v M1)) (pc + 3) lv (.ref q :: rest) M1 (k + c) (n + 8 * c)) : J (xwP P X) (ZM X Sem mc ms) (lm m (bm d g kont)) pc lv st M k n :=
  jm_callG (fun _ _ => ZM_tick) hC As hnA hM h1 h2 h3 h4 h5 hdm hkd hcl hdesc hfr hlc hst hrm hk hn hd (fun e c M1 hc => jhm_out hC hT hP0 (by omega) (by omega) (by omega)) kk
end
section
variable {ρ : Type} {X : JX} {Z : ρ → State → Prop} {pr : Option ρ} {pc : Nat} {lv : List (Nat × Value)} {rest st : List Value} {M : Mem} {k n : Nat} {cc : ByteArray} {own : String} {ret : Option FieldType} {fr lc mc ms : Nat}
theorem jm_widen {k' n' : Nat} (h1 : k ≤ k') (h2 : n ≤ n') (kk : J X Z pr pc lv st M k' n') : J X Z pr pc lv st M k n := by
  obtain ⟨p, l, e, R, s, m, args, below, meth, co, Γ, D, nL⟩ := X
  intro r hr H locs ls hW hS hl
  exact W.widen h1 h2 (kk r hr H locs ls hW hS hl)
theorem j_lm {α : Type} {Z : PR α → State → Prop} {x y : Option (PR α)} {m : Nat} (h : lm m x = y) (kk : J X Z y pc lv st M k n) : J X Z (lm m x) pc lv st M k n := by
  rw [h]; exact kk
/-- Sum's constructor, and its two cells into the world -/
theorem j_sumNew (hC : JC X cc own ret fr lc mc ms) {P : va_W} {a : Nat} (hP : gP (XG X) = (a, .inr (10, [.null, .int 0])) :: P) (hnd : ∀ z ∈ P, z.1 ≠ a) (ha : (XS X).heap.size ≤ a) (h80 : gdm (XG X) (8, 0, 0) = false) (h81 : gdm (XG X) (8, 0, 1) = false) {idx : Nat} {host : String}
    (h1 : Cond.methodLinkNest own idx yX11_init host ∈ lw_tbl) (h2 : Cond.instanceMethod yX11_init ∈ lw_all) (h4 : Cond.initialized yX11_init.cls ∈ lw_all) (h5 : Cond.code yX11_init cX11_init 1 none ∈ lw_all)
    (hfr : Nat.ble 2 fr = true) (hlc : Nat.ble (8 + (1 + 11) + 12) lc = true) (hst : st = .ref a :: rest) (hrm : Nat.ble ((rest.map fun v => v.category).sum) 8 = true) (hk : k + 1 ≤ mc) (hn : n + 6 ≤ ms)
    (hd : decode cc pc = .ok (.invokespecial idx, 3)) (kk : ∀ b : Nat, OpS X a b → J (xS a b P X) Z pr (pc + 3) lv rest (mS 0 (fun _ => 0) M) (k + 1) (n + 6)) : J X Z pr pc lv st M k n := by
  obtain ⟨p, l, e, R, s, m, args, below, meth, co, ⟨g1, g2, g3, g4, g5, g6, g7⟩, D, nL⟩ := X
  have hP : g7 = (a, .inr (10, [.null, .int 0])) :: P := hP
  subst hP
  subst hst
  intro r hr H locs ls hW hS hl
  have hW : Wd (gwP ((a, .inr (10, [.null, .int 0])) :: P) (g1, g2, g3, g4, g5, g6, [])) M D H := hW
  have hR := hC.2.2.2.2.2.2.2.1
  have hts := hC.2.2.2.2.1
  have hK := hC.2.2.2.2.2.1.1
  obtain ⟨aL, h7, -, h3⟩ := Wd_gw.mp hW
  have hat := h3 (a, .inr (10, [.null, .int 0])) List.mem_cons_self
  have hPa : va_P (g1, g2) xcl [(a, .inr (10, [.null, .int 0]))] H := fun i q hi => by
    cases i with
    | zero => cases hi; exact hat.2
    | succ i => cases hi
  have run := va_runIN (l := l) (R := R) (e := e) (below := below) (meth := meth) (g := F0 m pc ls (.ref a :: rest)) (locs := locs) (cells := k) (slots := n) (As := []) (rest := rest) ⟨hC.1, hC.2.1, hC.2.2.1, hC.2.2.2.1, hts⟩ (iX11 l (g1, g2, g3, g4, g5, g6, []) a H.size) ⟨va_cnB 0 hts (lw_meth h5) rfl rfl rfl (hC.2.2.2.2.2.1.2.1.2.1 _ h1 rfl) (hts _ h4) (by decide +kernel) ⟨by rw [hR]; exact Nat.le_of_ble_eq_true hfr, by rw [hR]; exact Nat.le_of_ble_eq_true hlc⟩, rfl, hts _ h2⟩ ⟨PI.blind, fun U hU hWm => ⟨rfl, by rw [hU], by rw [hU]; exact hPa, va_K.moved hWm.alike hK⟩⟩ rfl rfl hl.1 rfl (lv_room (Nat.le_of_ble_eq_true hrm)) hd ⟨by rw [hR]; exact hk, by rw [hR]; exact hn⟩
  intro T0 hT X0
  obtain ⟨v0, st₀, t, T', L, e0, X', hL, e1, e2, ⟨hv, ⟨b, hb1, hb2, hPb⟩, hF⟩, hgo⟩ := run T0 hT X0
  cases hv
  obtain ⟨k1, k2, k3⟩ := vx_keep (A0 := AX (g1, g2, g3, g4, g5, g6, (a, .inr (10, [.null, .int 0])) :: P) s.heap.size) e0 e1 hS (fun q _ h => h.elim (fun z => by rw [z]; exact Or.inr ha) (fun z => Or.inr (Nat.le_trans hS.1 z))) (fun q h => h.elim (fun z => by rw [z]; exact Or.inr ha) (fun z => Or.inr (Nat.le_trans hS.1 z))) hL hF
  have hPb : va_P (g1, g2) xcl [(a, .inr (10, [.ref b, .int 0])), (b, .inl (g3 0, 6, .inl fun _ => 0))] T'.heap := by rw [e1]; exact hPb
  have hlt : ∀ z ∈ P, z.1 < H.size := fun z hz => va_at_lt (h3 z (List.mem_cons_of_mem _ hz)).2
  have hq : ∀ q : Nat, q < H.size → q ≠ a → T'.heap[q]? = H[q]? := fun q h1 h2 => k2 q h1 (fun z => z.elim h2 (fun z => by omega))
  have hnb : nW (g1, g2, g3, g4, g5, g6, (a, .inr (10, [.null, .int 0])) :: P) b := fun c hc he => by
    have := va_at_lt (h7 c hc)
    have he : gadr (g1, g2, g3, g4, g5, g6, []) c = b := he
    omega
  have hW1 := Wd.putP (P1 := []) (P2 := P) hW hq (hPb 0 _ rfl) (fun z hz => hnd z hz) [(b, .inl (g3 0, 6, .inl fun _ => 0))] (fun z hz => by
    rw [List.mem_singleton.mp hz]
    exact ⟨hb1, hPb 1 _ rfl⟩)
  have hW2 : Wd (gwP ((a, sE b 0) :: (b, tE (g1, g2, g3, g4, g5, g6, []) fun _ => 0) :: P) (g1, g2, g3, g4, g5, g6, [])) M D T'.heap := by
    refine Wd.drop hW1 (fun z hz => ?_)
    rcases List.mem_cons.mp hz with rfl | hz
    · simp
    · rcases List.mem_cons.mp hz with rfl | hz
      · simp
      · simp [hz]
  have ho : OpS (p, l, e, R, s, m, args, below, meth, co, (g1, g2, g3, g4, g5, g6, (a, .inr (10, [.null, .int 0])) :: P), D, nL) a b := ⟨ha, Nat.le_trans hS.1 hb1, hb2.symm, hat.1, hnb, h80, h81⟩
  have kk := j_openS (X := (p, l, e, R, s, m, args, below, meth, co, (g1, g2, g3, g4, g5, g6, (a, .inr (10, [.null, .int 0])) :: P), D, nL)) (P := P) (nn := 0) (t := fun _ => 0) ho (fun z hz => ⟨hnd z hz, by have := hlt z hz; omega⟩) (kk b ho)
  obtain ⟨t2, a1, b1⟩ := kk r hr T'.heap (locs ++ L) ls hW2 k3 hl T' rfl X'
  exact ⟨t2, hgo t2 a1, b1⟩
end
section
variable {ρ : Type} {X : JX} {Z : ρ → State → Prop} {pr : Option ρ} {pc : Nat} {lv : List (Nat × Value)} {rest st : List Value} {M : Mem} {k n : Nat} {cc : ByteArray} {own : String} {ret : Option FieldType} {fr lc mc ms : Nat}
theorem bk {a b : Nat} (h : a ≤ b) : Nat.ble a b = true := Nat.ble_eq_true_of_le h
theorem j_pgetN (hC : JC X cc own ret fr lc mc ms) {P1 P2 : va_W} {a ci fk idx N : Nat} {C ref : String} {T : u_T} {fs : List Value} {v : Value} (hP : gP (XG X) = P1 ++ (a, .inr (ci, fs)) :: P2) (hcl : xcl[ci]? = some (C, T, N)) (hin : ∀ w ∈ u_ws C T N, w ∈ lw_all) (hfk : Nat.ble (fk + 1) N = true) (href : (T fk).1 = ref) {host : String} (hq : Cond.fieldLinkNest own idx ref (T fk).2.1 (T fk).2.2.1 host ∈ lw_tbl) (hv : fs[fk]? = some v) (hd : decode cc pc = .ok (.getfield idx, 3)) (kk : J X Z pr (pc + 3) lv (v :: rest) M k n) : J X Z pr pc lv (.ref a :: rest) M k n := by
  obtain ⟨p, l, e, R, s, m, args, below, meth, co, ⟨g1, g2, g3, g4, g5, g6, g7⟩, D, nL⟩ := X
  have hP : g7 = P1 ++ (a, .inr (ci, fs)) :: P2 := hP
  subst hP
  intro r hr H locs ls hW hS hl
  obtain ⟨aL, -, -, h3⟩ := Wd_gw (Γ := (g1, g2, g3, g4, g5, g6, [])) |>.mp hW
  have hat := (h3 (a, .inr (ci, fs)) (List.mem_append.mpr (Or.inr List.mem_cons_self))).2
  have hPa : va_P (g1, g2) xcl [(a, .inr (ci, fs))] H := fun i q hi => by
    cases i with
    | zero => cases hi; exact hat
    | succ i => cases hi
  exact va_getN (k := fk) hC.1 hC.2.1 hC.2.2.2.2.1 hin hC.2.2.2.1 hC.2.2.2.2.2.1.1 hPa 0 rfl hcl (Nat.le_of_ble_eq_true hfk) (va_Nw.use rfl (hC.2.2.2.2.2.1.2.1.2.1 _ hq rfl)) (fun x hx => by rw [← href]; exact hx) hv hd (kk r hr H locs ls hW hS hl)
theorem j_pputN (hC : JC X cc own ret fr lc mc ms) {P1 P2 : va_W} {a ci fk idx N : Nat} {C ref : String} {T : u_T} {fs : List Value} {v : Value} {ty : FieldType} (hP : gP (XG X) = P1 ++ (a, .inr (ci, fs)) :: P2) (hnd : ∀ z ∈ P1 ++ P2, z.1 ≠ a) (ha : (XS X).heap.size ≤ a) (hcl : xcl[ci]? = some (C, T, N)) (hin : ∀ w ∈ u_ws C T N, w ∈ lw_all) (hfk : Nat.ble (fk + 1) N = true) (href : (T fk).1 = ref) {host : String} (hq : Cond.fieldLinkNest own idx ref (T fk).2.1 (T fk).2.2.1 host ∈ lw_tbl) (ty0 : Nat → FieldType) (hty : ∀ k, k < N → parseFieldDescriptor (T k).2.2.1 = some (ty0 k)) (hnm : ∀ a, a < N → ∀ b, b < N → a ≠ b → (T a).2.1 ≠ (T b).2.1) (hfin : (T fk).2.2.2 = false) (hdesc : parseFieldDescriptor (T fk).2.2.1 = some ty) (hnw : narrow ty v = v) (hft : fits ty v = true) (hlen : fs.length = N) (hd : decode cc pc = .ok (.putfield idx, 3)) (kk : J (xwP (P1 ++ (a, .inr (ci, fs.set fk v)) :: P2) X) Z pr (pc + 3) lv rest M k n) : J X Z pr pc lv (v :: .ref a :: rest) M k n := by
  obtain ⟨p, l, e, R, s, m, args, below, meth, co, ⟨g1, g2, g3, g4, g5, g6, g7⟩, D, nL⟩ := X
  have hP : g7 = P1 ++ (a, .inr (ci, fs)) :: P2 := hP
  subst hP
  intro r hr H locs ls hW hS hl
  obtain ⟨aL, -, -, h3⟩ := Wd_gw (Γ := (g1, g2, g3, g4, g5, g6, [])) |>.mp hW
  have h1 := (h3 (a, .inr (ci, fs)) (List.mem_append.mpr (Or.inr List.mem_cons_self))).2
  have hfk' : fk < N := Nat.le_of_ble_eq_true hfk
  have hap := va_apart (own := own) hC.2.2.2.2.1 hin ty0 hty hnm hC.2.2.2.2.2.1.1 hcl
  obtain ⟨r9, h19, cell, q1, q2, q3, q4⟩ := h1
  have hr9 : r9 = (C, T, N) := Option.some.inj (h19.symm.trans hcl)
  subst hr9
  obtain ⟨hSl, hfc, kC, hkC, hkind⟩ := hC.2.2.2.2.2.1.1.1 ci _ hcl
  obtain ⟨cf, kf, fi, f, hi, hsl⟩ := hSl fk hfk'
  have hlay := hC.2.2.2.2.1 _ (hin _ (u_in_lay hfk'))
  unfold u_lay at hlay
  rw [if_neg (by rw [hfin]; decide)] at hlay
  have hst := (u_facts hfc hkC (u_lays hC.2.2.2.2.1 hin hfk') hi).1
  have h6 := u_store hfc hkC hkind hlay hi hdesc hnw hft
  refine va_WputK hC.1 hC.2.1 (f := f) hC.2.2.2.1 (va_Nw.use rfl (hC.2.2.2.2.2.1.2.1.2.1 _ hq rfl)) (by rw [href] at hi; exact hi) hst (by rw [q2]; exact h6) q1 q3 (by rw [hsl]; exact k2_hasslot (q4 fk hfk')) rfl rfl hd fun H1 e1 e2 e3 => ?_
  rw [hsl] at e1
  refine kk r hr H1 _ ls (Wd.putP (Γ := (g1, g2, g3, g4, g5, g6, [])) (E0 := .inr (ci, fs)) hW (fun q _ h => e3 q h) ?_ hnd [] (fun z hz => by cases hz)) (hS.put e2 e3 (Or.inr ha)) hl
  refine ⟨_, hcl, t_OB.to (V := updV (vp_V fs) fk v) ⟨_, e1, q2, q3, t_set q4 hap hfk' v⟩ (fun j hj => ?_)⟩
  have hj : j < fs.length := by rw [hlen]; exact hj
  by_cases hjk : j = fk
  · subst hjk
    simp [updV, vp_V, hj]
  · have hjk2 : fk ≠ j := fun z => hjk z.symm
    simp [updV, vp_V, hjk, hjk2, List.getElem?_set]
/-- the length of an array of texts -/
theorem j_alen7 (hC : JC X cc own ret fr lc mc ms) {c : CId} {L : Nat} {v : Int32} (hdm : gdm (XG X) c = true) (hk : kd c = .inr (7, L)) (hv : Int32.ofNat L = v) (hd : decode cc pc = .ok (.arraylength, 1)) (kk : J X Z pr (pc + 1) lv (.int v :: rest) M k n) : J X Z pr pc lv (.ref (gadr (XG X) c) :: rest) M k n := by
  obtain ⟨p, l, e, R, s, m, args, below, meth, co, Γ, D, nL⟩ := X
  intro r hr H locs ls hW hS hl
  obtain ⟨aL, hW1, hW2⟩ := id hW
  have h1 := hW1 c hdm
  unfold cellE at h1
  rw [hk] at h1
  exact va_alen hC.1 hC.2.1 hC.2.2.2.2.2.1.1 (ws := [(gadr Γ c, .inl (gA Γ 7, L, .inr (.inr (.inr (.inr (vq Γ aL (M c) c))))))]) (fun i q hi => by cases i with | zero => cases hi; exact h1 | succ i => cases hi) 0 7 rfl (ty := .object "java/lang/String") rfl hv hd (kk r hr H locs ls hW hS hl)
end
