set_option maxRecDepth 100000
/-- the program's texts, by their numbers -/
def strT : List String := ["bird", "level", "column", "light", "hour", "breath", "high", "over", "falls", "songs", "moults", "counsel", "case", "present", "tower", "top", "yard", "to", "wind", "west", "east", "drop", "lift", "if", "not", "and", "or"]
def strB : List (List Int32) := [[98, 105, 114, 100], [108, 101, 118, 101, 108], [99, 111, 108, 117, 109, 110], [108, 105, 103, 104, 116], [104, 111, 117, 114], [98, 114, 101, 97, 116, 104], [104, 105, 103, 104], [111, 118, 101, 114], [102, 97, 108, 108, 115], [115, 111, 110, 103, 115], [109, 111, 117, 108, 116, 115], [99, 111, 117, 110, 115, 101, 108], [99, 97, 115, 101], [112, 114, 101, 115, 101, 110, 116], [116, 111, 119, 101, 114], [116, 111, 112], [121, 97, 114, 100], [116, 111], [119, 105, 110, 100], [119, 101, 115, 116], [101, 97, 115, 116], [100, 114, 111, 112], [108, 105, 102, 116], [105, 102], [110, 111, 116], [97, 110, 100], [111, 114]]
def sLen (i : Nat) : Nat := (strB.getD i []).length
def sCh (i j : Nat) : Int32 := (strB.getD i []).getD j 0
/-- where the texts are loaded: class, place in its pool, text, number -/
def strR : List (String × Nat × String × Nat) := [("FeatherYard$Reader", 17, "bird", 0), ("FeatherYard$Reader", 19, "level", 1), ("FeatherYard$Reader", 21, "column", 2), ("FeatherYard$Reader", 23, "light", 3), ("FeatherYard$Reader", 25, "hour", 4), ("FeatherYard$Reader", 27, "breath", 5), ("FeatherYard$Reader", 33, "high", 6), ("FeatherYard$Reader", 35, "over", 7), ("FeatherYard$Reader", 170, "falls", 8), ("FeatherYard$Reader", 178, "songs", 9), ("FeatherYard$Reader", 186, "moults", 10), ("FeatherYard$Reader", 120, "counsel", 11), ("FeatherYard$Reader", 125, "case", 12), ("FeatherYard$Reader", 211, "present", 13), ("FeatherYard$Reader", 130, "tower", 14), ("FeatherYard$Reader", 134, "top", 15), ("FeatherYard$Reader", 142, "yard", 16), ("FeatherYard$Reader", 147, "to", 17), ("FeatherYard$Reader", 151, "wind", 18), ("FeatherYard$Reader", 153, "west", 19), ("FeatherYard$Reader", 155, "east", 20), ("FeatherYard$Reader", 216, "drop", 21), ("FeatherYard$Reader", 218, "lift", 22), ("FeatherYard$Reader", 220, "if", 23), ("FeatherYard$Reader", 250, "not", 24), ("FeatherYard$Reader", 242, "and", 25), ("FeatherYard$Reader", 244, "or", 26),
  ("FeatherYardModel", 156, "bird", 0), ("FeatherYardModel", 198, "level", 1), ("FeatherYardModel", 200, "column", 2), ("FeatherYardModel", 132, "light", 3), ("FeatherYardModel", 186, "hour", 4), ("FeatherYardModel", 202, "breath", 5), ("FeatherYardModel", 211, "high", 6), ("FeatherYardModel", 213, "over", 7), ("FeatherYardModel", 130, "falls", 8), ("FeatherYardModel", 138, "songs", 9), ("FeatherYardModel", 144, "moults", 10), ("FeatherYardModel", 162, "counsel", 11), ("FeatherYardModel", 166, "case", 12), ("FeatherYardModel", 146, "present", 13), ("FeatherYardModel", 171, "tower", 14), ("FeatherYardModel", 148, "top", 15), ("FeatherYardModel", 176, "yard", 16), ("FeatherYardModel", 150, "to", 17), ("FeatherYardModel", 181, "wind", 18), ("FeatherYardModel", 152, "west", 19), ("FeatherYardModel", 154, "east", 20), ("FeatherYardModel", 242, "drop", 21), ("FeatherYardModel", 244, "lift", 22), ("FeatherYardModel", 246, "if", 23), ("FeatherYardModel", 221, "not", 24), ("FeatherYardModel", 235, "and", 25), ("FeatherYardModel", 240, "or", 26)]
def StO (Γ : xG) (A : Nat → Prop) (U : State) (H : Heap) : Prop := ∀ i : Nat, i < 27 → va_O "java/lang/String" (gadr Γ (6, 0, i)) A U H ∧ va_OF "java/lang/String" "coder" "B" (.int 0) (gadr Γ (6, 0, i)) A U H ∧ va_OF "java/lang/String" "value" "[B" (.ref (gsV Γ i)) (gadr Γ (6, 0, i)) A U H ∧ va_T .byte (gsV Γ i) (sLen i) (fun j => .int (sCh i j)) A U H
theorem StO.moved {Γ : xG} {A : Nat → Prop} {u U : State} {H : Heap} (hvm : u.vm.Alike U.vm) (h : StO Γ A u H) : StO Γ A U H := fun i hi => ⟨va_O.moved hvm (h i hi).1, va_OF.moved hvm (h i hi).2.1, va_OF.moved hvm (h i hi).2.2.1, va_T.moved hvm (h i hi).2.2.2⟩
theorem StO.kept {Γ : xG} {A : Nat → Prop} {U : State} {H H1 : Heap} (h : StO Γ A U H) (hq : ∀ a : Nat, a < H.size → ¬ A a → H1[a]? = H[a]?) : StO Γ A U H1 := fun i hi => ⟨(h i hi).1.kept hq, (h i hi).2.1.kept hq, (h i hi).2.2.1.kept hq, (h i hi).2.2.2.kept hq⟩
theorem StO.narrow {Γ : xG} {A B : Nat → Prop} {U : State} {H : Heap} (h : StO Γ A U H) (hAB : ∀ q, B q → A q) : StO Γ B U H := fun i hi => ⟨(h i hi).1.narrow hAB, (h i hi).2.1.narrow hAB, (h i hi).2.2.1.narrow hAB, (h i hi).2.2.2.narrow hAB⟩
/-- a nest mate's link -/
def xnest : Cond → Bool
  | .fieldLinkNest .. => true
  | .methodLinkNest .. => true
  | .castable .. => true
  | .declares .. => true
  | _ => false
/-- static cells that are read -/
def ZZ (A : Nat → Prop) (U : State) (H : Heap) : Prop := va_Z "java/lang/String" "COMPACT_STRINGS" "Z" (.int 1) A U H ∧ vx_Zq Bundle.tN "UNASSIGNED_STACK" Bundle.steD A U H ∧ vx_Zq Bundle.tN "SUPPRESSED_SENTINEL" Bundle.listD A U H ∧ va_Zq "jdk/internal/util/Preconditions" "SIOOBE_FORMATTER" "Ljava/util/function/BiFunction;" A U H
theorem ZZ.moved {A : Nat → Prop} {u U : State} {H : Heap} (hvm : u.vm.Alike U.vm) (h : ZZ A u H) : ZZ A U H := ⟨va_Z.moved hvm h.1, h.2.1.moved hvm, h.2.2.1.moved hvm, h.2.2.2.moved hvm⟩
theorem ZZ.kept {A : Nat → Prop} {U : State} {H H1 : Heap} (h : ZZ A U H) (hq : ∀ a : Nat, a < H.size → ¬ A a → H1[a]? = H[a]?) : ZZ A U H1 := ⟨h.1.kept hq, h.2.1.kept hq, h.2.2.1.kept hq, h.2.2.2.kept hq⟩
theorem ZZ.narrow {A B : Nat → Prop} {U : State} {H : Heap} (h : ZZ A U H) (hAB : ∀ q, B q → A q) : ZZ B U H := ⟨h.1.narrow hAB, h.2.1.narrow hAB, h.2.2.1.narrow hAB, h.2.2.2.narrow hAB⟩
def yCond : MethodName := ⟨"FeatherYard$Cond", "holds", "([I)Z"⟩
/-- classes that may stand for another, or may not -/
def va_Cs (C T : String) (U : State) : Prop := ∃ c t : ClassId, U.vm.findClass C = some c ∧ U.vm.findClass T = some t ∧ U.vm.assignable c t = true
theorem va_Cs.moved {C T : String} {u U : State} (hvm : u.vm.Alike U.vm) (h : va_Cs C T u) : va_Cs C T U := by
  obtain ⟨c, t, h1, h2, h3⟩ := h
  exact ⟨c, t, by rw [hvm.findClass]; exact h1, by rw [hvm.findClass]; exact h2, by rw [hvm.assignable]; exact h3⟩
def xcast : List (String × String) := [(RX15, RX14), (RX16, RX14), ("java/lang/IllegalArgumentException", "java/lang/IllegalArgumentException"), ("java/lang/UnsupportedOperationException", "java/lang/UnsupportedOperationException"), ("java/lang/IndexOutOfBoundsException", "java/lang/IndexOutOfBoundsException"), ("java/util/NoSuchElementException", "java/util/NoSuchElementException"), ("java/lang/IllegalStateException", "java/lang/IllegalStateException"), (RX6, RX6)]
def xncast : List (String × String) := [("java/lang/UnsupportedOperationException", "java/lang/IllegalArgumentException"), ("java/util/NoSuchElementException", "java/lang/IndexOutOfBoundsException"), ("java/lang/IllegalArgumentException", "java/lang/IndexOutOfBoundsException"), ("java/lang/IllegalStateException", "java/lang/IndexOutOfBoundsException")]
/-- what the tables say all through a run, beside the words of lw_all -/
def KN (U : State) : Prop := ((∀ q ∈ xcast, va_Cs q.1 q.2 U) ∧ (∀ q ∈ xncast, va_Nc q.1 q.2 U)) ∧ (∀ w ∈ lw_tbl, xnest w = true → va_Nw w U) ∧ va_AO RX3 U ∧ va_AO RX4 U ∧ va_AO RX5 U ∧ va_AO RX14 U ∧ va_AO "java/lang/String" U ∧ va_Fw RX9 yCond yX9_holds U ∧ va_Fw RX10 yCond yX10_holds U ∧ va_Fw RX12 yCond yX12_holds U ∧ va_Fw RX13 yCond yX13_holds U
theorem xnest_warm {w : Cond} (hw : xnest w = true) {s U : State} (hW : s.WarmedH U.vm) (h : va_Nw w s) : va_Nw w U := by
  cases w with
  | fieldLinkNest a i b n d hh => exact va_Nw.warmF hW h
  | methodLinkNest a i x hh => exact va_Nw.warmM hW h
  | castable a b => exact va_Nw.warmC hW h
  | declares x => exact va_Nw.warmD hW h
  | _ => simp [xnest] at hw
theorem xnest_same {w : Cond} (hw : xnest w = true) {s U : State} (hv : s.vm = U.vm) (h : va_Nw w s) : va_Nw w U := by
  cases w with
  | fieldLinkNest a i b n d hh => exact va_Nw.same rfl hv h
  | methodLinkNest a i x hh => exact va_Nw.same rfl hv h
  | castable a b => exact va_Nw.same rfl hv h
  | declares x => exact va_Nw.same rfl hv h
  | _ => simp [xnest] at hw
theorem xnest_tabs {w : Cond} (hw : xnest w = true) : w.onTables = true := by
  cases w with
  | fieldLinkNest a i b n d hh => rfl
  | methodLinkNest a i x hh => rfl
  | castable a b => rfl
  | declares x => rfl
  | _ => simp [xnest] at hw
theorem tbl_in (ws : List Cond) (ps : List Nat) (hp : ws = ps.filterMap (fun i => lw_tbl[i]?)) : ∀ w ∈ ws, w ∈ lw_tbl := by
  intro w h
  rw [hp] at h
  obtain ⟨i, -, hi⟩ := List.mem_filterMap.mp h
  exact List.mem_of_getElem? hi
theorem KN.warm {s U : State} (hW : s.WarmedH U.vm) (h : KN s) : KN U := by
  obtain ⟨h0, h1, h2, h3, h4, h5, h6, h7, h8, h9, h10⟩ := h
  have hv := hW.alike
  exact ⟨⟨fun q hq => (h0.1 q hq).moved hv, fun q hq => (h0.2 q hq).moved hv⟩, fun w hw hn => xnest_warm hn hW (h1 w hw hn), h2.moved hv, h3.moved hv, h4.moved hv, h5.moved hv, h6.moved hv, va_Fw.moved (by decide) hv h7, va_Fw.moved (by decide) hv h8, va_Fw.moved (by decide) hv h9, va_Fw.moved (by decide) hv h10⟩
theorem KN.same {s U : State} (hv : s.vm = U.vm) (h : KN s) : KN U := by
  obtain ⟨h0, h1, h2, h3, h4, h5, h6, h7, h8, h9, h10⟩ := h
  have hv2 : s.vm.Alike U.vm := by rw [hv]; exact Vm.Alike.refl _
  exact ⟨⟨fun q hq => (h0.1 q hq).moved hv2, fun q hq => (h0.2 q hq).moved hv2⟩, fun w hw hn => xnest_same hn hv (h1 w hw hn), h2.moved hv2, h3.moved hv2, h4.moved hv2, h5.moved hv2, h6.moved hv2, va_Fw.moved (by decide) hv2 h7, va_Fw.moved (by decide) hv2 h8, va_Fw.moved (by decide) hv2 h9, va_Fw.moved (by decide) hv2 h10⟩
/-- the surroundings of every method -/
def EN (Γ : xG) (sz : Nat) (U : State) : Prop := va_K (gD Γ) xcl (xtys Γ) U ∧ KN U ∧ (∀ q ∈ strR, vk_R q.1 q.2.1 q.2.2.1 (gadr Γ (6, 0, q.2.2.2)) U) ∧ StO Γ (AX Γ sz) U U.heap ∧ ZZ (AX Γ sz) U U.heap
theorem AX_mono {Γ : xG} {a b : Nat} (h : a ≤ b) : ∀ q, AX Γ b q → AX Γ a q := fun q hq => hq.elim Or.inl fun h1 => Or.inr (Nat.le_trans h h1)
theorem EN.pass {Γ : xG} {s U : State} {H : Heap} {locs : List Loc} (h : EN Γ s.heap.size s) (hS : va_S (AX Γ s.heap.size) s.heap H locs) (hU : U.heap = H) (hW : s.WarmedH U.vm) : EN Γ H.size U := by
  obtain ⟨h1, h2, h3, h4, h5⟩ := h
  refine ⟨va_K.moved hW.alike h1, h2.warm hW, fun q hq => (h3 q hq).warm hW, ?_, ?_⟩
  · rw [hU]; exact ((h4.kept hS.2.1).moved hW.alike).narrow (AX_mono hS.1)
  · rw [hU]; exact ((h5.kept hS.2.1).moved hW.alike).narrow (AX_mono hS.1)
theorem EN.same {Γ : xG} {sz : Nat} {s U : State} (h : EN Γ sz s) (hv : s.vm = U.vm) (hh : U.heap = s.heap) : EN Γ sz U := by
  obtain ⟨h1, h2, h3, h4, h5⟩ := h
  have hv2 : s.vm.Alike U.vm := by rw [hv]; exact Vm.Alike.refl _
  exact ⟨va_K.moved hv2 h1, h2.same hv, fun q hq => (h3 q hq).same hv.symm, by rw [hh]; exact h4.moved hv2, by rw [hh]; exact h5.moved hv2⟩
/-- a contract's start -/
def Pre (Γ : xG) (D : List LDen) (M : Mem) (sz : Nat) (av : List Value) : Array Value → State → Prop := va_Pc av (fun U => U.heap.size = sz ∧ Wd Γ M D U.heap ∧ EN Γ sz U ∧ GOK Γ)
/-- its end: what it answers, the world behind it -/
def QV (Γ : xG) (D : List LDen) (o : Option Value) (M : Mem) (A : Nat → Prop) : Array Value → State → Outcome → State → Prop := fun _ st oc t => oc = .returned o ∧ Wd Γ M D t.heap ∧ va_F A st t
theorem Pre.blind {Γ : xG} {D : List LDen} {M : Mem} {sz : Nat} {av : List Value} : FrameBlind (Pre Γ D M sz av) := fun a U g mk q => ⟨q.1, q.2.1, q.2.2.1, q.2.2.2.1.same rfl rfl, q.2.2.2.2⟩
/-- a method that neither throws nor makes cells -/
def CN (l : Launch) (y : MethodName) (ws : List Cond) (fr lc : Nat) (Γ : xG) (D : List LDen) (av : List Value) (M : Mem) (o : Option Value) (M' : Mem) : Prop := ∀ sz : Nat, Met l y ws { frames := fr, cells := 0, slots := 0, locals := lc } (Pre Γ D M sz av) (QV Γ D o M' (AX Γ sz)) 0 0 (AX Γ sz)
abbrev JX : Type := Program × Launch × Env × Room × State × MethodId × Array Value × List Frame × Method × Code × xG × List LDen × Nat
abbrev XG (X : JX) : xG := X.2.2.2.2.2.2.2.2.2.2.1
abbrev XD (X : JX) : List LDen := X.2.2.2.2.2.2.2.2.2.2.2.1
abbrev nLof (X : JX) : Nat := X.2.2.2.2.2.2.2.2.2.2.2.2
abbrev XL (X : JX) : Launch := X.2.1
def J {ρ : Type} (X : JX) (Z : ρ → State → Prop) (pr : Option ρ) (pc : Nat) (lv : List (Nat × Value)) (st : List Value) (M : Mem) (k n : Nat) : Prop :=
  match X with
  | (p, l, e, R, s, m, args, below, meth, c, Γ, D, nL) => ∀ r, pr = some r → ∀ (H : Heap) (locs : List Loc) (ls : Array Slot), Wd Γ M D H → va_S (AX Γ s.heap.size) s.heap H locs → lv_has ls nL lv → W p l e R s m args below meth c H locs k n (Z r) (F0 m pc ls st)
/-- what holds all through a method's body: its code, its class, the room -/
def JC (X : JX) (cc : ByteArray) (own : String) (ret : Option FieldType) (fr lc mc ms : Nat) : Prop :=
  match X with
  | (p, l, e, R, s, m, args, below, meth, c, Γ, D, nL) => p.tables.exec = Jvm.exec ∧ c.code = cc ∧ c.maxLocals = nL ∧ s.vm.findClass own = some m.cls ∧ (∀ w ∈ lw_all, w.before args s = true) ∧ EN Γ s.heap.size s ∧ GOK Γ ∧ R = { frames := fr, cells := mc, slots := ms, locals := lc } ∧ meth.sig.returnType = ret ∧ meth.locks = false
/-- the end of a method that neither throws nor makes cells -/
def ZN (X : JX) (fo : Int32 → Option Value) : Int32 × Mem → State → Prop :=
  match X with
  | (p, l, e, R, s, m, args, below, meth, c, Γ, D, nL) => fun r => MQ below (QV Γ D (fo r.1) r.2 (AX Γ s.heap.size)) args s 0 0 (AX Γ s.heap.size)
abbrev foI : Int32 → Option Value := fun v => some (.int v)
abbrev foV : Int32 → Option Value := fun _ => none
/-- the pure program's words: an index within an array; a call; loops -/
def gd {α : Type} (i : Int32) (n : Nat) (x : Option α) : Option α := if i < 0 ∨ n ≤ i.toNatClampNeg then none else x
def bd {α : Type} (x : Option (Int32 × Mem)) (k : Int32 → Mem → Option α) : Option α := match x with
  | none => none
  | some (v, M) => k v M
def nz {α : Type} (y : Int32) (x : Option α) : Option α := if y = 0 then none else x
def lp {σ ρ : Type} (body : (σ → Option ρ) → σ → Option ρ) : Nat → σ → Option ρ
  | 0, _ => none
  | n + 1, s => body (lp body n) s
theorem CN.of {l : Launch} {y : MethodName} {own : String} {cc : ByteArray} {maxL : Nat} {ret : Option FieldType} {fr lc : Nat} {Γ : xG} {D : List LDen} {av : List Value} {M : Mem} {fo : Int32 → Option Value} {pr : Option (Int32 × Mem)} {lv0 : List (Nat × Value)}
    (hy : plainName y.cls = true) (ho : y.cls = own) (hlen : (lg_sl av).length ≤ maxL) (hlv : lv_args 0 av = lv0)
    (body : ∀ X : JX, XG X = Γ → XD X = D → XL X = l → nLof X = maxL → JC X cc own ret fr lc 0 0 → J X (ZN X fo) pr 0 lv0 [] M 0 0) (r : Int32 × Mem) (hr : pr = some r) : CN l y (ws_ y cc maxL ret) fr lc Γ D av M (fo r.1) r.2 := by
  intro sz
  refine Met.ofW (cc := cc) (maxL := maxL) (ret := ret) hy rfl ?_
  intro p e s m args below meth c s₁ B hml hv
  obtain ⟨rfl, hsz, hW, hE, hG⟩ := hv
  have hts := atoms_spec (ws := ws_ y cc maxL ret) B.pre
  have hts : ∀ w ∈ lw_all, w.before _ s = true := fun w h => hts w (List.mem_cons_of_mem _ h)
  subst hsz
  have hl := lv_entry av (n := maxL) hlen
  rw [lg_entry_eq]
  rw [hlv] at hl
  exact body (p, l, e, (headSpec (ws_ y cc maxL ret) { frames := fr, cells := 0, slots := 0, locals := lc }).room, s, m, av.toArray, below, meth, c, Γ, D, maxL) rfl rfl rfl rfl ⟨B.exec, B.bytes, hml, by rw [← ho]; exact findClass_of_methodNamed B.named, hts, hE, hG, rfl, B.returns, B.notSynchronized⟩ r hr _ _ _ hW va_S.rf hl
def mx (x y : Int32) : Int32 := if x < y then y else x
def mn (x y : Int32) : Int32 := if y < x then y else x
def ab (x : Int32) : Int32 := if 0 ≤ x then x else 0 - x
def rm (x y : Int32) : Int32 := x - x / y * y
