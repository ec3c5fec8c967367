set_option maxRecDepth 100000
/-! constructors of greater objects: a list of cells is all the world there is -/
def allLt (p : Nat → Prop) : Nat → Prop
  | 0 => True
  | n + 1 => allLt p n ∧ p n
theorem allLt_use {p : Nat → Prop} : ∀ {n : Nat}, allLt p n → ∀ j, j < n → p j
  | 0, _, j, hj => absurd hj (Nat.not_lt_zero j)
  | n + 1, h, j, hj => by
    rcases Nat.lt_or_ge j n with h1 | h1
    · exact allLt_use h.1 j h1
    · rw [show j = n by omega]; exact h.2
theorem vaP_mem {D : va_G} {cl : List vw_C} {ws : va_W} {H : Heap} : va_P D cl ws H ↔ ∀ z ∈ ws, va_at D cl z H :=
  ⟨fun h z hz => by obtain ⟨i, hi⟩ := List.mem_iff_getElem?.mp hz; exact h i z hi, fun h k q hq => h q (List.mem_of_getElem? hq)⟩
theorem vaD_iff {A : Nat → Prop} {ws : va_W} : va_D A ws ↔ ws.Pairwise (fun p q => p.1 ≠ q.1) ∧ ∀ z ∈ ws, A z.1 := by
  constructor
  · rintro ⟨h1, h2⟩
    refine ⟨List.pairwise_iff_getElem.mpr fun i j hi hj hij he => ?_, fun z hz => by obtain ⟨i, hi⟩ := List.mem_iff_getElem?.mp hz; exact h2 i z hi⟩
    have := h1 i j _ _ (List.getElem?_eq_getElem hi) (List.getElem?_eq_getElem hj) he
    omega
  · rintro ⟨h1, h2⟩
    refine ⟨fun i j p q hi hj he => ?_, fun k q hq => h2 q (List.mem_of_getElem? hq)⟩
    obtain ⟨hi1, hi2⟩ := List.getElem?_eq_some_iff.mp hi
    obtain ⟨hj1, hj2⟩ := List.getElem?_eq_some_iff.mp hj
    have h1 := List.pairwise_iff_getElem.mp h1
    rcases Nat.lt_trichotomy i j with h | h | h
    · exact absurd (by rw [hi2, hj2]; exact he) (h1 i j hi1 hj1 h)
    · exact h
    · exact absurd (by rw [hi2, hj2]; exact he.symm) (h1 j i hj1 hi1 h)
theorem vaP_perm {D : va_G} {cl : List vw_C} {ws ws' : va_W} {H : Heap} (p : ws.Perm ws') (h : va_P D cl ws H) : va_P D cl ws' H := vaP_mem.mpr fun z hz => vaP_mem.mp h z (p.mem_iff.mpr hz)
theorem vaD_perm {A : Nat → Prop} {ws ws' : va_W} (p : ws.Perm ws') (h : va_D A ws) : va_D A ws' := by
  obtain ⟨h1, h2⟩ := vaD_iff.mp h
  exact vaD_iff.mpr ⟨(p.pairwise_iff (fun h => Ne.symm h)).mp h1, fun z hz => h2 z (p.mem_iff.mpr hz)⟩
/-- the machine at pc of a constructor, with these cells -/
def JK (X : JX) (A : Nat → Prop) (Z : State → Prop) (pc : Nat) (lv : List (Nat × Value)) (st : List Value) (P : va_W) (k n : Nat) : Prop :=
  match X with
  | (p, l, e, R, s, m, args, below, meth, c, Γ, D, nL) => ∀ (H : Heap) (locs : List Loc) (ls : Array Slot), va_P (gD Γ) xcl P H → va_D A P → va_S A s.heap H locs → lv_has ls nL lv → W p l e R s m args below meth c H locs k n Z (F0 m pc ls st)
/-- its start: the blank object at a, nothing else; the run began at sz0 -/
def PK (Γ : xG) (sz0 sz : Nat) (av : List Value) (a : Nat) (E0 : va_E) : Array Value → State → Prop := va_Pc av (fun U => U.heap.size = sz ∧ va_P (gD Γ) xcl [(a, E0)] U.heap ∧ EN Γ sz0 U ∧ sz0 ≤ sz ∧ sz0 ≤ a)
theorem PK.blind {Γ : xG} {sz0 sz : Nat} {av : List Value} {a : Nat} {E0 : va_E} : FrameBlind (PK Γ sz0 sz av a E0) := fun b U g mk q => ⟨q.1, q.2.1, q.2.2.1, q.2.2.2.1.same rfl rfl, q.2.2.2.2⟩
def QK (Γ : xG) (Q : va_W → Prop) (A : Nat → Prop) : Array Value → State → Outcome → State → Prop := fun _ st oc t => oc = .returned none ∧ (∃ w, Q w ∧ va_P (gD Γ) xcl w t.heap ∧ va_D A w) ∧ va_F A st t
def CK (l : Launch) (y : MethodName) (ws : List Cond) (fr lc mc ms : Nat) (Γ : xG) (sz0 : Nat) (av : List Value) (a : Nat) (E0 : va_E) (Q : va_W → Prop) : Prop := ∀ sz : Nat, Met l y ws { frames := fr, cells := mc, slots := ms, locals := lc } (PK Γ sz0 sz av a E0) (QK Γ Q (AI a sz)) mc ms (AI a sz)
def ZK (X : JX) (Q : va_W → Prop) (a mc ms : Nat) : State → Prop :=
  match X with
  | (p, l, e, R, s, m, args, below, meth, c, Γ, D, nL) => MQ below (QK Γ Q (AI a s.heap.size)) args s mc ms (AI a s.heap.size)
abbrev AK (X : JX) (a : Nat) : Nat → Prop := AI a (XS X).heap.size
/-- beside JC: a constructor -/
def JI (X : JX) : Prop :=
  match X with
  | (p, l, e, R, s, m, args, below, meth, c, Γ, D, nL) => meth.name = "<init>"
theorem string_self {s : State} {c : ClassId} : s.vm.assignable c c = true := by
  unfold Vm.assignable
  rw [Vm.assignableAux, beq_self_eq_true, Bool.true_or]
theorem EN.up {Γ : xG} {a b : Nat} {U : State} (h : EN Γ a U) (hab : a ≤ b) : EN Γ b U := ⟨h.1, h.2.1, h.2.2.1, h.2.2.2.1.narrow (AX_mono hab), h.2.2.2.2.narrow (AX_mono hab)⟩
/-- the run's start stands below all that is changed -/
def JE (X : JX) (sz0 : Nat) (A : Nat → Prop) : Prop := EN (XG X) sz0 (XS X) ∧ sz0 ≤ (XS X).heap.size ∧ (∀ q, A q → sz0 ≤ q) ∧ (∀ q, (XS X).heap.size ≤ q → A q) ∧ gdm (XG X) = fun _ => false
theorem CK.of {l : Launch} {y : MethodName} {own : String} {cc : ByteArray} {maxL : Nat} {fr lc mc ms : Nat} {Γ : xG} (hg : gdm Γ = fun _ => false) {sz0 : Nat} {av : List Value} {a : Nat} {E0 : va_E} {Q : va_W → Prop} {lv0 : List (Nat × Value)}
    (hy : plainName y.cls = true) (ho : y.cls = own) (hi : y.name = "<init>") (hlen : (lg_sl av).length ≤ maxL) (hlv : lv_args 0 av = lv0)
    (body : ∀ X : JX, XG X = Γ → XL X = l → nLof X = maxL → JC X cc own none fr lc mc ms → JI X → JE X sz0 (AK X a) → JK X (AK X a) (ZK X Q a mc ms) 0 lv0 [] [(a, E0)] 0 0) : CK l y (ws_ y cc maxL none) fr lc mc ms Γ sz0 av a E0 Q := by
  intro sz
  refine Met.ofW (cc := cc) (maxL := maxL) (ret := none) hy rfl ?_
  intro p e s m args below meth c s₁ B hml hv
  obtain ⟨rfl, hsz, hP, hE, hz1, hz2⟩ := hv
  have hts := atoms_spec (ws := ws_ y cc maxL none) B.pre
  have hts : ∀ w ∈ lw_all, w.before _ s = true := fun w h => hts w (List.mem_cons_of_mem _ h)
  subst hsz
  have hl := lv_entry av (n := maxL) hlen
  rw [lg_entry_eq]
  rw [hlv] at hl
  have hGO : GOK Γ := fun c d hc => by rw [hg] at hc; cases hc
  exact body (p, l, e, (headSpec (ws_ y cc maxL none) { frames := fr, cells := mc, slots := ms, locals := lc }).room, s, m, av.toArray, below, meth, c, Γ, [], maxL) rfl rfl rfl ⟨B.exec, B.bytes, hml, by rw [← ho]; exact findClass_of_methodNamed B.named, hts, hE.up hz1, hGO, rfl, B.returns, B.notSynchronized⟩ ((name_of_methodNamed B.named B.method).1.trans hi) ⟨hE, hz1, fun q hq => hq.elim (fun z => by rw [z]; exact hz2) (fun z => Nat.le_trans hz1 z), fun q hq => Or.inr hq, hg⟩ _ _ _ hP AI.one va_S.rf hl
section
variable {X : JX} {A : Nat → Prop} {Z : State → Prop} {pc : Nat} {lv : List (Nat × Value)} {rest st : List Value} {P P' : va_W} {k n sz0 : Nat} {cc : ByteArray} {own : String} {ret : Option FieldType} {fr lc mc ms : Nat}
theorem k_perm (p : P.Perm P') (kk : JK X A Z pc lv st P' k n) : JK X A Z pc lv st P k n := by
  obtain ⟨p', l, e, R, s, m, args, below, meth, co, Γ, D, nL⟩ := X
  intro H locs ls hP hD hS hl
  exact kk H locs ls (vaP_perm p hP) (vaD_perm p hD) hS hl
theorem vp_ext {cA : ClassId} {n : Nat} {f f' : Nat → Option Nat} (h : ∀ j, j < n → f j = f' j) : vp_cell cA (n, .inr (.inr (.inr (.inr f)))) = vp_cell cA (n, .inr (.inr (.inr (.inr f')))) := by
  rw [vp_cell_q, vp_cell_q]
  unfold arrV
  congr 1
  apply Array.ext
  · simp
  · intro i h1 h2
    simp at h1
    simp [h i h1]
/-- an array's contents, as far as it goes -/
theorem k_ext (i0 : Nat) {a t N0 : Nat} {f f' : Nat → Option Nat} (ha : P[i0]? = some (a, .inl (gA (XG X) t, N0, .inr (.inr (.inr (.inr f)))))) (h : ∀ j, j < N0 → f j = f' j) (hP' : P.set i0 (a, .inl (gA (XG X) t, N0, .inr (.inr (.inr (.inr f'))))) = P') (kk : JK X A Z pc lv st P' k n) : JK X A Z pc lv st P k n := by
  obtain ⟨p, l, e, R, s, m, args, below, meth, co, Γ, D, nL⟩ := X
  subst hP'
  intro H locs ls hP hD hS hl
  refine kk H locs ls (fun j q hj => ?_) (hD.set ha) hS hl
  by_cases hji : j = i0
  · subst hji
    have hlt := (List.getElem?_eq_some_iff.mp ha).1
    rw [List.getElem?_set_self hlt] at hj
    cases hj
    have h9 := hP _ _ ha
    show H[a]? = some (vp_cell _ _)
    have h9 : H[a]? = some (vp_cell (gA Γ t) (N0, .inr (.inr (.inr (.inr f))))) := h9
    rw [h9, vp_ext h]
  · rw [List.getElem?_set_ne (fun z => hji z.symm)] at hj
    exact hP j q hj
theorem perm_tail {α : Type} (w xs T : List α) : (w ++ (xs ++ T)).Perm (xs ++ (T ++ w)) := by
  rw [← List.append_assoc]
  exact (List.perm_append_comm (l₁ := w ++ xs) (l₂ := T)).trans ((List.perm_append_comm (l₁ := w) (l₂ := xs)).append_left T |>.trans (by
    rw [← List.append_assoc, ← List.append_assoc]
    exact (List.perm_append_comm (l₁ := T) (l₂ := xs)).append_right w))
theorem k_aload_n (hC : JC X cc own ret fr lc mc ms) {q : Fin 4} {x : Nat} (j : Nat) (hd : decode cc pc = .ok (.aload_n q, 1)) (hj : lv[j]? = some ((q : Nat), .ref x)) (kk : JK X A Z (pc + 1) lv (.ref x :: rest) P k n) : JK X A Z pc lv rest P k n := by
  obtain ⟨p, l, e, R, s, m, args, below, meth, co, Γ, D, nL⟩ := X
  intro H locs ls hP hD hS hl
  exact lv_aload_n hC.1 hC.2.1 hd rfl (lv_at hl j hj) (kk H locs ls hP hD hS hl)
theorem k_aload_nN (hC : JC X cc own ret fr lc mc ms) {q : Fin 4} (j : Nat) (hd : decode cc pc = .ok (.aload_n q, 1)) (hj : lv[j]? = some ((q : Nat), .null)) (kk : JK X A Z (pc + 1) lv (.null :: rest) P k n) : JK X A Z pc lv rest P k n := by
  obtain ⟨p, l, e, R, s, m, args, below, meth, co, Γ, D, nL⟩ := X
  intro H locs ls hP hD hS hl
  exact lv_aload_nN hC.1 hC.2.1 hd rfl (lv_at hl j hj) (kk H locs ls hP hD hS hl)
theorem k_iload_n (hC : JC X cc own ret fr lc mc ms) {q : Fin 4} {x : Int32} (j : Nat) (hd : decode cc pc = .ok (.iload_n q, 1)) (hj : lv[j]? = some ((q : Nat), .int x)) (kk : JK X A Z (pc + 1) lv (.int x :: rest) P k n) : JK X A Z pc lv rest P k n := by
  obtain ⟨p, l, e, R, s, m, args, below, meth, co, Γ, D, nL⟩ := X
  intro H locs ls hP hD hS hl
  exact lv_iload_n hC.1 hC.2.1 hd rfl (lv_at hl j hj) (kk H locs ls hP hD hS hl)
theorem k_iload (hC : JC X cc own ret fr lc mc ms) {i : Nat} {x : Int32} (j : Nat) (hd : decode cc pc = .ok (.iload i, 2)) (hj : lv[j]? = some (i, .int x)) (kk : JK X A Z (pc + 2) lv (.int x :: rest) P k n) : JK X A Z pc lv rest P k n := by
  obtain ⟨p, l, e, R, s, m, args, below, meth, co, Γ, D, nL⟩ := X
  intro H locs ls hP hD hS hl
  exact lv_iload hC.1 hC.2.1 hd (lv_at hl j hj) (kk H locs ls hP hD hS hl)
theorem k_istore_n (hC : JC X cc own ret fr lc mc ms) {q : Fin 4} {x : Int32} (lv' : List (Nat × Value)) {nl : Nat} (hnl : nLof X = nl) (hd : decode cc pc = .ok (.istore_n q, 1)) (hi : Nat.ble ((q : Nat) + 1) nl = true) (hl' : ((q : Nat), Value.int x) :: lv.filter (fun z => !(z.1 == (q : Nat)) && !(z.1 + 1 == (q : Nat) && z.2.category == 2)) = lv') (kk : JK X A Z (pc + 1) lv' rest P k n) : JK X A Z pc lv (.int x :: rest) P k n := by
  obtain ⟨p, l, e, R, s, m, args, below, meth, co, Γ, D, nL⟩ := X
  intro H locs ls hP hD hS hl
  exact lv_istore_n hC.1 hC.2.1 hd rfl hl (by have h := Nat.le_of_ble_eq_true hi; rw [← hnl] at h; exact h) hl' (fun ls' hl2 => kk H locs ls' hP hD hS hl2)
theorem k_iinc (hC : JC X cc own ret fr lc mc ms) {i : Nat} {z : Int} {x v : Int32} (j : Nat) (lv' : List (Nat × Value)) {nl : Nat} (hnl : nLof X = nl) (hd : decode cc pc = .ok (.iinc i z, 3)) (hj : lv[j]? = some (i, .int x)) (hv : x + Int32.ofInt z = v) (hi : Nat.ble (i + 1) nl = true) (hl' : (i, Value.int v) :: lv.filter (fun z => !(z.1 == i) && !(z.1 + 1 == i && z.2.category == 2)) = lv') (kk : JK X A Z (pc + 3) lv' rest P k n) : JK X A Z pc lv rest P k n := by
  obtain ⟨p, l, e, R, s, m, args, below, meth, co, Γ, D, nL⟩ := X
  intro H locs ls hP hD hS hl
  exact lv_iinc hC.1 hC.2.1 hd hl hj hv (by have h := Nat.le_of_ble_eq_true hi; rw [← hnl] at h; exact h) hl' (fun ls' hl2 => kk H locs ls' hP hD hS hl2)
theorem k_iconst (hC : JC X cc own ret fr lc mc ms) {v : Int32} {z : Int} (hd : decode cc pc = .ok (.iconst z, 1)) (hv : Int32.ofInt z = v) (kk : JK X A Z (pc + 1) lv (.int v :: rest) P k n) : JK X A Z pc lv rest P k n := by
  obtain ⟨p, l, e, R, s, m, args, below, meth, co, Γ, D, nL⟩ := X
  intro H locs ls hP hD hS hl
  exact lv_iconst hC.1 hC.2.1 hd hv (kk H locs ls hP hD hS hl)
theorem k_bipush (hC : JC X cc own ret fr lc mc ms) {v : Int32} {z : Int} (hd : decode cc pc = .ok (.bipush z, 2)) (hv : (Int8.ofInt z).toInt32 = v) (kk : JK X A Z (pc + 2) lv (.int v :: rest) P k n) : JK X A Z pc lv rest P k n := by
  obtain ⟨p, l, e, R, s, m, args, below, meth, co, Γ, D, nL⟩ := X
  intro H locs ls hP hD hS hl
  exact lv_bipush hC.1 hC.2.1 hd hv (kk H locs ls hP hD hS hl)
theorem k_sipush (hC : JC X cc own ret fr lc mc ms) {v : Int32} {z : Int} (hd : decode cc pc = .ok (.sipush z, 3)) (hv : (Int16.ofInt z).toInt32 = v) (kk : JK X A Z (pc + 3) lv (.int v :: rest) P k n) : JK X A Z pc lv rest P k n := by
  obtain ⟨p, l, e, R, s, m, args, below, meth, co, Γ, D, nL⟩ := X
  intro H locs ls hP hD hS hl
  exact lv_sipush hC.1 hC.2.1 hd hv (kk H locs ls hP hD hS hl)
theorem k_null (hC : JC X cc own ret fr lc mc ms) (hd : decode cc pc = .ok (.aconst_null, 1)) (kk : JK X A Z (pc + 1) lv (.null :: rest) P k n) : JK X A Z pc lv rest P k n := by
  obtain ⟨p, l, e, R, s, m, args, below, meth, co, Γ, D, nL⟩ := X
  intro H locs ls hP hD hS hl
  exact lv_null hC.1 hC.2.1 hd (kk H locs ls hP hD hS hl)
theorem k_dup (hC : JC X cc own ret fr lc mc ms) {v : Value} (hd : decode cc pc = .ok (.dup, 1)) (hc : v.category = 1) (kk : JK X A Z (pc + 1) lv (v :: v :: rest) P k n) : JK X A Z pc lv (v :: rest) P k n := by
  obtain ⟨p, l, e, R, s, m, args, below, meth, co, Γ, D, nL⟩ := X
  intro H locs ls hP hD hS hl
  exact lv_dup hC.1 hC.2.1 hd hc (kk H locs ls hP hD hS hl)
theorem k_goto (hC : JC X cc own ret fr lc mc ms) {off : Int} {tgt : Nat} (hd : decode cc pc = .ok (.goto off, 3)) (ht : (pc : Int) + off = (tgt : Int)) (kk : JK X A Z tgt lv rest P k n) : JK X A Z pc lv rest P k n := by
  obtain ⟨p, l, e, R, s, m, args, below, meth, co, Γ, D, nL⟩ := X
  intro H locs ls hP hD hS hl
  exact lv_goto hC.1 hC.2.1 hd ht (kk H locs ls hP hD hS hl)
theorem k_icmp_geF (hC : JC X cc own ret fr lc mc ms) {x y : Int32} {off : Int} {tgt : Nat} (hd : decode cc pc = .ok (.if_icmp .ge off, 3)) (ht : (pc : Int) + off = (tgt : Int)) (hx : ¬ y ≤ x) (kk : JK X A Z (pc + 3) lv rest P k n) : JK X A Z pc lv (.int y :: .int x :: rest) P k n := by
  obtain ⟨p, l, e, R, s, m, args, below, meth, co, Γ, D, nL⟩ := X
  intro H locs ls hP hD hS hl
  exact lv_icmp_ge hC.1 hC.2.1 hd ht (fun h => absurd h hx) (fun _ => kk H locs ls hP hD hS hl)
theorem k_icmp_geT (hC : JC X cc own ret fr lc mc ms) {x y : Int32} {off : Int} {tgt : Nat} (hd : decode cc pc = .ok (.if_icmp .ge off, 3)) (ht : (pc : Int) + off = (tgt : Int)) (hx : y ≤ x) (kk : JK X A Z tgt lv rest P k n) : JK X A Z pc lv (.int y :: .int x :: rest) P k n := by
  obtain ⟨p, l, e, R, s, m, args, below, meth, co, Γ, D, nL⟩ := X
  intro H locs ls hP hD hS hl
  exact lv_icmp_ge hC.1 hC.2.1 hd ht (fun _ => kk H locs ls hP hD hS hl) (fun h => absurd hx h)
theorem k_ifeqT (hC : JC X cc own ret fr lc mc ms) {x : Int32} {off : Int} {tgt : Nat} (hd : decode cc pc = .ok (.ifCond .eq off, 3)) (ht : (pc : Int) + off = (tgt : Int)) (hx : x = 0) (kk : JK X A Z tgt lv rest P k n) : JK X A Z pc lv (.int x :: rest) P k n := by
  obtain ⟨p, l, e, R, s, m, args, below, meth, co, Γ, D, nL⟩ := X
  intro H locs ls hP hD hS hl
  exact lv_if_eq hC.1 hC.2.1 hd ht (fun _ => kk H locs ls hP hD hS hl) (fun h => absurd hx h)
theorem k_ifneF (hC : JC X cc own ret fr lc mc ms) {x : Int32} {off : Int} {tgt : Nat} (hd : decode cc pc = .ok (.ifCond .ne off, 3)) (ht : (pc : Int) + off = (tgt : Int)) (hx : x = 0) (kk : JK X A Z (pc + 3) lv rest P k n) : JK X A Z pc lv (.int x :: rest) P k n := by
  obtain ⟨p, l, e, R, s, m, args, below, meth, co, Γ, D, nL⟩ := X
  intro H locs ls hP hD hS hl
  exact lv_if_ne hC.1 hC.2.1 hd ht (fun h => absurd hx h) (fun _ => kk H locs ls hP hD hS hl)
theorem k_ldcS (hC : JC X cc own ret fr lc mc ms) {idx i : Nat} {tx : String} (hq : (own, idx, tx, i) ∈ strR) (hd : decode cc pc = .ok (.ldc idx, 2)) (kk : JK X A Z (pc + 2) lv (.ref (gadr (XG X) (6, 0, i)) :: rest) P k n) : JK X A Z pc lv rest P k n := by
  obtain ⟨p, l, e, R, s, m, args, below, meth, co, Γ, D, nL⟩ := X
  intro H locs ls hP hD hS hl
  exact va_ldcS hC.1 hC.2.1 hC.2.2.2.1 (hC.2.2.2.2.2.1.2.2.1 _ hq) hd (kk H locs ls hP hD hS hl)
theorem k_objInit (hC : JC X cc own ret fr lc mc ms) {idx a : Nat} (hq : Cond.methodLink own idx ⟨"java/lang/Object", "<init>", "()V"⟩ ∈ lw_all) (hfr : Nat.ble 1 fr = true) (hlc : Nat.ble 32 lc = true) (hrest : rest = []) (hd : decode cc pc = .ok (.invokespecial idx, 3)) (kk : JK X A Z (pc + 3) lv rest P k n) : JK X A Z pc lv (.ref a :: rest) P k n := by
  obtain ⟨p, l, e, R, s, m, args, below, meth, co, Γ, D, nL⟩ := X
  subst hrest
  intro H locs ls hP hD hS hl
  have hR := hC.2.2.2.2.2.2.2.1
  have hfr := Nat.le_of_ble_eq_true hfr
  have hlc := Nat.le_of_ble_eq_true hlc
  exact W.objInit hC.1 hC.2.1 hC.2.2.2.1 (hC.2.2.2.2.1 _ hq) (hC.2.2.2.2.1 _ q164) (hC.2.2.2.2.1 _ q165) rfl (by exact hl.1.trans hC.2.2.1.symm) rfl hd (by rw [hR]; show 1 ≤ fr; omega) (by rw [hR]; show _ ≤ lc; simp; omega) (W.eq (g2 := F0 m (pc + 3) ls []) rfl (kk H locs ls hP hD hS hl))
theorem k_put (hC : JC X cc own ret fr lc mc ms) (i0 : Nat) {a ci fk idx N : Nat} {C ref : String} {T : u_T} {ty : FieldType} {v : Value} {fs : List Value} (he : P[i0]? = some (a, .inr (ci, fs))) (hcl : xcl[ci]? = some (C, T, N)) (hin : ∀ w ∈ u_ws C T N, w ∈ lw_all) (hfk : Nat.ble (fk + 1) N = true) (href : (T fk).1 = ref ∨ (∀ s : State, ∀ x, s.fieldFound? (T fk).1 (T fk).2.1 (T fk).2.2.1 = some x → s.fieldFound? ref (T fk).2.1 (T fk).2.2.1 = some x)) (hq : Cond.fieldLink own idx ref (T fk).2.1 (T fk).2.2.1 ∈ lw_all) (ty0 : Nat → FieldType) (hty : ∀ k, k < N → parseFieldDescriptor (T k).2.2.1 = some (ty0 k)) (hnm : ∀ a, a < N → ∀ b, b < N → a ≠ b → (T a).2.1 ≠ (T b).2.1) (hfin : (T fk).2.2.2 = false) (hdesc : parseFieldDescriptor (T fk).2.2.1 = some ty) (hnw : narrow ty v = v) (hft : fits ty v = true) (hlen : Nat.ble (fk + 1) fs.length = true) (hP' : P.set i0 (a, .inr (ci, fs.set fk v)) = P') (hd : decode cc pc = .ok (.putfield idx, 3)) (kk : JK X A Z (pc + 3) lv rest P' k n) : JK X A Z pc lv (v :: .ref a :: rest) P k n := by
  obtain ⟨p, l, e, R, s, m, args, below, meth, co, Γ, D, nL⟩ := X
  subst hP'
  intro H locs ls hP hD hS hl
  exact va_put (k := fk) hC.1 hC.2.1 hC.2.2.2.2.1 hin ty0 hty hnm hC.2.2.2.1 hC.2.2.2.2.2.1.1 hP hD hS i0 he hcl (Nat.le_of_ble_eq_true hfk) (hC.2.2.2.2.1 _ hq) (fun x hx => href.elim (fun z => by rw [← z]; exact hx) (fun z => z s x hx)) hfin hdesc hnw hft (Nat.le_of_ble_eq_true hlen) hd (fun H1 locs1 hP1 hD1 hS1 => kk H1 locs1 ls hP1 hD1 hS1 hl)
theorem k_putF (hC : JC X cc own ret fr lc mc ms) (hI : JI X) (i0 : Nat) {a ci fk idx N : Nat} {C ref : String} {T : u_T} {ty : FieldType} {v : Value} {fs : List Value} (he : P[i0]? = some (a, .inr (ci, fs))) (hcl : xcl[ci]? = some (C, T, N)) (hin : ∀ w ∈ u_ws C T N, w ∈ lw_all) (hfk : Nat.ble (fk + 1) N = true) (href : (T fk).1 = ref) (hown : (T fk).1 = own) (hq : Cond.fieldLink own idx ref (T fk).2.1 (T fk).2.2.1 ∈ lw_all) (ty0 : Nat → FieldType) (hty : ∀ k, k < N → parseFieldDescriptor (T k).2.2.1 = some (ty0 k)) (hnm : ∀ a, a < N → ∀ b, b < N → a ≠ b → (T a).2.1 ≠ (T b).2.1) (hfin : (T fk).2.2.2 = true) (hdesc : parseFieldDescriptor (T fk).2.2.1 = some ty) (hnw : narrow ty v = v) (hft : fits ty v = true) (hlen : Nat.ble (fk + 1) fs.length = true) (hP' : P.set i0 (a, .inr (ci, fs.set fk v)) = P') (hd : decode cc pc = .ok (.putfield idx, 3)) (kk : JK X A Z (pc + 3) lv rest P' k n) : JK X A Z pc lv (v :: .ref a :: rest) P k n := by
  obtain ⟨p, l, e, R, s, m, args, below, meth, co, Γ, D, nL⟩ := X
  subst hP'
  intro H locs ls hP hD hS hl
  exact va_putF (k := fk) hC.1 hC.2.1 hC.2.2.2.2.1 hin ty0 hty hnm hC.2.2.2.1 hC.2.2.2.2.2.1.1 hP hD hS i0 he hcl (Nat.le_of_ble_eq_true hfk) (hC.2.2.2.2.1 _ hq) (fun x hx => by rw [← href]; exact hx) hfin hI hown hdesc hnw hft (Nat.le_of_ble_eq_true hlen) hd (fun H1 locs1 hP1 hD1 hS1 => kk H1 locs1 ls hP1 hD1 hS1 hl)
theorem k_get (hC : JC X cc own ret fr lc mc ms) (i0 : Nat) {a ci fk idx N : Nat} {C ref : String} {T : u_T} {v : Value} {fs : List Value} (he : P[i0]? = some (a, .inr (ci, fs))) (hcl : xcl[ci]? = some (C, T, N)) (hin : ∀ w ∈ u_ws C T N, w ∈ lw_all) (hfk : Nat.ble (fk + 1) N = true) (href : (T fk).1 = ref) (hq : Cond.fieldLink own idx ref (T fk).2.1 (T fk).2.2.1 ∈ lw_all) (hv : fs[fk]? = some v) (hd : decode cc pc = .ok (.getfield idx, 3)) (kk : JK X A Z (pc + 3) lv (v :: rest) P k n) : JK X A Z pc lv (.ref a :: rest) P k n := by
  obtain ⟨p, l, e, R, s, m, args, below, meth, co, Γ, D, nL⟩ := X
  intro H locs ls hP hD hS hl
  exact va_get (k := fk) hC.1 hC.2.1 hC.2.2.2.2.1 hin hC.2.2.2.1 hC.2.2.2.2.2.1.1 hP i0 he hcl (Nat.le_of_ble_eq_true hfk) (hC.2.2.2.2.1 _ hq) (fun x hx => by rw [← href]; exact hx) hv hd (kk H locs ls hP hD hS hl)
theorem k_new (hC : JC X cc own ret fr lc mc ms) (hE : JE X sz0 A) {ci idx N : Nat} {C : String} {T : u_T} {fs : List Value} (hcl : xcl[ci]? = some (C, T, N)) (hin : ∀ w ∈ u_ws C T N, w ∈ lw_all) (ty : Nat → FieldType) (hty : ∀ k, k < N → parseFieldDescriptor (T k).2.2.1 = some (ty k)) (hfs : ∀ j, j < N → defaultValue (ty j) = vp_V fs j) (hq : Cond.classLink own idx C ∈ lw_all) (hinst : Cond.instantiable C N ∈ lw_all) (hini : Cond.initialized C ∈ lw_all) (hk : Nat.ble (k + 1) mc = true) (hn : Nat.ble (n + N) ms = true) (hd : decode cc pc = .ok (.new idx, 3))
    (kk : ∀ q : Nat, (XS X).heap.size ≤ q → JK X A Z (pc + 3) lv (.ref q :: rest) ((q, .inr (ci, fs)) :: P) (k + 1) (n + N)) : JK X A Z pc lv rest P k n := by
  obtain ⟨p, l, e, R, s, m, args, below, meth, co, Γ, D, nL⟩ := X
  intro H locs ls hP hD hS hl
  have hR := hC.2.2.2.2.2.2.2.1
  have hKn := hC.2.2.2.2.2.1.1.1 ci _ hcl
  refine W.newcK hC.1 hC.2.1 hC.2.2.2.1 (hC.2.2.2.2.1 _ hq) (hC.2.2.2.2.1 _ hinst) (hC.2.2.2.2.1 _ hini) rfl hd (by rw [hR]; exact Nat.le_of_ble_eq_true hk) (by rw [hR]; exact Nat.le_of_ble_eq_true hn) hKn.2.1 rfl fun H1 kC hkC e1 z1 o1 => ?_
  have hD2 := vaD_iff.mp hD
  have hlt : ∀ z ∈ P, z.1 < H.size := fun z hz => va_at_lt (vaP_mem.mp hP z hz)
  refine kk H.size hS.1 H1 locs ls (vaP_mem.mpr fun z hz => ?_) (vaD_iff.mpr ⟨List.pairwise_cons.mpr ⟨fun z hz => ?_, hD2.1⟩, fun z hz => ?_⟩) ⟨Nat.le_trans hS.1 (by omega), fun x h1 h2 => (o1 x (Nat.lt_of_lt_of_le h1 hS.1)).trans (hS.2.1 x h1 h2), hS.2.2⟩ hl
  · rcases List.mem_cons.mp hz with rfl | hz
    · exact ⟨_, hcl, (u_born ty hC.2.2.2.2.1 hin hKn hkC e1 hty).to hfs⟩
    · exact (vaP_mem.mp hP z hz).kept (o1 _ (hlt z hz))
  · have := hlt z hz
    show H.size ≠ z.1
    omega
  · rcases List.mem_cons.mp hz with rfl | hz
    · exact hE.2.2.2.1 _ hS.1
    · exact hD2.2 z hz
theorem k_newaI (hC : JC X cc own ret fr lc mc ms) (hE : JE X sz0 A) {n9 : Int32} {N : Nat} (hq : Cond.arrayClass .int ∈ lw_all) (hn0 : ¬ n9 < 0) (hN : n9.toNatClampNeg = N) (hb9 : Nat.ble (N * 8) 536870912 = true) (hk : Nat.ble (k + 1) mc = true) (hn : Nat.ble (n + N) ms = true) (hd : decode cc pc = .ok (.newarray .int, 2)) (kk : ∀ q : Nat, JK X A Z (pc + 2) lv (.ref q :: rest) ((q, .inl (gA (XG X) 0, N, .inl fun _ => 0)) :: P) (k + 1) (n + N)) : JK X A Z pc lv (.int n9 :: rest) P k n := by
  obtain ⟨p, l, e, R, s, m, args, below, meth, co, Γ, D, nL⟩ := X
  intro H locs ls hP hD hS hl
  have hR := hC.2.2.2.2.2.2.2.1
  have hb9 := Nat.le_of_ble_eq_true hb9
  refine va_newa (atype := .int) (ty := .int) (N' := N) (a0 := (N, .inl fun _ => 0)) hC.1 hC.2.1 (hC.2.2.2.2.1 _ hq) rfl hC.2.2.2.2.2.1.1 hP hD hS hE.2.2.2.1 (fun cA => rfl) hn0 hN (by show N * _ ≤ _; simp [componentBytes]; omega) (by rw [hR]; exact Nat.le_of_ble_eq_true hk) (by rw [hR]; exact Nat.le_of_ble_eq_true hn) hd (fun q cA H1 hK2 hP1 hD1 hS1 => ?_)
  have e9 : gA Γ 0 = cA := Option.some.inj (((hK2.2 0 _ rfl).2).symm.trans ((hK2.2 9 _ rfl).2))
  subst e9
  exact kk q H1 locs ls (vaP_perm (List.perm_append_singleton _ _) hP1) (vaD_perm (List.perm_append_singleton _ _) hD1) hS1 hl
theorem k_newaB (hC : JC X cc own ret fr lc mc ms) (hE : JE X sz0 A) {n9 : Int32} {N : Nat} (hq : Cond.arrayClass .byte ∈ lw_all) (hn0 : ¬ n9 < 0) (hN : n9.toNatClampNeg = N) (hb9 : Nat.ble (N * 8) 536870912 = true) (hk : Nat.ble (k + 1) mc = true) (hn : Nat.ble (n + N) ms = true) (hd : decode cc pc = .ok (.newarray .byte, 2)) (kk : ∀ q : Nat, JK X A Z (pc + 2) lv (.ref q :: rest) ((q, .inl (gA (XG X) 1, N, .inl fun _ => 0)) :: P) (k + 1) (n + N)) : JK X A Z pc lv (.int n9 :: rest) P k n := by
  obtain ⟨p, l, e, R, s, m, args, below, meth, co, Γ, D, nL⟩ := X
  intro H locs ls hP hD hS hl
  have hR := hC.2.2.2.2.2.2.2.1
  have hb9 := Nat.le_of_ble_eq_true hb9
  refine va_newa (atype := .byte) (ty := .byte) (N' := N) (a0 := (N, .inl fun _ => 0)) hC.1 hC.2.1 (hC.2.2.2.2.1 _ hq) rfl hC.2.2.2.2.2.1.1 hP hD hS hE.2.2.2.1 (fun cA => rfl) hn0 hN (by show N * _ ≤ _; simp [componentBytes]; omega) (by rw [hR]; exact Nat.le_of_ble_eq_true hk) (by rw [hR]; exact Nat.le_of_ble_eq_true hn) hd (fun q cA H1 hK2 hP1 hD1 hS1 => ?_)
  have e9 : gA Γ 1 = cA := Option.some.inj (((hK2.2 1 _ rfl).2).symm.trans ((hK2.2 9 _ rfl).2))
  subst e9
  exact kk q H1 locs ls (vaP_perm (List.perm_append_singleton _ _) hP1) (vaD_perm (List.perm_append_singleton _ _) hD1) hS1 hl
theorem k_newaZ (hC : JC X cc own ret fr lc mc ms) (hE : JE X sz0 A) {n9 : Int32} {N : Nat} (hq : Cond.arrayClass .boolean ∈ lw_all) (hn0 : ¬ n9 < 0) (hN : n9.toNatClampNeg = N) (hb9 : Nat.ble (N * 8) 536870912 = true) (hk : Nat.ble (k + 1) mc = true) (hn : Nat.ble (n + N) ms = true) (hd : decode cc pc = .ok (.newarray .boolean, 2)) (kk : ∀ q : Nat, JK X A Z (pc + 2) lv (.ref q :: rest) ((q, .inl (gA (XG X) 2, N, .inl fun _ => 0)) :: P) (k + 1) (n + N)) : JK X A Z pc lv (.int n9 :: rest) P k n := by
  obtain ⟨p, l, e, R, s, m, args, below, meth, co, Γ, D, nL⟩ := X
  intro H locs ls hP hD hS hl
  have hR := hC.2.2.2.2.2.2.2.1
  have hb9 := Nat.le_of_ble_eq_true hb9
  refine va_newa (atype := .boolean) (ty := .boolean) (N' := N) (a0 := (N, .inl fun _ => 0)) hC.1 hC.2.1 (hC.2.2.2.2.1 _ hq) rfl hC.2.2.2.2.2.1.1 hP hD hS hE.2.2.2.1 (fun cA => rfl) hn0 hN (by show N * _ ≤ _; simp [componentBytes]; omega) (by rw [hR]; exact Nat.le_of_ble_eq_true hk) (by rw [hR]; exact Nat.le_of_ble_eq_true hn) hd (fun q cA H1 hK2 hP1 hD1 hS1 => ?_)
  have e9 : gA Γ 2 = cA := Option.some.inj (((hK2.2 2 _ rfl).2).symm.trans ((hK2.2 9 _ rfl).2))
  subst e9
  exact kk q H1 locs ls (vaP_perm (List.perm_append_singleton _ _) hP1) (vaD_perm (List.perm_append_singleton _ _) hD1) hS1 hl
theorem k_newaJ (hC : JC X cc own ret fr lc mc ms) (hE : JE X sz0 A) {n9 : Int32} {N : Nat} (hq : Cond.arrayClass .long ∈ lw_all) (hn0 : ¬ n9 < 0) (hN : n9.toNatClampNeg = N) (hb9 : Nat.ble (N * 8) 536870912 = true) (hk : Nat.ble (k + 1) mc = true) (hn : Nat.ble (n + N) ms = true) (hd : decode cc pc = .ok (.newarray .long, 2)) (kk : ∀ q : Nat, JK X A Z (pc + 2) lv (.ref q :: rest) ((q, .inl (gA (XG X) 8, N, .inr (.inl fun _ => 0))) :: P) (k + 1) (n + N)) : JK X A Z pc lv (.int n9 :: rest) P k n := by
  obtain ⟨p, l, e, R, s, m, args, below, meth, co, Γ, D, nL⟩ := X
  intro H locs ls hP hD hS hl
  have hR := hC.2.2.2.2.2.2.2.1
  have hb9 := Nat.le_of_ble_eq_true hb9
  refine va_newa (atype := .long) (ty := .long) (N' := N) (a0 := (N, .inr (.inl fun _ => 0))) hC.1 hC.2.1 (hC.2.2.2.2.1 _ hq) rfl hC.2.2.2.2.2.1.1 hP hD hS hE.2.2.2.1 (fun cA => rfl) hn0 hN (by show N * _ ≤ _; simp [componentBytes]; omega) (by rw [hR]; exact Nat.le_of_ble_eq_true hk) (by rw [hR]; exact Nat.le_of_ble_eq_true hn) hd (fun q cA H1 hK2 hP1 hD1 hS1 => ?_)
  have e9 : gA Γ 8 = cA := Option.some.inj (((hK2.2 8 _ rfl).2).symm.trans ((hK2.2 9 _ rfl).2))
  subst e9
  exact kk q H1 locs ls (vaP_perm (List.perm_append_singleton _ _) hP1) (vaD_perm (List.perm_append_singleton _ _) hD1) hS1 hl
theorem k_anew (hC : JC X cc own ret fr lc mc ms) (hE : JE X sz0 A) {n9 : Int32} {N t idx : Nat} {C : String} (ht : ∀ Γ : xG, (xtys Γ)[t]? = some (gA Γ t, .object C)) (ht9 : t < 9) (hov : ∀ U, KN U → va_AO C U) (hq : Cond.classLink own idx C ∈ lw_all) (hn0 : ¬ n9 < 0) (hN : n9.toNatClampNeg = N) (hb9 : Nat.ble (N * 8) 536870912 = true) (hk : Nat.ble (k + 1) mc = true) (hn : Nat.ble (n + N) ms = true) (hd : decode cc pc = .ok (.anewarray idx, 3)) (kk : ∀ q : Nat, JK X A Z (pc + 3) lv (.ref q :: rest) ((q, .inl (gA (XG X) t, N, .inr (.inr (.inr (.inr fun _ => none))))) :: P) (k + 1) (n + N)) : JK X A Z pc lv (.int n9 :: rest) P k n := by
  obtain ⟨p, l, e, R, s, m, args, below, meth, co, Γ, D, nL⟩ := X
  intro H locs ls hP hD hS hl
  have hR := hC.2.2.2.2.2.2.2.1
  have hb9 := Nat.le_of_ble_eq_true hb9
  refine va_newq (N' := N) hC.1 hC.2.1 hC.2.2.2.1 (hC.2.2.2.2.1 _ hq) (hov _ hC.2.2.2.2.2.1.2.1) hC.2.2.2.2.2.1.1 hP hD hS hE.2.2.2.1 hn0 hN (by omega) (by rw [hR]; exact Nat.le_of_ble_eq_true hk) (by rw [hR]; exact Nat.le_of_ble_eq_true hn) hd (fun q cA H1 hK2 hP1 hD1 hS1 => ?_)
  have e9 : gA Γ t = cA := by
    obtain ⟨-, -, -, -, -, h1⟩ := (hK2.2 t (gA Γ t, .object C) (by rw [List.getElem?_append_left (show t < (xtys Γ).length from ht9)]; exact ht Γ)).2
    obtain ⟨-, -, -, -, -, h2⟩ := (hK2.2 9 (cA, .object C) rfl).2
    exact Option.some.inj (h1.symm.trans h2)
  subst e9
  exact kk q H1 locs ls (vaP_perm (List.perm_append_singleton _ _) hP1) (vaD_perm (List.perm_append_singleton _ _) hD1) hS1 hl
theorem k_aast (hC : JC X cc own ret fr lc mc ms) (i0 i1 t : Nat) {a v ci N0 : Nat} {r : vw_C} {vs : List Value} {f : Nat → Option Nat} {i : Int32} (ha : P[i0]? = some (a, .inl (gA (XG X) t, N0, .inr (.inr (.inr (.inr f)))))) (ht : ∀ Γ : xG, (xtys Γ)[t]? = some (gA Γ t, .object r.1)) (hv : P[i1]? = some (v, .inr (ci, vs))) (hcl : xcl[ci]? = some r) (hin : vp_in i N0) (hP' : P.set i0 (a, .inl (gA (XG X) t, N0, .inr (.inr (.inr (.inr (va_up f i.toNatClampNeg (some v))))))) = P') (hd : decode cc pc = .ok (.aastore, 1)) (kk : JK X A Z (pc + 1) lv rest P' k n) : JK X A Z pc lv (.ref v :: .int i :: .ref a :: rest) P k n := by
  obtain ⟨p, l, e, R, s, m, args, below, meth, co, Γ, D, nL⟩ := X
  subst hP'
  intro H locs ls hP hD hS hl
  exact va_astq hC.1 hC.2.1 hC.2.2.2.2.2.1.1 hP hD hS i0 t i1 ci ha (ht Γ) hv hcl hin hd (fun H1 locs1 hP1 hD1 hS1 => kk H1 locs1 ls hP1 hD1 hS1 hl)
theorem k_aastS (hC : JC X cc own ret fr lc mc ms) (hE : JE X sz0 A) (i0 : Nat) {a N0 j : Nat} {f : Nat → Option Nat} {i : Int32} (ha : P[i0]? = some (a, .inl (gA (XG X) 7, N0, .inr (.inr (.inr (.inr f)))))) (hj : j < 27) (hin : vp_in i N0) (hP' : P.set i0 (a, .inl (gA (XG X) 7, N0, .inr (.inr (.inr (.inr (va_up f i.toNatClampNeg (some (gadr (XG X) (6, 0, j)))))))) ) = P') (hd : decode cc pc = .ok (.aastore, 1)) (kk : JK X A Z (pc + 1) lv rest P' k n) : JK X A Z pc lv (.ref (gadr (XG X) (6, 0, j)) :: .int i :: .ref a :: rest) P k n := by
  obtain ⟨p, l, e, R, s, m, args, below, meth, co, Γ, D, nL⟩ := X
  subst hP'
  intro H locs ls hP hD hS hl
  obtain ⟨cell, g1, g2, g3, g4⟩ := (hE.1.2.2.2.1 j hj).1
  have hlt : gadr Γ (6, 0, j) < sz0 := Nat.lt_of_not_le fun h => g4 (Or.inr h)
  have hg : H[gadr Γ (6, 0, j)]? = some cell := (hS.2.1 _ (Nat.lt_of_lt_of_le hlt hE.2.1) (fun h => by have := hE.2.2.1 _ h; omega)).trans g1
  have hAny : va_Any "java/lang/String" s H (gadr Γ (6, 0, j)) := by
    obtain ⟨kC, hkC, -⟩ := Vm.findClass_spec g3
    refine ⟨cell, hg, g2, ⟨kC, hkC⟩, fun comp hcomp => ?_⟩
    cases Option.some.inj (g3.symm.trans hcomp)
    exact string_self
  exact va_astqM hC.1 hC.2.1 hC.2.2.2.2.2.1.1 hP hD hS i0 7 ha rfl hAny hin hd (fun H1 locs1 hP1 hD1 hS1 => kk H1 locs1 ls hP1 hD1 hS1 hl)
theorem k_iast (hC : JC X cc own ret fr lc mc ms) (i0 : Nat) {a N0 : Nat} {f : Nat → Int32} {i x : Int32} (ha : P[i0]? = some (a, .inl (gA (XG X) 0, N0, .inl f))) (hin : vp_in i N0) (hP' : P.set i0 (a, .inl (gA (XG X) 0, N0, .inl (upd f i.toNatClampNeg x))) = P') (hd : decode cc pc = .ok (.iastore, 1)) (kk : JK X A Z (pc + 1) lv rest P' k n) : JK X A Z pc lv (.int x :: .int i :: .ref a :: rest) P k n := by
  obtain ⟨p, l, e, R, s, m, args, below, meth, co, Γ, D, nL⟩ := X
  subst hP'
  intro H locs ls hP hD hS hl
  exact va_iast hC.1 hC.2.1 hC.2.2.2.2.2.1.1 hP hD hS i0 0 ha rfl hin hd (fun H1 locs1 hP1 hD1 hS1 => kk H1 locs1 ls hP1 hD1 hS1 hl)
/-- behind a constructor's call -/
theorem k_after {mc' ms' : Nat} {Q : va_W → Prop} {a : Nat} {E0 : va_E} (hE : JE X sz0 A) (hA : A a) (hr9 : match X with | (p, l, e, R, s, m, args, below, meth, c, Γ, D, nL) => ∀ (H : Heap) (locs : List Loc) (ls : Array Slot), va_P (gD Γ) xcl ((a, E0) :: P) H → va_S A s.heap H locs → lv_has ls nL lv → ∃ a9, va_Run p l e R s m args below meth c H locs k n mc' ms' (F0 m pc ls st) rest (QK Γ Q (AI a H.size) a9) (AI a H.size))
    (kk : ∀ w, Q w → JK X A Z (pc + 3) lv rest (w ++ P) (k + mc') (n + ms')) : JK X A Z pc lv st ((a, E0) :: P) k n := by
  obtain ⟨p, l, e, R, s, m, args, below, meth, co, Γ, D, nL⟩ := X
  intro H locs ls hP hD hS hl
  obtain ⟨a9, run⟩ := hr9 H locs ls hP hS hl
  intro T0 hT X0
  obtain ⟨v0, st₀, t, T', L, e0, X', hL, e1, e2, ⟨hv, ⟨w, hw, hPw, hDw⟩, hF⟩, hgo⟩ := run T0 hT X0
  cases hv
  obtain ⟨k1, k2, k3⟩ := vx_keep (A0 := A) e0 e1 hS (fun q _ h => h.elim (fun z => by rw [z]; exact hA) (fun z => hE.2.2.2.1 _ (Nat.le_trans hS.1 z))) (fun q h => h.elim (fun z => by rw [z]; exact hA) (fun z => hE.2.2.2.1 _ (Nat.le_trans hS.1 z))) hL hF
  have hD2 := vaD_iff.mp hD
  have hp := List.pairwise_cons.mp hD2.1
  have hw2 := vaD_iff.mp hDw
  have hlt : ∀ z ∈ P, z.1 < H.size := fun z hz => va_at_lt (vaP_mem.mp hP z (List.mem_cons_of_mem _ hz))
  have hkeep : ∀ z ∈ P, T'.heap[z.1]? = H[z.1]? := fun z hz => k2 z.1 (hlt z hz) (fun h => h.elim (fun h => hp.1 z hz h.symm) (fun h => by have := hlt z hz; omega))
  have hP2 : va_P (gD Γ) xcl (w ++ P) T'.heap := vaP_mem.mpr fun z hz => by
    rcases List.mem_append.mp hz with hz | hz
    · rw [e1]; exact vaP_mem.mp hPw z hz
    · exact (vaP_mem.mp hP z (List.mem_cons_of_mem _ hz)).kept (hkeep z hz)
  have hD3 : va_D A (w ++ P) := vaD_iff.mpr ⟨List.pairwise_append.mpr ⟨hw2.1, hp.2, fun z hz y hy h => by
    rcases hw2.2 z hz with h9 | h9
    · exact hp.1 y hy (h9.symm.trans h)
    · have h8 := hlt y hy
      have h : z.1 = y.1 := h
      omega⟩, fun z hz => by
    rcases List.mem_append.mp hz with hz | hz
    · exact (hw2.2 z hz).elim (fun h => by rw [h]; exact hA) (fun h => hE.2.2.2.1 _ (Nat.le_trans hS.1 h))
    · exact hD2.2 z (List.mem_cons_of_mem _ hz)⟩
  obtain ⟨t2, a1, b1⟩ := kk w hw T'.heap (locs ++ L) ls hP2 hD3 k3 hl T' rfl X'
  exact ⟨t2, hgo t2 a1, b1⟩
theorem k_pre {Γ : xG} {a : Nat} {E0 : va_E} {s U : State} {H : Heap} {locs : List Loc} {av : List Value} (hE : EN Γ sz0 s) (h1 : sz0 ≤ s.heap.size) (h2 : ∀ q, A q → sz0 ≤ q) (hg : gdm Γ = fun _ => false) (hA : A a) (hP : va_P (gD Γ) xcl ((a, E0) :: P) H) (hS : va_S A s.heap H locs) (hU : U.heap = H) (hW : s.WarmedH U.vm) : PK Γ sz0 H.size av a E0 av.toArray U := by
  have hk : ∀ q : Nat, q < s.heap.size → ¬ AX Γ sz0 q → H[q]? = s.heap[q]? := fun q hq hn => hS.2.1 q hq (fun h => hn (Or.inr (h2 q h)))
  have hP1 : va_P (gD Γ) xcl [(a, E0)] H := fun i q hi => by
    cases i with
    | zero => cases hi; exact hP 0 _ rfl
    | succ i => cases hi
  exact ⟨rfl, by rw [hU], by rw [hU]; exact hP1, ⟨va_K.moved hW.alike hE.1, hE.2.1.warm hW, fun q hq => (hE.2.2.1 q hq).warm hW, by rw [hU]; exact (hE.2.2.2.1.kept hk).moved hW.alike, by rw [hU]; exact (hE.2.2.2.2.kept hk).moved hW.alike⟩, Nat.le_trans h1 hS.1, h2 a hA⟩
theorem k_init (hC : JC X cc own ret fr lc mc ms) (hE : JE X sz0 A) {a : Nat} {E0 : va_E} (hA : A a) {Q : va_W → Prop} {y : MethodName} {bytes : ByteArray} {maxL fr' lc' mc' ms' idx : Nat} (As : List Value) {nA : Nat} (hnA : As.length = nA) (hM : CK (XL X) y (ws_ y bytes maxL none) fr' lc' mc' ms' (XG X) sz0 (.ref a :: As) a E0 Q)
    (h1 : Cond.methodLink own idx y ∈ lw_all) (h2 : Cond.instanceMethod y ∈ lw_all) (h4 : Cond.initialized y.cls ∈ lw_all) (h5 : Cond.code y bytes maxL none ∈ lw_all) (hnm : y.name = "<init>")
    (hdesc : y.cls ≠ "java/lang/invoke/MethodHandle" ∧ y.cls ≠ "java/lang/invoke/VarHandle" ∧ (parseMethodDescriptor y.desc).map (fun d => d.parameters.length) = some nA)
    (hfr : Nat.ble (fr' + 1) fr = true) (hlc : Nat.ble (8 + (maxL + 11) + lc') lc = true) (hst : st = As.reverse ++ .ref a :: rest) (hrm : Nat.ble ((rest.map fun v => v.category).sum) 8 = true) (hk : Nat.ble (k + mc') mc = true) (hn : Nat.ble (n + ms') ms = true)
    (hd : decode cc pc = .ok (.invokespecial idx, 3)) (kk : ∀ w, Q w → JK X A Z (pc + 3) lv rest (w ++ P) (k + mc') (n + ms')) : JK X A Z pc lv st ((a, E0) :: P) k n := by
  refine k_after hE hA ?_ kk
  obtain ⟨p, l, e, R, s, m, args, below, meth, co, Γ, D, nL⟩ := X
  subst hst
  intro H locs ls hP hS hl
  have hR := hC.2.2.2.2.2.2.2.1
  have hts := hC.2.2.2.2.1
  exact ⟨_, va_runI (As := As) (rest := rest) ⟨hC.1, hC.2.1, hC.2.2.1, hC.2.2.2.1, hts⟩ (hM H.size) (cwI nA hts (lw_meth h5) rfl rfl rfl (hts _ h4) (hts _ h1) (hts _ h2) hnm hdesc ⟨by rw [hR]; exact Nat.le_of_ble_eq_true hfr, by rw [hR]; exact Nat.le_of_ble_eq_true hlc⟩) ⟨PK.blind, fun U hU hWm => k_pre hE.1 hE.2.1 hE.2.2.1 hE.2.2.2.2 hA hP hS hU hWm⟩ rfl hnA hl.1 rfl (lv_room (Nat.le_of_ble_eq_true hrm)) hd ⟨by rw [hR]; exact Nat.le_of_ble_eq_true hk, by rw [hR]; exact Nat.le_of_ble_eq_true hn⟩⟩
theorem k_initN (hC : JC X cc own ret fr lc mc ms) (hE : JE X sz0 A) {a : Nat} {E0 : va_E} (hA : A a) {Q : va_W → Prop} {y : MethodName} {bytes : ByteArray} {maxL fr' lc' mc' ms' idx : Nat} (As : List Value) {nA : Nat} (hnA : As.length = nA) (hM : CK (XL X) y (ws_ y bytes maxL none) fr' lc' mc' ms' (XG X) sz0 (.ref a :: As) a E0 Q) {host : String}
    (h1 : Cond.methodLinkNest own idx y host ∈ lw_tbl) (h2 : Cond.instanceMethod y ∈ lw_all) (h4 : Cond.initialized y.cls ∈ lw_all) (h5 : Cond.code y bytes maxL none ∈ lw_all) (hnm : y.name = "<init>")
    (hdesc : y.cls ≠ "java/lang/invoke/MethodHandle" ∧ y.cls ≠ "java/lang/invoke/VarHandle" ∧ (parseMethodDescriptor y.desc).map (fun d => d.parameters.length) = some nA)
    (hfr : Nat.ble (fr' + 1) fr = true) (hlc : Nat.ble (8 + (maxL + 11) + lc') lc = true) (hst : st = As.reverse ++ .ref a :: rest) (hrm : Nat.ble ((rest.map fun v => v.category).sum) 8 = true) (hk : Nat.ble (k + mc') mc = true) (hn : Nat.ble (n + ms') ms = true)
    (hd : decode cc pc = .ok (.invokespecial idx, 3)) (kk : ∀ w, Q w → JK X A Z (pc + 3) lv rest (w ++ P) (k + mc') (n + ms')) : JK X A Z pc lv st ((a, E0) :: P) k n := by
  refine k_after hE hA ?_ kk
  obtain ⟨p, l, e, R, s, m, args, below, meth, co, Γ, D, nL⟩ := X
  subst hst
  intro H locs ls hP hS hl
  have hR := hC.2.2.2.2.2.2.2.1
  have hts := hC.2.2.2.2.1
  exact ⟨_, va_runIN (As := As) (rest := rest) ⟨hC.1, hC.2.1, hC.2.2.1, hC.2.2.2.1, hts⟩ (hM H.size) ⟨va_cnB nA hts (lw_meth h5) rfl rfl rfl (hC.2.2.2.2.2.1.2.1.2.1 _ h1 rfl) (hts _ h4) hdesc ⟨by rw [hR]; exact Nat.le_of_ble_eq_true hfr, by rw [hR]; exact Nat.le_of_ble_eq_true hlc⟩, hnm, hts _ h2⟩ ⟨PK.blind, fun U hU hWm => k_pre hE.1 hE.2.1 hE.2.2.1 hE.2.2.2.2 hA hP hS hU hWm⟩ rfl hnA hl.1 rfl (lv_room (Nat.le_of_ble_eq_true hrm)) hd ⟨by rw [hR]; exact Nat.le_of_ble_eq_true hk, by rw [hR]; exact Nat.le_of_ble_eq_true hn⟩⟩
theorem k_vret {Q : va_W → Prop} {a : Nat} (hC : JC X cc own none fr lc mc ms) (hQ : Q P) (hk : Nat.ble k mc = true) (hn : Nat.ble n ms = true) (hd : decode cc pc = .ok (.return_, 1)) : JK X (AK X a) (ZK X Q a mc ms) pc lv [] P k n := by
  obtain ⟨p, l, e, R, s, m, args, below, meth, co, Γ, D, nL⟩ := X
  intro H locs ls hP hD hS hl
  exact W.widen (Nat.le_of_ble_eq_true hk) (Nat.le_of_ble_eq_true hn) (W.vret hC.1 hC.2.1 hC.2.2.2.2.2.2.2.2.1 (fun t ht _ => ⟨rfl, ⟨P, hQ, by rw [ht]; exact hP, hD⟩, hS.F ht⟩) hS.2.2 hd hC.2.2.2.2.2.2.2.2.2)
/-- a static field that holds some reference -/
theorem k_gets (hC : JC X cc own ret fr lc mc ms) (hE : JE X sz0 A) {C n9 d9 ref : String} {idx : Nat} (hZ : ∀ (A : Nat → Prop) (U : State) (H : Heap), ZZ A U H → va_Zq C n9 d9 A U H) (hq : Cond.fieldLink own idx ref n9 d9 ∈ lw_all) (href : C = ref) (hd : decode cc pc = .ok (.getstatic idx, 3)) (kk : ∀ b : Option Nat, JK X A Z (pc + 3) lv (va_rf b :: rest) P k n) : JK X A Z pc lv rest P k n := by
  obtain ⟨p, l, e, R, s, m, args, below, meth, co, Γ, D, nL⟩ := X
  subst href
  intro H locs ls hP hD hS hl
  have hz := (hZ _ _ _ hE.1.2.2.2.2).narrow (B := A) (fun q h => Or.inr (hE.2.2.1 q h))
  rcases hz with hz | ⟨t, hz⟩
  · exact va_gets hC.1 hC.2.1 hz hS hC.2.2.2.1 (hC.2.2.2.2.1 _ hq) (fun _ h => h) hd (kk none H locs ls hP hD hS hl)
  · exact va_gets hC.1 hC.2.1 hz hS hC.2.2.2.1 (hC.2.2.2.2.1 _ hq) (fun _ h => h) hd (kk (some t) H locs ls hP hD hS hl)
end
