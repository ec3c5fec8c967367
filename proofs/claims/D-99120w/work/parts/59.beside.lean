set_option maxRecDepth 100000
/-! what lies beside the world: new objects, and their constructors -/
abbrev gwP (P : va_W) (Γ : xG) : xG := (Γ.1, Γ.2.1, Γ.2.2.1, Γ.2.2.2.1, Γ.2.2.2.2.1, Γ.2.2.2.2.2.1, P)
abbrev xwP (P : va_W) (X : JX) : JX := (X.1, X.2.1, X.2.2.1, X.2.2.2.1, X.2.2.2.2.1, X.2.2.2.2.2.1, X.2.2.2.2.2.2.1, X.2.2.2.2.2.2.2.1, X.2.2.2.2.2.2.2.2.1, X.2.2.2.2.2.2.2.2.2.1, gwP P (XG X), XD X, nLof X)
theorem JC.xw {X : JX} {cc : ByteArray} {own : String} {ret : Option FieldType} {fr lc mc ms : Nat} (P : va_W) (h : JC X cc own ret fr lc mc ms) : JC (xwP P X) cc own ret fr lc mc ms := by
  obtain ⟨p, l, e, R, s, m, args, below, meth, co, Γ, D, nL⟩ := X
  exact h
theorem JT.xw {X : JX} (P : va_W) (h : JT X) : JT (xwP P X) := by
  obtain ⟨p, l, e, R, s, m, args, below, meth, co, Γ, D, nL⟩ := X
  exact h
section GW
set_option maxHeartbeats 40000
variable {P : va_W} {Γ : xG}
theorem nW_gw (a : Nat) : nW (gwP P Γ) a ↔ nW Γ a := Iff.rfl
theorem nX_gw (a : Nat) : nX (gwP P Γ) a ↔ nW Γ a ∧ ∀ z ∈ P, z.1 ≠ a := Iff.rfl
theorem vl_gw (aL : Nat → Nat) (f : Nat → Int32) (c : CId) (k : Nat) : vl (gwP P Γ) aL f c k = vl Γ aL f c k := by
  unfold vl
  generalize ly c k = y
  rcases y with (_ | _ | _) | _ <;> rfl
theorem vq_gw (aL : Nat → Nat) (f : Nat → Int32) (c : CId) (k : Nat) : vq (gwP P Γ) aL f c k = vq Γ aL f c k := by
  unfold vq
  generalize ly c k = y
  rcases y with (_ | _ | _) | _ <;> rfl
theorem cellE_gw (aL : Nat → Nat) (f : Nat → Int32) (c : CId) : cellE (gwP P Γ) aL f c = cellE Γ aL f c := by
  have h1 : vl (gwP P Γ) aL f c = vl Γ aL f c := funext (vl_gw aL f c)
  have h2 : vq (gwP P Γ) aL f c = vq Γ aL f c := funext (vq_gw aL f c)
  unfold cellE
  rw [h1, h2]
end GW
/-! other cells in the world: what the conditions say is carried over -/
section MV
variable {Γ Γ' : xG} {H : Heap}
theorem CTag.move (hD : gD Γ' = gD Γ) (hn : ∀ q : Nat, q < H.size → nX Γ q → nX Γ' q) {a : Nat} {f : Den} (h : CTag Γ a f H) : CTag Γ' a f H := by
  obtain ⟨k, h1, h2, h3, h4⟩ := h
  exact ⟨k, h1, hn _ (va_at_lt h3) h2, by rw [hD]; exact h3, h4⟩
theorem CNot.move (hD : gD Γ' = gD Γ) (hn : ∀ q : Nat, q < H.size → nX Γ q → nX Γ' q) {sub sub' : Nat → Den → Prop} (hs : ∀ b g, sub b g → sub' b g) {a : Nat} {f : Den} (h : CNot Γ sub a f H) : CNot Γ' sub' a f H := by
  obtain ⟨b, g, h1, h2, h3, h4⟩ := h
  exact ⟨b, g, hn _ (va_at_lt h2) h1, by rw [hD]; exact h2, hs _ _ h3, h4⟩
theorem ChL.move (hD : gD Γ' = gD Γ) (hn : ∀ q : Nat, q < H.size → nX Γ q → nX Γ' q) {sub sub' : Nat → Den → Prop} (hs : ∀ b g, sub b g → sub' b g) {al : Bool} {L : List (Nat × Nat × Den)} (h : ChL Γ sub al L H) : ChL Γ' sub' al L H := by
  intro i q hi
  obtain ⟨h1, h2, h3⟩ := h i q hi
  exact ⟨hn _ (va_at_lt h2) h1, by rw [hD]; exact h2, hs _ _ h3⟩
theorem CChain.move (hD : gD Γ' = gD Γ) (hn : ∀ q : Nat, q < H.size → nX Γ q → nX Γ' q) {sub sub' : Nat → Den → Prop} (hs : ∀ b g, sub b g → sub' b g) {a : Nat} {f : Den} (h : CChain Γ sub a f H) : CChain Γ' sub' a f H := by
  obtain ⟨al, L, h1, h2, h3⟩ := h
  exact ⟨al, L, h1, ChL.move hD hn hs h2, h3⟩
theorem SumAt.move (hD : gD Γ' = gD Γ) (hA : gA Γ' = gA Γ) (hn : ∀ q : Nat, q < H.size → nX Γ q → nX Γ' q) {a : Nat} {t : Nat → Int32} {n : Int32} (h : SumAt Γ a t n H) : SumAt Γ' a t n H := by
  obtain ⟨b, h1, h2, h3, h4⟩ := h
  exact ⟨b, hn _ (va_at_lt h3) h1, hn _ (va_at_lt h4) h2, by rw [hD]; exact h3, by rw [hD, hA]; exact h4⟩
theorem CLess.move (hD : gD Γ' = gD Γ) (hA : gA Γ' = gA Γ) (hn : ∀ q : Nat, q < H.size → nX Γ q → nX Γ' q) {a : Nat} {f : Den} (h : CLess Γ a f H) : CLess Γ' a f H := by
  obtain ⟨b1, b2, t1, t2, n1, n2, h1, h2, h3, h4, h5⟩ := h
  exact ⟨b1, b2, t1, t2, n1, n2, hn _ (va_at_lt h2) h1, by rw [hD]; exact h2, SumAt.move hD hA hn h3, SumAt.move hD hA hn h4, h5⟩
theorem CondN.move (hD : gD Γ' = gD Γ) (hA : gA Γ' = gA Γ) (hn : ∀ q : Nat, q < H.size → nX Γ q → nX Γ' q) (d : Nat) : ∀ (a : Nat) (f : Den), CondN Γ d a f H → CondN Γ' d a f H := by
  induction d with
  | zero => intro a f h; exact h
  | succ d ih =>
    intro a f h
    rcases h with h | h | h | h
    · exact Or.inl (CTag.move hD hn h)
    · exact Or.inr (Or.inl (CNot.move hD hn ih h))
    · exact Or.inr (Or.inr (Or.inl (CLess.move hD hA hn h)))
    · exact Or.inr (Or.inr (Or.inr (CChain.move hD hn ih h)))
theorem LnAt.move (hD : gD Γ' = gD Γ) (hA : gA Γ' = gA Γ) (hn : ∀ q : Nat, q < H.size → nX Γ q → nX Γ' q) {a : Nat} {d : LDen} (h : LnAt Γ a d H) : LnAt Γ' a d H := by
  obtain ⟨h1, b, h2, h3⟩ := h
  refine ⟨hn _ (va_at_lt h2) h1, b, by rw [hD]; exact h2, ?_⟩
  rcases h3 with h3 | ⟨q, h3, h4⟩
  · exact Or.inl h3
  · exact Or.inr ⟨q, h3, CondN.move hD hA hn _ _ _ h4⟩
end MV

theorem LnAt.carry {Γ Γ' : xG} {H H1 : Heap} (hD : gD Γ' = gD Γ) (hA : gA Γ' = gA Γ) (hn : ∀ q : Nat, q < H.size → nX Γ q → nX Γ' q) (hq : ∀ q : Nat, q < H.size → nX Γ' q → H1[q]? = H[q]?) {a : Nat} {d : LDen} (h : LnAt Γ a d H) : LnAt Γ' a d H1 := (h.move hD hA hn).kept hq
set_option maxHeartbeats 100000 in
theorem Wd_gw {Γ : xG} {P : va_W} {M : Mem} {D : List LDen} {H : Heap} : Wd (gwP P Γ) M D H ↔ ∃ aL : Nat → Nat, (∀ c, gdm Γ c = true → va_at (gD Γ) xcl (gadr Γ c, cellE Γ aL (M c) c) H) ∧ (∀ (i : Nat) (d : LDen), D[i]? = some d → LnAt (gwP P Γ) (aL i) d H) ∧ ∀ q ∈ P, nW Γ q.1 ∧ va_at (gD Γ) xcl q H := by
  unfold Wd WdA LnS
  simp only [cellE_gw, nW_gw]
set_option maxHeartbeats 100000 in
/-- the heap grew: the world stands, and new things lie beside it -/
theorem Wd.growG {Γ : xG} {P : va_W} {M : Mem} {D : List LDen} {H H1 : Heap} (h : Wd (gwP P Γ) M D H) (hq : ∀ q : Nat, q < H.size → H1[q]? = H[q]?) (N : va_W) (hN : ∀ z ∈ N, H.size ≤ z.1 ∧ va_at (gD Γ) xcl z H1) : Wd (gwP (N ++ P) Γ) M D H1 := by
  obtain ⟨aL, h1, h2, h3⟩ := Wd_gw.mp h
  refine Wd_gw.mpr ⟨aL, fun c hc => (h1 c hc).kept (hq _ (va_at_lt (h1 c hc))), fun i d hd => LnAt.carry (Γ := gwP P Γ) (Γ' := gwP (N ++ P) Γ) rfl rfl (fun q hl hx => ⟨hx.1, fun z hz => ?_⟩) (fun q hl _ => hq q hl) (h2 i d hd), fun z hz => ?_⟩
  · rcases List.mem_append.mp hz with hz | hz
    · have := (hN z hz).1
      omega
    · exact hx.2 z hz
  · rcases List.mem_append.mp hz with hz | hz
    · refine ⟨fun c hc e => ?_, (hN z hz).2⟩
      have := va_at_lt (h1 c hc)
      have h9 := (hN z hz).1
      have e : gadr Γ c = z.1 := e
      omega
    · exact ⟨(h3 z hz).1, (h3 z hz).2.kept (hq _ (va_at_lt (h3 z hz).2))⟩
theorem Wd.grow {Γ : xG} {M : Mem} {D : List LDen} {H H1 : Heap} (h : Wd Γ M D H) (hq : ∀ q : Nat, q < H.size → H1[q]? = H[q]?) (N : va_W) (hN : ∀ z ∈ N, H.size ≤ z.1 ∧ va_at (gD Γ) xcl z H1) : Wd (gwP (N ++ gP Γ) Γ) M D H1 := by
  obtain ⟨g1, g2, g3, g4, g5, g6, g7⟩ := Γ
  exact Wd.growG (Γ := (g1, g2, g3, g4, g5, g6, g7)) (P := g7) h hq N hN
set_option maxHeartbeats 100000 in
/-- one thing beside the world was changed, others are new -/
theorem Wd.putP {Γ : xG} {M : Mem} {D : List LDen} {H H1 : Heap} {P1 P2 : va_W} {a : Nat} {E0 E1 : va_E} (h : Wd (gwP (P1 ++ (a, E0) :: P2) Γ) M D H) (hq : ∀ q : Nat, q < H.size → q ≠ a → H1[q]? = H[q]?) (he : va_at (gD Γ) xcl (a, E1) H1) (hP : ∀ z ∈ P1 ++ P2, z.1 ≠ a) (N : va_W) (hN : ∀ z ∈ N, H.size ≤ z.1 ∧ va_at (gD Γ) xcl z H1) : Wd (gwP (N ++ (P1 ++ (a, E1) :: P2)) Γ) M D H1 := by
  obtain ⟨aL, h1, h2, h3⟩ := Wd_gw.mp h
  have ha : nW Γ a := (h3 (a, E0) (List.mem_append.mpr (Or.inr List.mem_cons_self))).1
  have key : ∀ z ∈ P1 ++ (a, E1) :: P2, z = (a, E1) ∨ (z ∈ P1 ++ (a, E0) :: P2 ∧ z.1 ≠ a) := by
    intro z hz
    rcases List.mem_append.mp hz with h9 | h9
    · exact Or.inr ⟨List.mem_append.mpr (Or.inl h9), hP z (List.mem_append.mpr (Or.inl h9))⟩
    · rcases List.mem_cons.mp h9 with h9 | h9
      · exact Or.inl h9
      · exact Or.inr ⟨List.mem_append.mpr (Or.inr (List.mem_cons_of_mem _ h9)), hP z (List.mem_append.mpr (Or.inr h9))⟩
  refine Wd_gw.mpr ⟨aL, fun c hc => (h1 c hc).kept (hq _ (va_at_lt (h1 c hc)) (ha c hc)), fun i d hd => LnAt.carry (Γ := gwP (P1 ++ (a, E0) :: P2) Γ) (Γ' := gwP (N ++ (P1 ++ (a, E1) :: P2)) Γ) rfl rfl (fun q hl hx => ⟨hx.1, fun z hz => ?_⟩) (fun q hl hx => hq q hl (fun e => hx.2 (a, E1) (List.mem_append.mpr (Or.inr (List.mem_append.mpr (Or.inr List.mem_cons_self)))) e.symm)) (h2 i d hd), fun z hz => ?_⟩
  · rcases List.mem_append.mp hz with hz | hz
    · have := (hN z hz).1
      omega
    · rcases key z hz with rfl | ⟨h9, -⟩
      · exact hx.2 (a, E0) (List.mem_append.mpr (Or.inr List.mem_cons_self))
      · exact hx.2 z h9
  · rcases List.mem_append.mp hz with hz | hz
    · refine ⟨fun c hc e => ?_, (hN z hz).2⟩
      have := va_at_lt (h1 c hc)
      have h9 := (hN z hz).1
      have e : gadr Γ c = z.1 := e
      omega
    · rcases key z hz with rfl | ⟨h9, h8⟩
      · exact ⟨ha, he⟩
      · exact ⟨(h3 z h9).1, (h3 z h9).2.kept (hq _ (va_at_lt (h3 z h9).2) h8)⟩
set_option maxHeartbeats 100000 in
/-- what lies beside may be forgotten -/
theorem Wd.drop {Γ : xG} {M : Mem} {D : List LDen} {H : Heap} {P P' : va_W} (h : Wd (gwP P Γ) M D H) (hs : ∀ z ∈ P', z ∈ P) : Wd (gwP P' Γ) M D H := by
  obtain ⟨aL, h1, h2, h3⟩ := Wd_gw.mp h
  exact Wd_gw.mpr ⟨aL, h1, fun i d hd => LnAt.carry (Γ := gwP P Γ) (Γ' := gwP P' Γ) rfl rfl (fun q hl hx => ⟨hx.1, fun z hz => hx.2 z (hs z hz)⟩) (fun q _ _ => rfl) (h2 i d hd), fun z hz => h3 z (hs z hz)⟩
section
variable {ρ : Type} {X : JX} {Z : ρ → State → Prop} {pr : Option ρ} {pc : Nat} {lv : List (Nat × Value)} {rest : List Value} {M : Mem} {k n : Nat} {cc : ByteArray} {own : String} {ret : Option FieldType} {fr lc mc ms : Nat}
set_option maxHeartbeats 200000 in
theorem j_new (hC : JC X cc own ret fr lc mc ms) {ci idx N : Nat} {C : String} {T : u_T} {fs : List Value} (hcl : xcl[ci]? = some (C, T, N)) (hin : ∀ w ∈ u_ws C T N, w ∈ lw_all) (ty : Nat → FieldType) (hty : ∀ k, k < N → parseFieldDescriptor (T k).2.2.1 = some (ty k)) (hfs : ∀ j, j < N → defaultValue (ty j) = vp_V fs j) (hq : Cond.classLink own idx C ∈ lw_all) (hinst : Cond.instantiable C N ∈ lw_all) (hini : Cond.initialized C ∈ lw_all) (hk : k + 1 ≤ mc) (hn : n + N ≤ ms) (hd : decode cc pc = .ok (.new idx, 3))
    (kk : ∀ q : Nat, (XS X).heap.size ≤ q → (∀ z ∈ gP (XG X), z.1 ≠ q) → J (xwP ((q, .inr (ci, fs)) :: gP (XG X)) X) Z pr (pc + 3) lv (.ref q :: rest) M (k + 1) (n + N)) : J X Z pr pc lv rest M k n := by
  obtain ⟨p, l, e, R, s, m, args, below, meth, co, Γ, D, nL⟩ := X
  intro r hr H locs ls hW hS hl
  have hR := hC.2.2.2.2.2.2.2.1
  have hKn := hC.2.2.2.2.2.1.1.1 ci _ hcl
  refine W.newcK hC.1 hC.2.1 hC.2.2.2.1 (hC.2.2.2.2.1 _ hq) (hC.2.2.2.2.1 _ hinst) (hC.2.2.2.2.1 _ hini) rfl hd (by rw [hR]; exact hk) (by rw [hR]; exact hn) hKn.2.1 rfl fun H1 kC hkC e1 z1 o1 => ?_
  have hWn : ∀ z ∈ gP Γ, z.1 ≠ H.size := by
    obtain ⟨aL, -, -, h3⟩ := hW
    intro z hz
    have := va_at_lt (h3 z hz).2
    omega
  refine kk H.size hS.1 hWn r hr H1 locs ls ?_ ⟨Nat.le_trans hS.1 (by omega), fun x h1 h2 => (o1 x (Nat.lt_of_lt_of_le h1 hS.1)).trans (hS.2.1 x h1 h2), hS.2.2⟩ hl
  exact Wd.grow hW (fun q h => o1 q h) [(H.size, .inr (ci, fs))] (fun z hz => by
    rw [List.mem_singleton.mp hz]
    exact ⟨Nat.le_refl _, _, hcl, (u_born ty hC.2.2.2.2.1 hin hKn hkC e1 hty).to hfs⟩)
end
