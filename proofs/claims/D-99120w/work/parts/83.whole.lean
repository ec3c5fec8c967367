set_option maxRecDepth 100000
/-! the law's start: x, the model, the array, then the loop -/
section
variable {X : JX} {A : Nat → Prop} {Z : State → Prop} {pc : Nat} {lv : List (Nat × Value)} {rest st : List Value} {P P' : va_W} {k n sz0 : Nat} {cc : ByteArray} {own : String} {ret : Option FieldType} {fr lc mc ms : Nat}
theorem k_astore_n (hC : JC X cc own ret fr lc mc ms) {q : Fin 4} {x : Nat} (lv' : List (Nat × Value)) {nl : Nat} (hnl : nLof X = nl) (hd : decode cc pc = .ok (.astore_n q, 1)) (hi : Nat.ble ((q : Nat) + 1) nl = true) (hl' : ((q : Nat), Value.ref x) :: lv.filter (fun z => !(z.1 == (q : Nat)) && !(z.1 + 1 == (q : Nat) && z.2.category == 2)) = lv') (kk : JK X A Z (pc + 1) lv' rest P k n) : JK X A Z pc lv (.ref x :: rest) P k n := by
  obtain ⟨p, l, e, R, s, m, args, below, meth, co, Γ, D, nL⟩ := X
  intro H locs ls hP hD hS hl
  exact lv_astore_n hC.1 hC.2.1 hd rfl hl (by have h := Nat.le_of_ble_eq_true hi; rw [← hnl] at h; exact h) hl' (fun ls' hl2 => kk H locs ls' hP hD hS hl2)
theorem k_istore (hC : JC X cc own ret fr lc mc ms) {i : Nat} {x : Int32} (lv' : List (Nat × Value)) {nl : Nat} (hnl : nLof X = nl) (hd : decode cc pc = .ok (.istore i, 2)) (hi : Nat.ble (i + 1) nl = true) (hl' : (i, Value.int x) :: lv.filter (fun z => !(z.1 == i) && !(z.1 + 1 == i && z.2.category == 2)) = lv') (kk : JK X A Z (pc + 2) lv' rest P k n) : JK X A Z pc lv (.int x :: rest) P k n := by
  obtain ⟨p, l, e, R, s, m, args, below, meth, co, Γ, D, nL⟩ := X
  intro H locs ls hP hD hS hl
  exact lv_istore hC.1 hC.2.1 hd hl (by have h := Nat.le_of_ble_eq_true hi; rw [← hnl] at h; exact h) hl' (fun ls' hl2 => kk H locs ls' hP hD hS hl2)
end
theorem G1_EN {Γ : xG} {g : AG} {s : State} (hE : EN Γ s.heap.size s) (hA : ∀ c, gdm (G1 Γ g) c = true → s.heap.size ≤ gadr (G1 Γ g) c) : (∀ q, AX (G1 Γ g) s.heap.size q → s.heap.size ≤ q) ∧ EN (G1 Γ g) s.heap.size s := by
  have h1 : ∀ q, AX (G1 Γ g) s.heap.size q → s.heap.size ≤ q := fun q hq => hq.elim (fun ⟨c, hc, e⟩ => by rw [← e]; exact hA c hc) id
  have h2 : ∀ q, AX (G1 Γ g) s.heap.size q → AX Γ s.heap.size q := fun q hq => Or.inr (h1 q hq)
  obtain ⟨e1, e2, e3, e4, e5⟩ := hE
  exact ⟨h1, e1, e2, e3, fun i hi => ⟨(e4 i hi).1.narrow h2, (e4 i hi).2.1.narrow h2, (e4 i hi).2.2.1.narrow h2, (e4 i hi).2.2.2.narrow h2⟩, e5.narrow h2⟩
theorem law_start {X : JX} {b : Nat} (hC : JC X cL_law RX0 (some .boolean) 8192 104096 603072 7190634) (hE : JE X (XS X).heap.size (fun q => (XS X).heap.size ≤ q)) (hnl : nLof X = 7) {Z : State → Prop}
    (hZ : ∀ (g : AG), JK X (fun q => (XS X).heap.size ≤ q) Z 23 [(4, .int 0), (3, .ref (aO g)), (2, .ref (aMa g)), (1, .ref (aFa g)), (0, .ref b)] [] ([(aO g, .inl (gA (XG X) 8, 1, .inr (.inl fun _ => 0)))] ++ (moL (XG X) (aMa g) (aMd g) ++ fyL (XG X) (aFa g) (aD g) (aR g) (aE g) (aSd g) (aWd g))) 432 22234) :
    JK X (fun q => (XS X).heap.size ≤ q) Z 0 [(0, .ref b)] [] [] 0 0 := by
  refine k_new (ci := 0) (fs := [.null, .null, .null, .null, .null, .null, .null, .null, .null, .null, .null, .null, .int 0, .int 0, .int 0, .int 0]) hC hE rfl in_X1 tyX1 tyX1_ok (allLt_use (by repeat (first | exact True.intro | refine ⟨?_, rfl⟩))) q158 q159 q126 rfl rfl dL_law_0 (fun a1 ha1 => ?_)
  refine k_dup hC dL_law_3 rfl ?_
  refine k_init (nA := 0) (rest := [.ref a1]) hC hE ha1 [] rfl (kcX1 (XL X) (XG X) hE.2.2.2.2 (XS X).heap.size a1) q160 q161 q126 q162 rfl (by decide +kernel) rfl rfl rfl rfl rfl rfl dL_law_4 (fun w1 hw1 => ?_)
  obtain ⟨ad, adr, ade, sd, wd, rfl⟩ := hw1
  refine k_astore_n hC [(1, .ref a1), (0, .ref b)] hnl dL_law_7 rfl rfl ?_
  refine k_new (ci := 7) (fs := [.int 0, .null, .null, .null, .null, .null, .int 0, .int 0, .null, .int 0, .int 0, .int 0, .int 0, .int 0, .int 0, .null, .int 0, .null, .int 0, .int 0, .int 0, .int 0, .null, .null, .null, .int 0, .int 0, .null, .null, .null]) hC hE rfl in_X8 tyX8 tyX8_ok (allLt_use (by repeat (first | exact True.intro | refine ⟨?_, rfl⟩))) q1458 q1459 q136 rfl rfl dL_law_8 (fun a2 ha2 => ?_)
  refine k_dup hC dL_law_11 rfl ?_
  refine k_init (nA := 0) (rest := [.ref a2]) hC hE ha2 [] rfl (kcX8 (XL X) (XG X) hE.2.2.2.2 (XS X).heap.size a2) q1460 q1461 q136 q1462 rfl (by decide +kernel) rfl rfl rfl rfl rfl rfl dL_law_12 (fun w2 hw2 => ?_)
  obtain ⟨adm, rfl⟩ := hw2
  refine k_astore_n hC [(2, .ref a2), (1, .ref a1), (0, .ref b)] hnl dL_law_15 rfl rfl ?_
  refine k_iconst (v := 1) hC dL_law_16 (by decide) ?_
  refine k_newaJ (N := 1) hC hE q2113 (by decide) (by decide) rfl rfl rfl dL_law_17 (fun q1 => ?_)
  refine k_astore_n hC [(3, .ref q1), (2, .ref a2), (1, .ref a1), (0, .ref b)] hnl dL_law_19 rfl rfl ?_
  refine k_iconst (v := 0) hC dL_law_20 (by decide) ?_
  refine k_istore hC [(4, .int 0), (3, .ref q1), (2, .ref a2), (1, .ref a1), (0, .ref b)] hnl dL_law_21 rfl rfl ?_
  have h := hZ (a1, ad, adr, ade, sd, wd, a2, adm, q1)
  rw [List.append_nil]
  exact h
theorem k_toJ {X : JX} {Z : State → Prop} {g : AG} (hE : EN (XG X) (XS X).heap.size (XS X)) {pc : Nat} {lv : List (Nat × Value)} {st : List Value} {k n : Nat} (hg : gdm (XG X) = fun _ => false)
    (kk : ∀ (p : Program) (l : Launch) (e : Env) (R : Room) (s : State) (m : MethodId) (args : Array Value) (below : List Frame) (meth : Method) (c : Code) (Γ : xG) (D : List LDen) (nL : Nat), X = (p, l, e, R, s, m, args, below, meth, c, Γ, D, nL) → GOK (G1 Γ g) → EN (G1 Γ g) s.heap.size s → (∀ q, AX (G1 Γ g) s.heap.size q → s.heap.size ≤ q) → ∃ (ρ : Type) (r : ρ) (Z' : ρ → State → Prop), (∀ t, Z' r t → Z t) ∧ J (p, l, e, R, s, m, args, below, meth, c, G1 Γ g, [], nL) Z' (some r) pc lv st M0 k n) :
    JK X (fun q => (XS X).heap.size ≤ q) Z pc lv st ([(aO g, .inl (gA (XG X) 8, 1, .inr (.inl fun _ => 0)))] ++ (moL (XG X) (aMa g) (aMd g) ++ fyL (XG X) (aFa g) (aD g) (aR g) (aE g) (aSd g) (aWd g))) k n := by
  obtain ⟨p, l, e, R, s, m, args, below, meth, c, Γ, D, nL⟩ := X
  intro H locs ls hP hD hS hl
  obtain ⟨w1, w2, w3⟩ := Wd_start hP hD
  obtain ⟨h1, h2⟩ := G1_EN (g := g) hE w3
  obtain ⟨ρ, r, Z', hz, hj⟩ := kk p l e R s m args below meth c Γ D nL rfl w2 h2 h1
  have hS2 : va_S (AX (G1 Γ g) s.heap.size) s.heap H locs := by
    refine ⟨hS.1, fun q hq hn => hS.2.1 q hq (fun h => absurd hq (Nat.not_lt.mpr h)), fun q hq => Or.inr (hS.2.2 q hq)⟩
  have h := hj r rfl H locs ls w1 hS2 hl
  intro T hT X0
  obtain ⟨t, a1, b1⟩ := h T hT X0
  exact ⟨t, a1, hz t b1⟩
/-- what is left to show of the pure program -/
def PLAIN : Prop := ∀ L : Nat, L ≤ 384 → ∀ xs : Nat → Int32, ∃ (fu fu' c : Nat) (M : Mem), FLoop fu L xs fu' M0 [] 0 = some (0, 1, c, M) ∧ c ≤ 602640
theorem whole_of (hPl : PLAIN) (l : Launch) (hflags : l.flags = flags0) {p : Program} {e : Env} {s : State} {m : MethodId} {below : List Frame} {meth : Method} {c : Code} {b L : Nat} {xs : Nat → Int32} (hL : L ≤ 384) (h : lw_At p s m meth c b L xs) : W p l e room_1 s m #[Value.ref b] below meth c s.heap [] 0 0 (lw_Z below #[Value.ref b] s) (entryFrame m ([Value.ref b] : List Value).toArray 7) := by
  obtain ⟨h1, h2, h3, h4, h5, h6, h7, h8, h9, h10⟩ := h
  obtain ⟨Γ, hg, -, hE⟩ := EN_start h6 h10
  have hts : ∀ w ∈ lw_all, w.before #[Value.ref b] s = true := fun w h => h6 w (lw_all_tbl h)
  have hGO : GOK Γ := fun c d hc => by rw [hg] at hc; cases hc
  have hC : JC (p, l, e, room_1, s, m, #[Value.ref b], below, meth, c, Γ, [], 7) cL_law RX0 (some .boolean) 8192 104096 603072 7190634 := ⟨h1, h2, h4, h5, hts, hE, hGO, rfl, h3, h9⟩
  have hJE : JE (p, l, e, room_1, s, m, #[Value.ref b], below, meth, c, Γ, [], 7) s.heap.size (fun q => s.heap.size ≤ q) := ⟨hE, Nat.le_refl _, fun q h => h, fun q h => h, hg⟩
  have hst : l.stackTraces = false := by
    unfold Launch.stackTraces
    rw [hflags]
    rfl
  have key : JK (p, l, e, room_1, s, m, #[Value.ref b], below, meth, c, Γ, [], 7) (fun q => s.heap.size ≤ q) (lw_Z below #[Value.ref b] s) 0 [(0, .ref b)] [] [] 0 0 := by
    refine law_start (X := (p, l, e, room_1, s, m, #[Value.ref b], below, meth, c, Γ, [], 7)) hC hJE rfl (fun g => ?_)
    refine k_toJ (X := (p, l, e, room_1, s, m, #[Value.ref b], below, meth, c, Γ, [], 7)) hE hg (fun p' l' e' R' s' m' args' below' meth' c' Γ' D' nL' hX hGO2 hE2 hA2 => ?_)
    cases hX
    obtain ⟨fu, fu', cn, M, hF, hcn⟩ := hPl L hL xs
    have hC2 : JC (p, l, e, room_1, s, m, #[Value.ref b], below, meth, c, G1 Γ g, [], 7) cL_law RX0 (some .boolean) 8192 104096 603072 7190634 := ⟨h1, h2, h4, h5, hts, hE2, hGO2, rfl, h3, h9⟩
    have hl := wL_loop (X := (p, l, e, room_1, s, m, #[Value.ref b], below, meth, c, G1 Γ g, [], 7)) hC2 rfl hA2 (fun c hc => by show (dmX c || dmM c) = true; rw [hc]; rfl) (fun c hc => by show (dmX c || dmM c) = true; rw [hc, Bool.or_true]) hst rfl rfl rfl ⟨h7, h8, fun h => absurd h8 (Nat.not_lt.mpr (hA2 _ h))⟩ hL fu fu' M0 [] 0 432 22234 602640 (by omega) (by omega) (by omega)
    have e9 : lm 602640 (FLoop fu L xs fu' M0 [] 0) = some (0, 1, cn, M) := by
      rw [hF]
      exact if_pos hcn
    rw [e9] at hl
    exact ⟨_, _, _, fun t hz => hz rfl, hl⟩
  have h := key s.heap [] _ (vaP_mem.mpr fun z hz => by cases hz) (vaD_iff.mpr ⟨List.Pairwise.nil, fun z hz => by cases hz⟩) va_S.rf (lv_entry [Value.ref b] (n := 7) (Nat.le_of_ble_eq_true rfl))
  rw [lg_entry_eq]
  exact h
