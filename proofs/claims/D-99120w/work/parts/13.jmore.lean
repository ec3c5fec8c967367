set_option maxRecDepth 100000
def lt {α β : Type} (a : α) (k : α → Option β) : Option β := k a
/-- one of a switch's arms -/
def swt {ρ : Type} (x : Int32) (lo : Int) (As : List (Option ρ)) (d : Option ρ) : Option ρ := if x.toInt < lo ∨ lo + (As.length : Int) ≤ x.toInt then d else (As[(x.toInt - lo).toNat]?).getD d
def swJ {ρ : Type} (P : Option ρ → Int → Prop) : List (Option ρ) → List Int → Prop
  | A :: As, o :: os => P A o ∧ swJ P As os
  | _, _ => True
theorem swJ_at {ρ : Type} {P : Option ρ → Int → Prop} : ∀ {As : List (Option ρ)} {os : List Int} {j : Nat} {A : Option ρ} {o : Int}, swJ P As os → As[j]? = some A → os[j]? = some o → P A o
  | [], _, _, _, _, _, h, _ => by simp at h
  | _ :: _, [], _, _, _, _, _, h => by simp at h
  | A0 :: As, o0 :: os, 0, A, o, h, h1, h2 => by cases h1; cases h2; exact h.1
  | A0 :: As, o0 :: os, j + 1, A, o, h, h1, h2 => swJ_at (j := j) h.2 h1 h2
theorem JT.st {X : JX} (h : JT X) : (XL X).stackTraces = false := by
  obtain ⟨p, l, e, R, s, m, args, below, meth, co, Γ, D, nL⟩ := X
  exact h.2
theorem dmS {Γ : xG} (hG : dmI dmX Γ) {s i : Nat} (hs : s < 15) (hi : Nat.ble (i + 1) 8 = true) : gdm Γ (0, s, i) = true := by
  have h := Nat.le_of_ble_eq_true hi
  refine hG _ ?_; simp [dmX]; omega
theorem dmB {Γ : xG} (hG : dmI dmX Γ) {s i : Nat} (hs : s < 15) (hi : i < 6) : gdm Γ (1, s, i) = true := by
  refine hG _ ?_; simp [dmX]; omega
theorem dmC {Γ : xG} (hG : dmI dmX Γ) {s i : Nat} (hs : s < 15) (hi : i < 12) : gdm Γ (2, s, i) = true := by
  refine hG _ ?_; simp [dmX]; omega
theorem dmW {Γ : xG} (hG : dmI dmX Γ) {s i : Nat} (hs : s < 2) (hi : Nat.ble (i + 1) 6 = true) : gdm Γ (3, s, i) = true := by
  have h := Nat.le_of_ble_eq_true hi
  refine hG _ ?_; simp [dmX]; omega
theorem dmY {Γ : xG} (hG : dmI dmX Γ) {i : Nat} (hi : Nat.ble (i + 1) 14 = true) : gdm Γ (4, 0, i) = true := by
  have h := Nat.le_of_ble_eq_true hi
  refine hG _ ?_; simp [dmX]; omega
theorem dmMo {Γ : xG} (hG : dmI dmM Γ) {i : Nat} (hi : Nat.ble (i + 1) 15 = true) : gdm Γ (5, 0, i) = true := by
  have h := Nat.le_of_ble_eq_true hi
  refine hG _ ?_; simp [dmM]; omega
theorem vin_lt {i : Int32} {n : Nat} (h : vp_in i n) : i.toNatClampNeg < n := Nat.not_le.mp fun q => h (Or.inr q)
section JMORE
variable {ρ : Type} {X : JX} {Z : ρ → State → Prop} {pr : Option ρ} {pc : Nat} {lv : List (Nat × Value)} {rest st : List Value} {M : Mem} {k n : Nat} {cc : ByteArray} {own : String} {ret : Option FieldType} {fr lc mc ms : Nat}
theorem j_lt {kont : Mem → Option ρ} (kk : ∀ M1, J X Z (kont M1) pc lv st M1 k n) : J X Z (lt M kont) pc lv st M k n := kk M
theorem j_ltT {x : Int32} {kont : Int32 → Option ρ} (kk : ∀ y, J X Z (kont y) pc lv (.int y :: rest) M k n) : J X Z (lt x kont) pc lv (.int x :: rest) M k n := kk x
theorem j_iincL (hC : JC X cc own ret fr lc mc ms) {i : Nat} {z : Int} {w x : Int32} {kont : Int32 → Option ρ} (j : Nat) (lv' : Int32 → List (Nat × Value)) {nl : Nat} (hnl : nLof X = nl) (hd : decode cc pc = .ok (.iinc i z, 3)) (hj : lv[j]? = some (i, .int x)) (hw : Int32.ofInt z = w) (hi : Nat.ble (i + 1) nl = true) (hl' : ∀ v, (i, Value.int v) :: lv.filter (fun z => !(z.1 == i) && !(z.1 + 1 == i && z.2.category == 2)) = lv' v) (kk : ∀ v, J X Z (kont v) (pc + 3) (lv' v) rest M k n) : J X Z (lt (x + w) kont) pc lv rest M k n :=
  j_iinc hC (v := x + w) j (lv' (x + w)) hnl hd hj (by rw [hw]) hi (hl' _) (kk _)
theorem j_gd {i : Int32} {L : Nat} (kk : vp_in i L → J X Z pr pc lv st M k n) : J X Z (gd i L pr) pc lv st M k n := by
  obtain ⟨p, l, e, R, s, m, args, below, meth, co, Γ, D, nL⟩ := X
  intro r hr
  by_cases hin : i < 0 ∨ L ≤ i.toNatClampNeg
  · rw [gd, if_pos hin] at hr; cases hr
  · rw [gd, if_neg hin] at hr
    exact kk hin r hr
theorem j_widen {k' n' : Nat} (h1 : Nat.ble k k' = true) (h2 : Nat.ble n n' = true) (kk : J X Z pr pc lv st M k' n') : J X Z pr pc lv st M k n := by
  obtain ⟨p, l, e, R, s, m, args, below, meth, co, Γ, D, nL⟩ := X
  intro r hr H locs ls hW hS hl
  exact W.widen (Nat.le_of_ble_eq_true h1) (Nat.le_of_ble_eq_true h2) (kk r hr H locs ls hW hS hl)
theorem j_table (hC : JC X cc own ret fr lc mc ms) {x : Int32} {dflt lo hi : Int} {offs : Array Int} {os : List Int} {len tgt : Nat} {As : List (Option ρ)} {d : Option ρ} (hd : decode cc pc = .ok (.tableswitch dflt lo hi offs, len)) (ho : offs = ⟨os⟩) (hn : os.length = As.length) (hh : lo + (As.length : Int) = hi + 1) (hpos : ∀ o ∈ os, 0 ≤ (pc : Int) + o) (ht : (pc : Int) + dflt = (tgt : Int))
    (kd : J X Z d tgt lv rest M k n) (ks : swJ (fun A o => J X Z A ((pc : Int) + o).toNat lv rest M k n) As os) : J X Z (swt x lo As d) pc lv (.int x :: rest) M k n := by
  obtain ⟨p, l, e, R, s, m, args, below, meth, co, Γ, D, nL⟩ := X
  intro r hr H locs ls hW hS hl
  by_cases h0 : x.toInt < lo ∨ lo + (As.length : Int) ≤ x.toInt
  · rw [swt, if_pos h0] at hr
    exact lv_tableOut hC.1 hC.2.1 hd (h0.imp id fun h => by omega) ht (kd r hr H locs ls hW hS hl)
  · rw [swt, if_neg h0] at hr
    have hj : (x.toInt - lo).toNat < As.length := by omega
    obtain ⟨A, hA⟩ : ∃ A, As[(x.toInt - lo).toNat]? = some A := ⟨_, List.getElem?_eq_getElem hj⟩
    obtain ⟨o, hO⟩ : ∃ o, os[(x.toInt - lo).toNat]? = some o := ⟨_, List.getElem?_eq_getElem (by rw [hn]; exact hj)⟩
    rw [hA] at hr
    have h1 := swJ_at ks hA hO
    have hp := hpos o (List.mem_of_getElem? hO)
    exact lv_tableIn (off := o) (tgt := ((pc : Int) + o).toNat) hC.1 hC.2.1 hd (by omega) (by omega) (by rw [ho]; simpa using hO) (by omega) (h1 r hr H locs ls hW hS hl)
theorem j_ldcS (hC : JC X cc own ret fr lc mc ms) {idx i : Nat} {tx : String} (hq : (own, idx, tx, i) ∈ strR) (hd : decode cc pc = .ok (.ldc idx, 2)) (kk : J X Z pr (pc + 2) lv (.ref (gadr (XG X) (6, 0, i)) :: rest) M k n) : J X Z pr pc lv rest M k n := by
  obtain ⟨p, l, e, R, s, m, args, below, meth, co, Γ, D, nL⟩ := X
  intro r hr H locs ls hW hS hl
  exact va_ldcS hC.1 hC.2.1 hC.2.2.2.1 (hC.2.2.2.2.2.1.2.2.1 _ hq) hd (kk r hr H locs ls hW hS hl)
end JMORE
section JENDS2
variable {X : JX} {pc : Nat} {lv : List (Nat × Value)} {M : Mem} {cc : ByteArray} {own : String} {fr lc mc ms k n : Nat} {ret : Option FieldType}
theorem W_zretG {p : Program} {l : Launch} {e : Env} {R : Room} {s : State} {m : MethodId} {args : Array Value} {below : List Frame} {meth : Method} {c : Code} {H : Heap} {locs : List Loc} {cells slots : Nat} {Qc : Array Value → State → Outcome → State → Prop} {free : Addr → Prop} {v w : Int32} {ty : FieldType} (hexec : p.tables.exec = Jvm.exec) (hb : c.code = cc) (hr : meth.sig.returnType = some ty) (hn : narrow ty (.int v) = .int w)
    (hq : ∀ t : State, t.heap = H → s.WarmedH t.vm → Qc args s (.returned (some (.int w))) t) (hf : ∀ q ∈ locs, free q.base)
    {ls : Array Slot} (hdg : decode cc pc = .ok (.ireturn, 1)) (hlocks : meth.locks = false) : W p l e R s m args below meth c H locs cells slots (MQ below Qc args s cells slots free) (F0 m pc ls [.int v]) := by
  intro T hT X
  obtain ⟨fs, hret, hrun, hended, hW, hframe⟩ := X.leave (v := some (.int w)) (fun h => by rw [hr] at h; cases h)
  have hmeth' : T.vm.method? m = some meth := X.method'
  refine ⟨T.setFrames fs, ?_, .returned (some (.int w)), hrun, hended, hq _ hT hW, locs, ⟨⟨_, rfl⟩, hW, hframe⟩, hf⟩
  jvm_step X.here [X.here.top, hexec, hb, hdg, hmeth', hr, hn]
  (try refine ⟨rfl, ?_⟩); (try refine ⟨rfl, ?_⟩)
  first | (intro acts; rw [hret _ acts rfl rfl rfl]) | rw [hret _ _ rfl rfl rfl]
  exact Steps.refl _
theorem j_zret (hC : JC X cc own (some .boolean) fr lc mc ms) {v w : Int32} (hw : v &&& 1 = w) (hd : decode cc pc = .ok (.ireturn, 1)) : J X (ZN X foI) (some (w, M)) pc lv [.int v] M 0 0 := by
  obtain ⟨p, l, e, R, s, m, args, below, meth, co, Γ, D, nL⟩ := X
  intro r hr H locs ls hW hS hl
  cases hr
  exact W_zretG hC.1 hC.2.1 hC.2.2.2.2.2.2.2.2.1 (by rw [← hw]; rfl) (fun t ht _ => ⟨rfl, by rw [ht]; exact hW, hS.F ht⟩) hS.2.2 hd hC.2.2.2.2.2.2.2.2.2
theorem j_zretT (hC : JC X cc own (some .boolean) fr lc mc ms) {v w : Int32} (hw : v &&& 1 = w) (hk : Nat.ble k mc = true) (hn : Nat.ble n ms = true) (hd : decode cc pc = .ok (.ireturn, 1)) : J X (ZT X foI mc ms) (some (0, w, M)) pc lv [.int v] M k n := by
  obtain ⟨p, l, e, R, s, m, args, below, meth, co, Γ, D, nL⟩ := X
  intro r hr H locs ls hW hS hl
  cases hr
  exact W.widen (Nat.le_of_ble_eq_true hk) (Nat.le_of_ble_eq_true hn) (vx_ret (W_zretG hC.1 hC.2.1 hC.2.2.2.2.2.2.2.2.1 (by rw [← hw]; rfl) (fun t ht _ => ⟨rfl, rfl, by rw [ht]; exact hW, hS.F ht⟩) hS.2.2 hd hC.2.2.2.2.2.2.2.2.2))
theorem j_aretT {cn : String} (hC : JC X cc own (some (.object cn)) fr lc mc ms) {v : Int32} {a : Nat} {fo : Int32 → Option Value} (hfo : fo v = some (.ref a)) (hk : Nat.ble k mc = true) (hn : Nat.ble n ms = true) (hd : decode cc pc = .ok (.areturn, 1)) : J X (ZT X fo mc ms) (some (0, v, M)) pc lv [.ref a] M k n := by
  obtain ⟨p, l, e, R, s, m, args, below, meth, co, Γ, D, nL⟩ := X
  intro r hr H locs ls hW hS hl
  cases hr
  exact W.widen (Nat.le_of_ble_eq_true hk) (Nat.le_of_ble_eq_true hn) (vx_ret (W.aret hC.1 hC.2.1 hC.2.2.2.2.2.2.2.2.1 (Or.inl ⟨_, rfl⟩) (Or.inr ⟨_, rfl⟩) (fun t ht _ => ⟨rfl, hfo ▸ rfl, by rw [ht]; exact hW, hS.F ht⟩) hS.2.2 hd hC.2.2.2.2.2.2.2.2.2))
/-- copies of whole int arrays -/
def cp (M : Mem) (c d : CId) (w : Nat) : Mem := fun c' => if c' = d then va_cpy (M c) (M d) 0 0 w else M c'
theorem j_copyI {ρ : Type} {Z : ρ → State → Prop} {pr : Option ρ} {rest : List Value} (hC : JC X cc own ret fr lc mc ms) {c d : CId} {L1 L2 w idx : Nat} {nw : Int32} (hdc : gdm (XG X) c = true) (hdd : gdm (XG X) d = true) (hkc : kd c = .inr (0, L1)) (hkd : kd d = .inr (0, L2)) (hw : nw.toNatClampNeg = w) (hn0 : ¬ nw < 0) (hw1 : Nat.ble w L1 = true) (hw2 : Nat.ble w L2 = true)
    (hq : Cond.methodLink own idx arraycopyName ∈ lw_all) (h1 : Cond.native arraycopyName ∈ lw_all) (h2 : Cond.static arraycopyName ∈ lw_all) (h3 : Cond.initialized "java/lang/System" ∈ lw_all) (hf : Nat.ble 1 fr = true) (hlc : (rest.map fun v => v.category).sum + (nativeFrameWords "java/lang/System" "arraycopy" 5 + 11) ≤ lc)
    (hd : decode cc pc = .ok (.invokestatic idx, 3)) (kk : J X Z pr (pc + 3) lv rest (cp M c d w) k n) : J X Z pr pc lv (.int nw :: .int 0 :: .ref (gadr (XG X) d) :: .int 0 :: .ref (gadr (XG X) c) :: rest) M k n := by
  obtain ⟨p, l, e, R, s, m, args, below, meth, co, Γ, D, nL⟩ := X
  intro r hr H locs ls hW hS hl
  have hR := hC.2.2.2.2.2.2.2.1
  have hK := hC.2.2.2.2.2.1.1
  have hts := hC.2.2.2.2.1
  have hw1 := Nat.le_of_ble_eq_true hw1
  have hw2 := Nat.le_of_ble_eq_true hw2
  obtain ⟨aL, hW1, hW2⟩ := id hW
  have g1 := hW1 c hdc
  have g2 := hW1 d hdd
  unfold cellE at g1 g2
  rw [hkc] at g1
  rw [hkd] at g2
  have hc0 : H[gadr Γ c]? = some (vp_cell (gA Γ 0) (L1, .inl (M c))) := g1
  have hc1 : H[gadr Γ d]? = some (vp_cell (gA Γ 0) (L2, .inl (M d))) := g2
  obtain ⟨-, k0, hk0, cm0, hkk0⟩ := (hK.2 0 _ rfl).1 L1 (fun j => .int (M c j))
  obtain ⟨-, k1, hk1, cm1, hkk1⟩ := (hK.2 0 _ rfl).1 L2 (fun j => .int (M d j))
  have nn : nw.toInt = ((nw.toNatClampNeg : Nat) : Int) := by
    have hz0 : (0 : Int) ≤ nw.toInt := by
      have := Int32.not_lt.mp hn0
      simpa using Int32.le_iff_toInt_le.mp this
    show nw.toInt = ((nw.toInt.toNat : Nat) : Int)
    omega
  intro T hT X
  obtain ⟨vm', X', step⟩ := X.arraycopy hC.1 hC.2.2.2.1 (hts _ hq) (hts _ h1) (hts _ h2) (hts _ h3) (src := gadr Γ c) (dst := gadr Γ d) (cs := vp_cell (gA Γ 0) (L1, .inl (M c))) (cd := vp_cell (gA Γ 0) (L2, .inl (M d))) (srcPos := 0) (destPos := 0) (n := nw) (by rw [hT]; exact hc0) (by rw [hT]; exact hc1)
    (fun _ h => by cases h) (fun _ h => by cases h) (fun h => by cases h) (fun h => by cases h) hk0 hk1 hkk0 hkk1 (by simp [refKind]) (by decide) (by decide) hn0
    (by rw [nn, hw]; show ¬ _ > ((arrV (gA Γ 0) L1 (fun j => .int (M c j))).slots.size : Int); rw [arrV_size]; simp; omega)
    (by rw [nn, hw]; show ¬ _ > ((arrV (gA Γ 0) L2 (fun j => .int (M d j))).slots.size : Int); rw [arrV_size]; simp; omega)
    (fun vm₁ _ i hi => by
      have e : (vp_cell (gA Γ 0) (L1, .inl (M c))).slots.getD ((0 : Int32).toNatClampNeg + i) .null = .int (M c ((0 : Int32).toNatClampNeg + i)) := by
        show (arrV (gA Γ 0) L1 (fun j => .int (M c j))).slots.getD _ _ = _
        rw [Array.getD_eq_getD_getElem?, arrV_read _ _ (by rw [hw] at hi; have : (0 : Int32).toNatClampNeg = 0 := by decide
                                                           omega)]
        rfl
      refine ⟨?_, ?_⟩
      · rw [e]; rfl
      · rw [e]
        exact trivial)
    (g := F0 m pc ls (.int nw :: .int 0 :: .ref (gadr Γ d) :: .int 0 :: .ref (gadr Γ c) :: rest)) rfl (hl.1.trans hC.2.2.1.symm) (rest := rest) rfl (by rw [hC.2.1]; exact hd) (by rw [hR]; exact Nat.le_of_ble_eq_true hf) (by rw [hR]; show 2 * 0 + _ + _ ≤ _; simp only [] at hlc ⊢; omega)
  have z0 : (0 : Int32).toNatClampNeg = 0 := by decide
  have e1 : copied (vp_cell (gA Γ 0) (L1, .inl (M c))) (vp_cell (gA Γ 0) (L2, .inl (M d))) 0 0 nw = vp_cell (gA Γ 0) (L2, .inl (va_cpy (M c) (M d) (0 : Int32).toNatClampNeg (0 : Int32).toNatClampNeg nw.toNatClampNeg)) := va_copied (fun z => .int z) (gA Γ 0) (gA Γ 0) (M c) (M d) (by rw [z0, hw]; omega)
  rw [z0, hw] at e1
  rw [e1] at X' step
  have hlt : gadr Γ d < H.size := (Array.getElem?_eq_some_iff.mp hc1).1
  have hheap : ((T.setVm vm').setCell (gadr Γ d) (vp_cell (gA Γ 0) (L2, .inl (va_cpy (M c) (M d) 0 0 w)))).heap = H.setIfInBounds (gadr Γ d) (vp_cell (gA Γ 0) (L2, .inl (va_cpy (M c) (M d) 0 0 w))) := by rw [← hT]; rfl
  have oq : ∀ q : Nat, q ≠ gadr Γ d → (H.setIfInBounds (gadr Γ d) (vp_cell (gA Γ 0) (L2, .inl (va_cpy (M c) (M d) 0 0 w))))[q]? = H[q]? := fun q hq => by simp [Array.getElem?_setIfInBounds, Ne.symm hq]
  have hdA : AX Γ s.heap.size (gadr Γ d) := Or.inl ⟨d, hdd, rfl⟩
  have hW' : Wd Γ (cp M c d w) D (H.setIfInBounds (gadr Γ d) (vp_cell (gA Γ 0) (L2, .inl (va_cpy (M c) (M d) 0 0 w)))) := by
    refine ⟨aL, WdA.set hC.2.2.2.2.2.2.1 ⟨hW1, hW2⟩ hdd (f := va_cpy (M c) (M d) 0 0 w) ?_ oq⟩
    unfold cellE
    rw [hkd]
    show (H.setIfInBounds (gadr Γ d) _)[gadr Γ d]? = some (vp_cell (gA Γ 0) (L2, .inl (va_cpy (M c) (M d) 0 0 w)))
    simp [Array.getElem?_setIfInBounds, hlt]
  obtain ⟨t, a1, b1⟩ := kk r hr _ _ ls hW' ⟨by simp; exact hS.1, fun q g1 g2 => by
      rw [oq q (fun e => g2 (by rw [e]; exact hdA))]
      exact hS.2.1 q g1 g2, fun q hq => by
      rcases List.mem_append.mp hq with h | h
      · exact hS.2.2 q h
      · obtain ⟨z, -, hz⟩ := List.mem_map.mp h
        rw [← hz]
        exact hdA⟩ hl _ hheap X'
  exact ⟨t, step t a1, b1⟩
end JENDS2
