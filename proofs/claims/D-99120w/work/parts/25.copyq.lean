set_option maxRecDepth 100000
/-- every number of a line names one -/
def lok {α : Type} (D : List LDen) (f : Nat → Int32) (w : Nat) (x : Option α) : Option α := if ∀ i, i < w → f i = 0 ∨ (D[(f i).toNatClampNeg - 1]?).isSome = true then x else none
theorem any_line {Γ : xG} {s : State} {H : Heap} {a : Nat} {d : LDen} (hK : va_K (gD Γ) xcl (xtys Γ) s) (hN : KN s) (h : LnAt Γ a d H) : va_Any RX14 s H a := by
  obtain ⟨hna, b, hat, -⟩ := h
  have key : ∀ {ci N : Nat} {C : String} {T : u_T} {fs : List Value}, va_at (gD Γ) xcl (a, .inr (ci, fs)) H → xcl[ci]? = some (C, T, N) → va_Cs C RX14 s → va_Any RX14 s H a := by
    intro ci N C T fs hat hcl hcs
    obtain ⟨cell, h1, h2, h3⟩ := hrecv hK hat hcl
    obtain ⟨kC, hkC, -⟩ := Vm.findClass_spec h3
    obtain ⟨c0, t0, g1, g2, g3⟩ := hcs
    refine ⟨cell, h1, h2, ⟨kC, hkC⟩, fun comp hcomp => ?_⟩
    cases Option.some.inj (g1.symm.trans h3)
    cases Option.some.inj (g2.symm.trans hcomp)
    exact g3
  by_cases h0 : d.1 = 0
  · rw [if_pos h0] at hat
    exact key hat rfl (hN.1.1 (RX15, RX14) (by simp [xcast]))
  · rw [if_neg h0] at hat
    exact key hat rfl (hN.1.1 (RX16, RX14) (by simp [xcast]))
theorem vq_cpy {Γ : xG} {aL : Nat → Nat} {f g : Nat → Int32} {c d : CId} {w : Nat} (hlc : ∀ i, ly c i = .inl 1) (hld : ∀ i, ly d i = .inl 1) : vq Γ aL (va_cpy f g 0 0 w) d = va_cpy (vq Γ aL f c) (vq Γ aL g d) 0 0 w := by
  funext k
  unfold vq va_cpy
  simp only [hlc, hld]
  split <;> rfl
theorem j_copyQ {ρ : Type} {X : JX} {Z : ρ → State → Prop} {pr : Option ρ} {pc : Nat} {lv : List (Nat × Value)} {rest : List Value} {M : Mem} {k n : Nat} {cc : ByteArray} {own : String} {ret : Option FieldType} {fr lc mc ms : Nat} (hC : JC X cc own ret fr lc mc ms) {c d : CId} {L1 L2 w idx : Nat} {nw : Int32} (hdc : gdm (XG X) c = true) (hdd : gdm (XG X) d = true) (hkc : kd c = .inr (5, L1)) (hkd : kd d = .inr (5, L2)) (hw : nw.toNatClampNeg = w) (hn0 : ¬ nw < 0) (hw1 : Nat.ble w L1 = true) (hw2 : Nat.ble w L2 = true) (hyc : ∀ i, ly c i = .inl 1) (hyd : ∀ i, ly d i = .inl 1)
    (hq : Cond.methodLink own idx arraycopyName ∈ lw_all) (h1 : Cond.native arraycopyName ∈ lw_all) (h2 : Cond.static arraycopyName ∈ lw_all) (h3 : Cond.initialized "java/lang/System" ∈ lw_all) (hf : Nat.ble 1 fr = true) (hlc : (rest.map fun v => v.category).sum + (nativeFrameWords "java/lang/System" "arraycopy" 5 + 11) ≤ lc)
    (hd : decode cc pc = .ok (.invokestatic idx, 3)) (kk : J X Z pr (pc + 3) lv rest (cp M c d w) k n) : J X Z (lok (XD X) (M c) w pr) pc lv (.int nw :: .int 0 :: .ref (gadr (XG X) d) :: .int 0 :: .ref (gadr (XG X) c) :: rest) M k n := by
  obtain ⟨p, l, e, R, s, m, args, below, meth, co, Γ, D, nL⟩ := X
  intro r hr H locs ls hW hS hl
  by_cases hok' : ¬ ∀ i, i < w → M c i = 0 ∨ (D[(M c i).toNatClampNeg - 1]?).isSome = true
  · have hr : lok D (M c) w pr = some r := hr
    rw [lok, if_neg hok'] at hr; cases hr
  have hok := Classical.not_not.mp hok'
  have hr : lok D (M c) w pr = some r := hr
  rw [lok, if_pos hok] at hr
  have hR := hC.2.2.2.2.2.2.2.1
  have hK := hC.2.2.2.2.2.1.1
  have hN := hC.2.2.2.2.2.1.2.1
  have hts := hC.2.2.2.2.1
  have hw1 := Nat.le_of_ble_eq_true hw1
  have hw2 := Nat.le_of_ble_eq_true hw2
  obtain ⟨aL, hW1, hW2⟩ := id hW
  have g1 := hW1 c hdc
  have g2 := hW1 d hdd
  unfold cellE at g1 g2
  rw [hkc] at g1
  rw [hkd] at g2
  have hc0 : H[gadr Γ c]? = some (vp_cell (gA Γ 5) (L1, .inr (.inr (.inr (.inr (vq Γ aL (M c) c)))))) := g1
  have hc1 : H[gadr Γ d]? = some (vp_cell (gA Γ 5) (L2, .inr (.inr (.inr (.inr (vq Γ aL (M d) d)))))) := g2
  have hel : ∀ i, i < w → ∀ y, vq Γ aL (M c) c i = some y → va_Any RX14 s H y := by
    intro i hi y hy
    have hy : (match ly c i with | .inl 1 => lref aL (M c i) | .inl _ => none | .inr d => some (gadr Γ d)) = some y := hy
    rw [hyc i] at hy
    have hy : lref aL (M c i) = some y := hy
    unfold lref at hy
    rcases hok i hi with h0 | h0
    · rw [if_pos h0] at hy; cases hy
    · by_cases hz : M c i = 0
      · rw [if_pos hz] at hy; cases hy
      · rw [if_neg hz] at hy
        cases hy
        cases hD : D[(M c i).toNatClampNeg - 1]? with
        | none => rw [hD] at h0; cases h0
        | some dn => exact any_line hK hN (hW2.1.line hD)
  generalize hf0 : vq Γ aL (M c) c = f at hc0 hel
  generalize hg : vq Γ aL (M d) d = g at hc1
  obtain ⟨-, k0, hk0, cm0, hkk0⟩ := (hK.2 5 _ rfl).1 L1 (fun j => va_rf (f j))
  obtain ⟨-, k1, hk1, cm1, hkk1⟩ := (hK.2 5 _ rfl).1 L2 (fun j => va_rf (g j))
  have nn : nw.toInt = ((nw.toNatClampNeg : Nat) : Int) := by
    have hz0 : (0 : Int) ≤ nw.toInt := by
      have := Int32.not_lt.mp hn0
      simpa using Int32.le_iff_toInt_le.mp this
    show nw.toInt = ((nw.toInt.toNat : Nat) : Int)
    omega
  have z0 : (0 : Int32).toNatClampNeg = 0 := by decide
  intro T hT X
  obtain ⟨vm', X', step⟩ := X.arraycopy hC.1 hC.2.2.2.1 (hts _ hq) (hts _ h1) (hts _ h2) (hts _ h3) (src := gadr Γ c) (dst := gadr Γ d) (cs := vp_cell (gA Γ 5) (L1, .inr (.inr (.inr (.inr f))))) (cd := vp_cell (gA Γ 5) (L2, .inr (.inr (.inr (.inr g))))) (srcPos := 0) (destPos := 0) (n := nw) (by rw [hT]; exact hc0) (by rw [hT]; exact hc1)
    (fun _ h => by cases h) (fun _ h => by cases h) (fun h => by cases h) (fun h => by cases h) hk0 hk1 hkk0 hkk1 rfl (by decide) (by decide) hn0
    (by rw [nn, hw]; show ¬ _ > ((arrV (gA Γ 5) L1 (fun j => va_rf (f j))).slots.size : Int); rw [arrV_size]; simp; omega)
    (by rw [nn, hw]; show ¬ _ > ((arrV (gA Γ 5) L2 (fun j => va_rf (g j))).slots.size : Int); rw [arrV_size]; simp; omega)
    (fun vm₁ hal i hi => by
      rw [hw] at hi
      rw [z0, Nat.zero_add]
      have e : (vp_cell (gA Γ 5) (L1, .inr (.inr (.inr (.inr f))))).slots.getD i .null = va_rf (f i) := by
        show (arrV (gA Γ 5) L1 (fun j => va_rf (f j))).slots.getD _ _ = _
        rw [Array.getD_eq_getD_getElem?, arrV_read _ _ (by omega)]
        rfl
      rw [e]
      cases hy : f i with
      | none => exact ⟨rfl, trivial⟩
      | some y =>
        obtain ⟨cellV, g1, g2, ⟨kC, hkC⟩, hasg⟩ := hel i hi y hy
        obtain ⟨kA, comp, r1, r2, r3, -⟩ := (hK.2 5 _ rfl).2
        cases hk1.symm.trans r1
        cases hkk1.symm.trans r2
        obtain ⟨kE, hkE, -⟩ := Vm.findClass_spec r3
        obtain ⟨kC', hkC', -⟩ := hal.2.2 _ _ hkC
        obtain ⟨kE', hkE', -⟩ := hal.2.2 _ _ hkE
        refine ⟨rfl, cellV, (show T.heap[y]? = some cellV by rw [hT]; exact g1), (fun q h => by rw [h] at g2; cases g2), ⟨kC', hkC'⟩, ?_, ?_⟩
        · exact ⟨kE', hkE'⟩
        · show vm₁.assignable _ _ = true
          rw [hal.assignable]
          exact hasg _ r3)
    (g := F0 m pc ls (.int nw :: .int 0 :: .ref (gadr Γ d) :: .int 0 :: .ref (gadr Γ c) :: rest)) rfl (hl.1.trans hC.2.2.1.symm) (rest := rest) rfl (by rw [hC.2.1]; exact hd) (by rw [hR]; exact Nat.le_of_ble_eq_true hf) (by rw [hR]; show 2 * 0 + _ + _ ≤ _; simp only [] at hlc ⊢; omega)
  have e1 : copied (vp_cell (gA Γ 5) (L1, .inr (.inr (.inr (.inr f))))) (vp_cell (gA Γ 5) (L2, .inr (.inr (.inr (.inr g))))) 0 0 nw = vp_cell (gA Γ 5) (L2, .inr (.inr (.inr (.inr (va_cpy f g (0 : Int32).toNatClampNeg (0 : Int32).toNatClampNeg nw.toNatClampNeg))))) := by
    rw [vp_cell_q, vp_cell_q, vp_cell_q]
    exact va_copied (fun z => va_rf z) (gA Γ 5) (gA Γ 5) f g (by rw [z0, hw]; omega)
  rw [z0, hw] at e1
  rw [e1] at X' step
  generalize hcell : vp_cell (gA Γ 5) (L2, .inr (.inr (.inr (.inr (va_cpy f g 0 0 w))))) = nc at X' step
  have hlt : gadr Γ d < H.size := (Array.getElem?_eq_some_iff.mp hc1).1
  have hheap : ((T.setVm vm').setCell (gadr Γ d) nc).heap = H.setIfInBounds (gadr Γ d) nc := by rw [← hT]; rfl
  have oq : ∀ q : Nat, q ≠ gadr Γ d → (H.setIfInBounds (gadr Γ d) nc)[q]? = H[q]? := fun q hq => by simp [Array.getElem?_setIfInBounds, Ne.symm hq]
  have hdA : AX Γ s.heap.size (gadr Γ d) := Or.inl ⟨d, hdd, rfl⟩
  have hW' : Wd Γ (cp M c d w) D (H.setIfInBounds (gadr Γ d) nc) := by
    refine ⟨aL, WdA.set hC.2.2.2.2.2.2.1 ⟨hW1, hW2⟩ hdd (f := va_cpy (M c) (M d) 0 0 w) ?_ oq⟩
    unfold cellE
    rw [hkd]
    show (H.setIfInBounds (gadr Γ d) nc)[gadr Γ d]? = some (vp_cell (gA Γ 5) (L2, .inr (.inr (.inr (.inr (vq Γ aL (va_cpy (M c) (M d) 0 0 w) d))))))
    rw [vq_cpy hyc hyd, hf0, hg, hcell]
    simp [Array.getElem?_setIfInBounds, hlt]
  obtain ⟨t, a1, b1⟩ := kk r hr _ _ ls hW' ⟨by simp; exact hS.1, fun q g1 g2 => by
      rw [oq q (fun e => g2 (by rw [e]; exact hdA))]
      exact hS.2.1 q g1 g2, fun q hq => by
      rcases List.mem_append.mp hq with h | h
      · exact hS.2.2 q h
      · obtain ⟨z, -, hz⟩ := List.mem_map.mp h
        rw [← hz]
        exact hdA⟩ hl _ hheap X'
  exact ⟨t, step t a1, b1⟩
