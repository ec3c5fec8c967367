set_option maxRecDepth 100000
/-! the small constructors (printed by gen/mkInit.py) -/
def PI (Γ : xG) (sz : Nat) (av : List Value) (ws : va_W) : Array Value → State → Prop := va_Pc av (fun U => U.heap.size = sz ∧ va_P (gD Γ) xcl ws U.heap ∧ va_K (gD Γ) xcl (xtys Γ) U)
theorem PI.blind {Γ : xG} {sz : Nat} {av : List Value} {ws : va_W} : FrameBlind (PI Γ sz av ws) := fun a U g mk q => ⟨q.1, q.2.1, q.2.2.1, va_K.moved (u := U) (U := U.calling g mk a) (Vm.Alike.refl U.vm) q.2.2.2⟩
def QI (Γ : xG) (ws : va_W) (A : Nat → Prop) : Array Value → State → Outcome → State → Prop := fun _ st oc t => oc = .returned none ∧ va_P (gD Γ) xcl ws t.heap ∧ va_F A st t
def AI (a sz : Nat) : Nat → Prop := fun q => q = a ∨ sz ≤ q
theorem AI.one {a sz : Nat} {e : va_E} : va_D (AI a sz) [(a, e)] := by
  refine ⟨fun i j p q hi hj _ => ?_, fun k q hk => ?_⟩
  · have h1 := (List.getElem?_eq_some_iff.mp hi).1
    have h2 := (List.getElem?_eq_some_iff.mp hj).1
    simp at h1 h2
    omega
  · cases k with
    | zero => cases hk; exact Or.inl rfl
    | succ k => cases hk
theorem nZ {x : Int32} (h : x = 0 ∨ x = 1) : narrow .boolean (.int x) = .int x := by rcases h with rfl | rfl <;> rfl
theorem fZ {x : Int32} (h : x = 0 ∨ x = 1) : fits .boolean (.int x) = true := by rcases h with rfl | rfl <;> rfl
section QIC
variable {p : Program} {l : Launch} {e : Env} {R : Room} {s : State} {m : MethodId} {args : Array Value} {below : List Frame} {meth : Method} {c : Code} {H : Heap} {locs : List Loc} {k n mc ms : Nat} {Q : State → Prop} {rest st0 : List Value} {Γ : xG} {a9 : Array Value} {ws : va_W} {A : Nat → Prop} {a pc : Nat} {ls : Array Slot}
theorem QI_call (hr : va_Run p l e R s m args below meth c H locs k n mc ms (F0 m pc ls st0) rest (QI Γ ws (AI a H.size) a9) (AI a H.size)) (hS : va_S A s.heap H locs) (hAa : A a) (hAs : ∀ q, s.heap.size ≤ q → A q)
    (kk : ∀ (H1 : Heap) (locs1 : List Loc), va_P (gD Γ) xcl ws H1 → va_S A s.heap H1 locs1 → H.size ≤ H1.size → (∀ q : Nat, q < H.size → q ≠ a → H1[q]? = H[q]?) → W p l e R s m args below meth c H1 locs1 (k + mc) (n + ms) Q (F0 m (pc + 3) ls rest)) : W p l e R s m args below meth c H locs k n Q (F0 m pc ls st0) := by
  intro T0 hT X0
  obtain ⟨v0, st₀, t, T', L, e0, X', hL, e1, e2, ⟨hv, hWd, hF⟩, hgo⟩ := hr T0 hT X0
  cases hv
  obtain ⟨k1, k2, k3⟩ := vx_keep e0 e1 hS (fun q _ h => h.elim (fun z => by rw [z]; exact hAa) (fun z => hAs q (Nat.le_trans hS.1 z))) (fun q h => h.elim (fun z => by rw [z]; exact hAa) (fun z => hAs q (Nat.le_trans hS.1 z))) hL hF
  obtain ⟨t2, a1, b1⟩ := kk T'.heap (locs ++ L) (by rw [e1]; exact hWd) k3 k1 (fun q h1 h2 => k2 q h1 (fun z => z.elim h2 (fun z => by omega))) T' rfl X'
  exact ⟨t2, hgo t2 a1, b1⟩
end QIC
set_option maxRecDepth 100000 in
theorem iX10 (l : Launch) (Γ : xG) (a : Nat) (x1 : Int32) (sz : Nat) : Met l yX10_init (ws_ yX10_init cX10_init 2 none) { frames := 1, cells := 0, slots := 0, locals := 12 } (PI Γ sz [.ref a, .int x1] [(a, .inr (9, [.int 0]))]) (QI Γ [(a, .inr (9, [.int x1]))] (AI a sz)) 0 0 (AI a sz) := by
  refine Met.ofW (cc := cX10_init) (maxL := 2) (ret := none) (by decide +kernel) rfl ?_
  intro p e s m args below meth c s₁ B hml hv
  obtain ⟨rfl, hsz, hP, hK⟩ := hv
  have hx := B.exec
  have hb := B.bytes
  have hts := atoms_spec (ws := ws_ yX10_init cX10_init 2 none) B.pre
  have hts : ∀ w ∈ lw_all, w.before _ s = true := fun w h => hts w (List.mem_cons_of_mem _ h)
  have hown : s.vm.findClass RX10 = some m.cls := findClass_of_methodNamed B.named
  have hin : meth.name = "<init>" := (name_of_methodNamed B.named B.method).1
  subst hsz
  have hD : va_D (AI a s.heap.size) [(a, .inr (9, [.int 0]))] := AI.one
  have hS : va_S (AI a s.heap.size) s.heap s.heap [] := va_S.rf
  have hl := lv_entry [.ref a, .int x1] (n := 2) (Nat.le_of_ble_eq_true rfl)
  rw [lg_entry_eq]
  generalize (lg_sl [.ref a, .int x1] ++ List.replicate (2 - (lg_sl [.ref a, .int x1]).length) Slot.unset).toArray = ls at hl ⊢
  have hl : lv_has ls 2 [(0, .ref a), (1, .int x1)] := hl
  refine lv_aload_n hx hb dX10_init_0 rfl (lv_at hl 0 rfl) ?_
  refine W.objInit hx hb hown (hts _ q945) (hts _ q164) (hts _ q165) rfl (by rw [hml]; exact hl.1) rfl dX10_init_1 (Nat.le_of_ble_eq_true rfl) (Nat.le_of_ble_eq_true rfl) ?_
  refine W.eq (g2 := F0 m 4 ls []) rfl ?_
  refine lv_aload_n hx hb dX10_init_4 rfl (lv_at hl 0 rfl) ?_
  refine lv_iload_n hx hb dX10_init_5 rfl (lv_at hl 1 rfl) ?_
  refine va_putF (D := gD Γ) (ci := 9) (v := .int x1) (ty := .int) (C := RX10) (T := TX10) (N := 1) hx hb hts in_X10 tyX10 tyX10_ok nmX10 hown hK hP hD hS 0 rfl rfl 0 (by decide) (hts _ q946) (fun _ h9 => h9) rfl hin rfl (by decide +kernel) rfl rfl (Nat.le_of_ble_eq_true rfl) dX10_init_6 (fun H locs hP hD hS => ?_)
  exact W.vret hx hb B.returns (fun t ht hW => ⟨rfl, by rw [ht]; exact hP, hS.F ht⟩) hS.2.2 dX10_init_9 B.notSynchronized
set_option maxRecDepth 100000 in
theorem iX12 (l : Launch) (Γ : xG) (a : Nat) (b1 : Nat) (b2 : Nat) (sz : Nat) : Met l yX12_init (ws_ yX12_init cX12_init 3 none) { frames := 1, cells := 0, slots := 0, locals := 12 } (PI Γ sz [.ref a, .ref b1, .ref b2] [(a, .inr (11, [.null, .null]))]) (QI Γ [(a, .inr (11, [.ref b1, .ref b2]))] (AI a sz)) 0 0 (AI a sz) := by
  refine Met.ofW (cc := cX12_init) (maxL := 3) (ret := none) (by decide +kernel) rfl ?_
  intro p e s m args below meth c s₁ B hml hv
  obtain ⟨rfl, hsz, hP, hK⟩ := hv
  have hx := B.exec
  have hb := B.bytes
  have hts := atoms_spec (ws := ws_ yX12_init cX12_init 3 none) B.pre
  have hts : ∀ w ∈ lw_all, w.before _ s = true := fun w h => hts w (List.mem_cons_of_mem _ h)
  have hown : s.vm.findClass RX12 = some m.cls := findClass_of_methodNamed B.named
  have hin : meth.name = "<init>" := (name_of_methodNamed B.named B.method).1
  subst hsz
  have hD : va_D (AI a s.heap.size) [(a, .inr (11, [.null, .null]))] := AI.one
  have hS : va_S (AI a s.heap.size) s.heap s.heap [] := va_S.rf
  have hl := lv_entry [.ref a, .ref b1, .ref b2] (n := 3) (Nat.le_of_ble_eq_true rfl)
  rw [lg_entry_eq]
  generalize (lg_sl [.ref a, .ref b1, .ref b2] ++ List.replicate (3 - (lg_sl [.ref a, .ref b1, .ref b2]).length) Slot.unset).toArray = ls at hl ⊢
  have hl : lv_has ls 3 [(0, .ref a), (1, .ref b1), (2, .ref b2)] := hl
  refine lv_aload_n hx hb dX12_init_0 rfl (lv_at hl 0 rfl) ?_
  refine W.objInit hx hb hown (hts _ q982) (hts _ q164) (hts _ q165) rfl (by rw [hml]; exact hl.1) rfl dX12_init_1 (Nat.le_of_ble_eq_true rfl) (Nat.le_of_ble_eq_true rfl) ?_
  refine W.eq (g2 := F0 m 4 ls []) rfl ?_
  refine lv_aload_n hx hb dX12_init_4 rfl (lv_at hl 0 rfl) ?_
  refine lv_aload_n hx hb dX12_init_5 rfl (lv_at hl 1 rfl) ?_
  refine va_putF (D := gD Γ) (ci := 11) (v := .ref b1) (ty := (.object "FeatherYard$Sum")) (C := RX12) (T := TX12) (N := 2) hx hb hts in_X12 tyX12 tyX12_ok nmX12 hown hK hP hD hS 0 rfl rfl 0 (by decide) (hts _ q983) (fun _ h9 => h9) rfl hin rfl (by decide +kernel) rfl rfl (Nat.le_of_ble_eq_true rfl) dX12_init_6 (fun H locs hP hD hS => ?_)
  refine lv_aload_n hx hb dX12_init_9 rfl (lv_at hl 0 rfl) ?_
  refine lv_aload_n hx hb dX12_init_10 rfl (lv_at hl 2 rfl) ?_
  refine va_putF (D := gD Γ) (ci := 11) (v := .ref b2) (ty := (.object "FeatherYard$Sum")) (C := RX12) (T := TX12) (N := 2) hx hb hts in_X12 tyX12 tyX12_ok nmX12 hown hK hP hD hS 0 rfl rfl 1 (by decide) (hts _ q984) (fun _ h9 => h9) rfl hin rfl (by decide +kernel) rfl rfl (Nat.le_of_ble_eq_true rfl) dX12_init_11 (fun H locs hP hD hS => ?_)
  exact W.vret hx hb B.returns (fun t ht hW => ⟨rfl, by rw [ht]; exact hP, hS.F ht⟩) hS.2.2 dX12_init_14 B.notSynchronized
set_option maxRecDepth 100000 in
theorem iX13 (l : Launch) (Γ : xG) (a : Nat) (b1 : Nat) (sz : Nat) : Met l yX13_init (ws_ yX13_init cX13_init 2 none) { frames := 1, cells := 0, slots := 0, locals := 12 } (PI Γ sz [.ref a, .ref b1] [(a, .inr (12, [.null]))]) (QI Γ [(a, .inr (12, [.ref b1]))] (AI a sz)) 0 0 (AI a sz) := by
  refine Met.ofW (cc := cX13_init) (maxL := 2) (ret := none) (by decide +kernel) rfl ?_
  intro p e s m args below meth c s₁ B hml hv
  obtain ⟨rfl, hsz, hP, hK⟩ := hv
  have hx := B.exec
  have hb := B.bytes
  have hts := atoms_spec (ws := ws_ yX13_init cX13_init 2 none) B.pre
  have hts : ∀ w ∈ lw_all, w.before _ s = true := fun w h => hts w (List.mem_cons_of_mem _ h)
  have hown : s.vm.findClass RX13 = some m.cls := findClass_of_methodNamed B.named
  have hin : meth.name = "<init>" := (name_of_methodNamed B.named B.method).1
  subst hsz
  have hD : va_D (AI a s.heap.size) [(a, .inr (12, [.null]))] := AI.one
  have hS : va_S (AI a s.heap.size) s.heap s.heap [] := va_S.rf
  have hl := lv_entry [.ref a, .ref b1] (n := 2) (Nat.le_of_ble_eq_true rfl)
  rw [lg_entry_eq]
  generalize (lg_sl [.ref a, .ref b1] ++ List.replicate (2 - (lg_sl [.ref a, .ref b1]).length) Slot.unset).toArray = ls at hl ⊢
  have hl : lv_has ls 2 [(0, .ref a), (1, .ref b1)] := hl
  refine lv_aload_n hx hb dX13_init_0 rfl (lv_at hl 0 rfl) ?_
  refine W.objInit hx hb hown (hts _ q995) (hts _ q164) (hts _ q165) rfl (by rw [hml]; exact hl.1) rfl dX13_init_1 (Nat.le_of_ble_eq_true rfl) (Nat.le_of_ble_eq_true rfl) ?_
  refine W.eq (g2 := F0 m 4 ls []) rfl ?_
  refine lv_aload_n hx hb dX13_init_4 rfl (lv_at hl 0 rfl) ?_
  refine lv_aload_n hx hb dX13_init_5 rfl (lv_at hl 1 rfl) ?_
  refine va_putF (D := gD Γ) (ci := 12) (v := .ref b1) (ty := (.object "FeatherYard$Cond")) (C := RX13) (T := TX13) (N := 1) hx hb hts in_X13 tyX13 tyX13_ok nmX13 hown hK hP hD hS 0 rfl rfl 0 (by decide) (hts _ q996) (fun _ h9 => h9) rfl hin rfl (by decide +kernel) rfl rfl (Nat.le_of_ble_eq_true rfl) dX13_init_6 (fun H locs hP hD hS => ?_)
  exact W.vret hx hb B.returns (fun t ht hW => ⟨rfl, by rw [ht]; exact hP, hS.F ht⟩) hS.2.2 dX13_init_9 B.notSynchronized
set_option maxRecDepth 100000 in
theorem iX9 (l : Launch) (Γ : xG) (a : Nat) (b1 : Nat) (x2 : Int32) (hx2 : x2 = 0 ∨ x2 = 1) (sz : Nat) : Met l yX9_init (ws_ yX9_init cX9_init 3 none) { frames := 1, cells := 0, slots := 0, locals := 12 } (PI Γ sz [.ref a, .ref b1, .int x2] [(a, .inr (8, [.null, .int 0, .null]))]) (QI Γ [(a, .inr (8, [.ref b1, .int x2, .null]))] (AI a sz)) 0 0 (AI a sz) := by
  refine Met.ofW (cc := cX9_init) (maxL := 3) (ret := none) (by decide +kernel) rfl ?_
  intro p e s m args below meth c s₁ B hml hv
  obtain ⟨rfl, hsz, hP, hK⟩ := hv
  have hx := B.exec
  have hb := B.bytes
  have hts := atoms_spec (ws := ws_ yX9_init cX9_init 3 none) B.pre
  have hts : ∀ w ∈ lw_all, w.before _ s = true := fun w h => hts w (List.mem_cons_of_mem _ h)
  have hown : s.vm.findClass RX9 = some m.cls := findClass_of_methodNamed B.named
  have hin : meth.name = "<init>" := (name_of_methodNamed B.named B.method).1
  subst hsz
  have hD : va_D (AI a s.heap.size) [(a, .inr (8, [.null, .int 0, .null]))] := AI.one
  have hS : va_S (AI a s.heap.size) s.heap s.heap [] := va_S.rf
  have hl := lv_entry [.ref a, .ref b1, .int x2] (n := 3) (Nat.le_of_ble_eq_true rfl)
  rw [lg_entry_eq]
  generalize (lg_sl [.ref a, .ref b1, .int x2] ++ List.replicate (3 - (lg_sl [.ref a, .ref b1, .int x2]).length) Slot.unset).toArray = ls at hl ⊢
  have hl : lv_has ls 3 [(0, .ref a), (1, .ref b1), (2, .int x2)] := hl
  refine lv_aload_n hx hb dX9_init_0 rfl (lv_at hl 0 rfl) ?_
  refine W.objInit hx hb hown (hts _ q1003) (hts _ q164) (hts _ q165) rfl (by rw [hml]; exact hl.1) rfl dX9_init_1 (Nat.le_of_ble_eq_true rfl) (Nat.le_of_ble_eq_true rfl) ?_
  refine W.eq (g2 := F0 m 4 ls []) rfl ?_
  refine lv_aload_n hx hb dX9_init_4 rfl (lv_at hl 0 rfl) ?_
  refine lv_aload_n hx hb dX9_init_5 rfl (lv_at hl 1 rfl) ?_
  refine va_putF (D := gD Γ) (ci := 8) (v := .ref b1) (ty := (.object "FeatherYard$Cond")) (C := RX9) (T := TX9) (N := 3) hx hb hts in_X9 tyX9 tyX9_ok nmX9 hown hK hP hD hS 0 rfl rfl 0 (by decide) (hts _ q1004) (fun _ h9 => h9) rfl hin rfl (by decide +kernel) rfl rfl (Nat.le_of_ble_eq_true rfl) dX9_init_6 (fun H locs hP hD hS => ?_)
  refine lv_aload_n hx hb dX9_init_9 rfl (lv_at hl 0 rfl) ?_
  refine lv_iload_n hx hb dX9_init_10 rfl (lv_at hl 2 rfl) ?_
  refine va_putF (D := gD Γ) (ci := 8) (v := .int x2) (ty := .boolean) (C := RX9) (T := TX9) (N := 3) hx hb hts in_X9 tyX9 tyX9_ok nmX9 hown hK hP hD hS 0 rfl rfl 1 (by decide) (hts _ q1005) (fun _ h9 => h9) rfl hin rfl (by decide +kernel) (nZ hx2) (fZ hx2) (Nat.le_of_ble_eq_true rfl) dX9_init_11 (fun H locs hP hD hS => ?_)
  exact W.vret hx hb B.returns (fun t ht hW => ⟨rfl, by rw [ht]; exact hP, hS.F ht⟩) hS.2.2 dX9_init_14 B.notSynchronized
set_option maxRecDepth 100000 in
theorem iX14a (l : Launch) (Γ : xG) (a : Nat) (x1 : Int32) (v2 : Option Nat) (s0 : Int32) (sz : Nat) : Met l yX14_init (ws_ yX14_init cX14_init 3 none) { frames := 1, cells := 0, slots := 0, locals := 12 } (PI Γ sz [.ref a, .int x1, va_rf v2] [(a, .inr (13, [.int 0, .null, .int s0]))]) (QI Γ [(a, .inr (13, [.int x1, va_rf v2, .int s0]))] (AI a sz)) 0 0 (AI a sz) := by
  cases v2 with
  | none =>
    refine Met.ofW (cc := cX14_init) (maxL := 3) (ret := none) (by decide +kernel) rfl ?_
    intro p e s m args below meth c s₁ B hml hv
    obtain ⟨rfl, hsz, hP, hK⟩ := hv
    have hx := B.exec
    have hb := B.bytes
    have hts := atoms_spec (ws := ws_ yX14_init cX14_init 3 none) B.pre
    have hts : ∀ w ∈ lw_all, w.before _ s = true := fun w h => hts w (List.mem_cons_of_mem _ h)
    have hown : s.vm.findClass RX14 = some m.cls := findClass_of_methodNamed B.named
    have hin : meth.name = "<init>" := (name_of_methodNamed B.named B.method).1
    subst hsz
    have hD : va_D (AI a s.heap.size) [(a, .inr (13, [.int 0, .null, .int s0]))] := AI.one
    have hS : va_S (AI a s.heap.size) s.heap s.heap [] := va_S.rf
    have hl := lv_entry [.ref a, .int x1, va_rf none] (n := 3) (Nat.le_of_ble_eq_true rfl)
    rw [lg_entry_eq]
    generalize (lg_sl [.ref a, .int x1, va_rf none] ++ List.replicate (3 - (lg_sl [.ref a, .int x1, va_rf none]).length) Slot.unset).toArray = ls at hl ⊢
    have hl : lv_has ls 3 [(0, .ref a), (1, .int x1), (2, va_rf none)] := hl
    refine lv_aload_n hx hb dX14_init_0 rfl (lv_at hl 0 rfl) ?_
    refine W.objInit hx hb hown (hts _ q1025) (hts _ q164) (hts _ q165) rfl (by rw [hml]; exact hl.1) rfl dX14_init_1 (Nat.le_of_ble_eq_true rfl) (Nat.le_of_ble_eq_true rfl) ?_
    refine W.eq (g2 := F0 m 4 ls []) rfl ?_
    refine lv_aload_n hx hb dX14_init_4 rfl (lv_at hl 0 rfl) ?_
    refine lv_iload_n hx hb dX14_init_5 rfl (lv_at hl 1 rfl) ?_
    refine va_putF (D := gD Γ) (ci := 13) (v := .int x1) (ty := .int) (C := RX15) (T := TX15) (N := 3) hx hb hts in_X15 tyX15 tyX15_ok nmX15 hown hK hP hD hS 0 rfl rfl 0 (by decide) (hts _ q1027) (fun _ h9 => h9) rfl hin rfl (by decide +kernel) rfl rfl (Nat.le_of_ble_eq_true rfl) dX14_init_6 (fun H locs hP hD hS => ?_)
    refine lv_aload_n hx hb dX14_init_9 rfl (lv_at hl 0 rfl) ?_
    refine lv_aload_nN hx hb dX14_init_10 rfl (lv_at hl 2 rfl) ?_
    refine va_putF (D := gD Γ) (ci := 13) (v := va_rf none) (ty := (.object "FeatherYard$Cond")) (C := RX15) (T := TX15) (N := 3) hx hb hts in_X15 tyX15 tyX15_ok nmX15 hown hK hP hD hS 0 rfl rfl 1 (by decide) (hts _ q1028) (fun _ h9 => h9) rfl hin rfl (by decide +kernel) rfl rfl (Nat.le_of_ble_eq_true rfl) dX14_init_11 (fun H locs hP hD hS => ?_)
    exact W.vret hx hb B.returns (fun t ht hW => ⟨rfl, by rw [ht]; exact hP, hS.F ht⟩) hS.2.2 dX14_init_14 B.notSynchronized
  | some z =>
    refine Met.ofW (cc := cX14_init) (maxL := 3) (ret := none) (by decide +kernel) rfl ?_
    intro p e s m args below meth c s₁ B hml hv
    obtain ⟨rfl, hsz, hP, hK⟩ := hv
    have hx := B.exec
    have hb := B.bytes
    have hts := atoms_spec (ws := ws_ yX14_init cX14_init 3 none) B.pre
    have hts : ∀ w ∈ lw_all, w.before _ s = true := fun w h => hts w (List.mem_cons_of_mem _ h)
    have hown : s.vm.findClass RX14 = some m.cls := findClass_of_methodNamed B.named
    have hin : meth.name = "<init>" := (name_of_methodNamed B.named B.method).1
    subst hsz
    have hD : va_D (AI a s.heap.size) [(a, .inr (13, [.int 0, .null, .int s0]))] := AI.one
    have hS : va_S (AI a s.heap.size) s.heap s.heap [] := va_S.rf
    have hl := lv_entry [.ref a, .int x1, va_rf (some z)] (n := 3) (Nat.le_of_ble_eq_true rfl)
    rw [lg_entry_eq]
    generalize (lg_sl [.ref a, .int x1, va_rf (some z)] ++ List.replicate (3 - (lg_sl [.ref a, .int x1, va_rf (some z)]).length) Slot.unset).toArray = ls at hl ⊢
    have hl : lv_has ls 3 [(0, .ref a), (1, .int x1), (2, va_rf (some z))] := hl
    refine lv_aload_n hx hb dX14_init_0 rfl (lv_at hl 0 rfl) ?_
    refine W.objInit hx hb hown (hts _ q1025) (hts _ q164) (hts _ q165) rfl (by rw [hml]; exact hl.1) rfl dX14_init_1 (Nat.le_of_ble_eq_true rfl) (Nat.le_of_ble_eq_true rfl) ?_
    refine W.eq (g2 := F0 m 4 ls []) rfl ?_
    refine lv_aload_n hx hb dX14_init_4 rfl (lv_at hl 0 rfl) ?_
    refine lv_iload_n hx hb dX14_init_5 rfl (lv_at hl 1 rfl) ?_
    refine va_putF (D := gD Γ) (ci := 13) (v := .int x1) (ty := .int) (C := RX15) (T := TX15) (N := 3) hx hb hts in_X15 tyX15 tyX15_ok nmX15 hown hK hP hD hS 0 rfl rfl 0 (by decide) (hts _ q1027) (fun _ h9 => h9) rfl hin rfl (by decide +kernel) rfl rfl (Nat.le_of_ble_eq_true rfl) dX14_init_6 (fun H locs hP hD hS => ?_)
    refine lv_aload_n hx hb dX14_init_9 rfl (lv_at hl 0 rfl) ?_
    refine lv_aload_n hx hb dX14_init_10 rfl (lv_at hl 2 rfl) ?_
    refine va_putF (D := gD Γ) (ci := 13) (v := va_rf (some z)) (ty := (.object "FeatherYard$Cond")) (C := RX15) (T := TX15) (N := 3) hx hb hts in_X15 tyX15 tyX15_ok nmX15 hown hK hP hD hS 0 rfl rfl 1 (by decide) (hts _ q1028) (fun _ h9 => h9) rfl hin rfl (by decide +kernel) rfl rfl (Nat.le_of_ble_eq_true rfl) dX14_init_11 (fun H locs hP hD hS => ?_)
    exact W.vret hx hb B.returns (fun t ht hW => ⟨rfl, by rw [ht]; exact hP, hS.F ht⟩) hS.2.2 dX14_init_14 B.notSynchronized

set_option maxRecDepth 100000 in
theorem iX14b (l : Launch) (Γ : xG) (a : Nat) (x1 : Int32) (v2 : Option Nat) (s0 : Int32) (sz : Nat) : Met l yX14_init (ws_ yX14_init cX14_init 3 none) { frames := 1, cells := 0, slots := 0, locals := 12 } (PI Γ sz [.ref a, .int x1, va_rf v2] [(a, .inr (14, [.int 0, .null, .int s0]))]) (QI Γ [(a, .inr (14, [.int x1, va_rf v2, .int s0]))] (AI a sz)) 0 0 (AI a sz) := by
  cases v2 with
  | none =>
    refine Met.ofW (cc := cX14_init) (maxL := 3) (ret := none) (by decide +kernel) rfl ?_
    intro p e s m args below meth c s₁ B hml hv
    obtain ⟨rfl, hsz, hP, hK⟩ := hv
    have hx := B.exec
    have hb := B.bytes
    have hts := atoms_spec (ws := ws_ yX14_init cX14_init 3 none) B.pre
    have hts : ∀ w ∈ lw_all, w.before _ s = true := fun w h => hts w (List.mem_cons_of_mem _ h)
    have hown : s.vm.findClass RX14 = some m.cls := findClass_of_methodNamed B.named
    have hin : meth.name = "<init>" := (name_of_methodNamed B.named B.method).1
    subst hsz
    have hD : va_D (AI a s.heap.size) [(a, .inr (14, [.int 0, .null, .int s0]))] := AI.one
    have hS : va_S (AI a s.heap.size) s.heap s.heap [] := va_S.rf
    have hl := lv_entry [.ref a, .int x1, va_rf none] (n := 3) (Nat.le_of_ble_eq_true rfl)
    rw [lg_entry_eq]
    generalize (lg_sl [.ref a, .int x1, va_rf none] ++ List.replicate (3 - (lg_sl [.ref a, .int x1, va_rf none]).length) Slot.unset).toArray = ls at hl ⊢
    have hl : lv_has ls 3 [(0, .ref a), (1, .int x1), (2, va_rf none)] := hl
    refine lv_aload_n hx hb dX14_init_0 rfl (lv_at hl 0 rfl) ?_
    refine W.objInit hx hb hown (hts _ q1025) (hts _ q164) (hts _ q165) rfl (by rw [hml]; exact hl.1) rfl dX14_init_1 (Nat.le_of_ble_eq_true rfl) (Nat.le_of_ble_eq_true rfl) ?_
    refine W.eq (g2 := F0 m 4 ls []) rfl ?_
    refine lv_aload_n hx hb dX14_init_4 rfl (lv_at hl 0 rfl) ?_
    refine lv_iload_n hx hb dX14_init_5 rfl (lv_at hl 1 rfl) ?_
    refine va_putF (D := gD Γ) (ci := 14) (v := .int x1) (ty := .int) (C := RX16) (T := TX16) (N := 3) hx hb hts in_X16 tyX16 tyX16_ok nmX16 hown hK hP hD hS 0 rfl rfl 0 (by decide) (hts _ q1027) (fun _ h9 => h9) rfl hin rfl (by decide +kernel) rfl rfl (Nat.le_of_ble_eq_true rfl) dX14_init_6 (fun H locs hP hD hS => ?_)
    refine lv_aload_n hx hb dX14_init_9 rfl (lv_at hl 0 rfl) ?_
    refine lv_aload_nN hx hb dX14_init_10 rfl (lv_at hl 2 rfl) ?_
    refine va_putF (D := gD Γ) (ci := 14) (v := va_rf none) (ty := (.object "FeatherYard$Cond")) (C := RX16) (T := TX16) (N := 3) hx hb hts in_X16 tyX16 tyX16_ok nmX16 hown hK hP hD hS 0 rfl rfl 1 (by decide) (hts _ q1028) (fun _ h9 => h9) rfl hin rfl (by decide +kernel) rfl rfl (Nat.le_of_ble_eq_true rfl) dX14_init_11 (fun H locs hP hD hS => ?_)
    exact W.vret hx hb B.returns (fun t ht hW => ⟨rfl, by rw [ht]; exact hP, hS.F ht⟩) hS.2.2 dX14_init_14 B.notSynchronized
  | some z =>
    refine Met.ofW (cc := cX14_init) (maxL := 3) (ret := none) (by decide +kernel) rfl ?_
    intro p e s m args below meth c s₁ B hml hv
    obtain ⟨rfl, hsz, hP, hK⟩ := hv
    have hx := B.exec
    have hb := B.bytes
    have hts := atoms_spec (ws := ws_ yX14_init cX14_init 3 none) B.pre
    have hts : ∀ w ∈ lw_all, w.before _ s = true := fun w h => hts w (List.mem_cons_of_mem _ h)
    have hown : s.vm.findClass RX14 = some m.cls := findClass_of_methodNamed B.named
    have hin : meth.name = "<init>" := (name_of_methodNamed B.named B.method).1
    subst hsz
    have hD : va_D (AI a s.heap.size) [(a, .inr (14, [.int 0, .null, .int s0]))] := AI.one
    have hS : va_S (AI a s.heap.size) s.heap s.heap [] := va_S.rf
    have hl := lv_entry [.ref a, .int x1, va_rf (some z)] (n := 3) (Nat.le_of_ble_eq_true rfl)
    rw [lg_entry_eq]
    generalize (lg_sl [.ref a, .int x1, va_rf (some z)] ++ List.replicate (3 - (lg_sl [.ref a, .int x1, va_rf (some z)]).length) Slot.unset).toArray = ls at hl ⊢
    have hl : lv_has ls 3 [(0, .ref a), (1, .int x1), (2, va_rf (some z))] := hl
    refine lv_aload_n hx hb dX14_init_0 rfl (lv_at hl 0 rfl) ?_
    refine W.objInit hx hb hown (hts _ q1025) (hts _ q164) (hts _ q165) rfl (by rw [hml]; exact hl.1) rfl dX14_init_1 (Nat.le_of_ble_eq_true rfl) (Nat.le_of_ble_eq_true rfl) ?_
    refine W.eq (g2 := F0 m 4 ls []) rfl ?_
    refine lv_aload_n hx hb dX14_init_4 rfl (lv_at hl 0 rfl) ?_
    refine lv_iload_n hx hb dX14_init_5 rfl (lv_at hl 1 rfl) ?_
    refine va_putF (D := gD Γ) (ci := 14) (v := .int x1) (ty := .int) (C := RX16) (T := TX16) (N := 3) hx hb hts in_X16 tyX16 tyX16_ok nmX16 hown hK hP hD hS 0 rfl rfl 0 (by decide) (hts _ q1027) (fun _ h9 => h9) rfl hin rfl (by decide +kernel) rfl rfl (Nat.le_of_ble_eq_true rfl) dX14_init_6 (fun H locs hP hD hS => ?_)
    refine lv_aload_n hx hb dX14_init_9 rfl (lv_at hl 0 rfl) ?_
    refine lv_aload_n hx hb dX14_init_10 rfl (lv_at hl 2 rfl) ?_
    refine va_putF (D := gD Γ) (ci := 14) (v := va_rf (some z)) (ty := (.object "FeatherYard$Cond")) (C := RX16) (T := TX16) (N := 3) hx hb hts in_X16 tyX16 tyX16_ok nmX16 hown hK hP hD hS 0 rfl rfl 1 (by decide) (hts _ q1028) (fun _ h9 => h9) rfl hin rfl (by decide +kernel) rfl rfl (Nat.le_of_ble_eq_true rfl) dX14_init_11 (fun H locs hP hD hS => ?_)
    exact W.vret hx hb B.returns (fun t ht hW => ⟨rfl, by rw [ht]; exact hP, hS.F ht⟩) hS.2.2 dX14_init_14 B.notSynchronized

set_option maxRecDepth 100000 in
theorem iX15 (l : Launch) (Γ : xG) (a : Nat) (x1 : Int32) (v2 : Option Nat) (x3 : Int32) (sz : Nat) : Met l yX15_init (ws_ yX15_init cX15_init 4 none) { frames := 2, cells := 0, slots := 0, locals := 34 } (PI Γ sz [.ref a, .int x1, va_rf v2, .int x3] [(a, .inr (13, [.int 0, .null, .int 0]))]) (QI Γ [(a, .inr (13, [.int x1, va_rf v2, .int (if x3 = 0 then -1 else 1)]))] (AI a sz)) 0 0 (AI a sz) := by
  cases v2 with
  | none =>
    refine Met.ofW (cc := cX15_init) (maxL := 4) (ret := none) (by decide +kernel) rfl ?_
    intro p e s m args below meth c s₁ B hml hv
    obtain ⟨rfl, hsz, hP, hK⟩ := hv
    have hx := B.exec
    have hb := B.bytes
    have hts := atoms_spec (ws := ws_ yX15_init cX15_init 4 none) B.pre
    have hts : ∀ w ∈ lw_all, w.before _ s = true := fun w h => hts w (List.mem_cons_of_mem _ h)
    have hown : s.vm.findClass RX15 = some m.cls := findClass_of_methodNamed B.named
    have hin : meth.name = "<init>" := (name_of_methodNamed B.named B.method).1
    subst hsz
    have hD : va_D (AI a s.heap.size) [(a, .inr (13, [.int 0, .null, .int 0]))] := AI.one
    have hS : va_S (AI a s.heap.size) s.heap s.heap [] := va_S.rf
    have hl := lv_entry [.ref a, .int x1, va_rf none, .int x3] (n := 4) (Nat.le_of_ble_eq_true rfl)
    rw [lg_entry_eq]
    generalize (lg_sl [.ref a, .int x1, va_rf none, .int x3] ++ List.replicate (4 - (lg_sl [.ref a, .int x1, va_rf none, .int x3]).length) Slot.unset).toArray = ls at hl ⊢
    have hl : lv_has ls 4 [(0, .ref a), (1, .int x1), (2, va_rf none), (3, .int x3)] := hl
    refine lv_aload_n hx hb dX15_init_0 rfl (lv_at hl 0 rfl) ?_
    refine lv_iload_n hx hb dX15_init_1 rfl (lv_at hl 1 rfl) ?_
    refine lv_aload_nN hx hb dX15_init_2 rfl (lv_at hl 2 rfl) ?_
    refine QI_call (va_runI (As := [.int x1, va_rf none]) (rest := []) ⟨hx, hb, hml, hown, hts⟩ (iX14a l Γ a x1 none 0 s.heap.size) (cwI 2 hts (lw_meth q1024) rfl rfl rfl (hts _ q149) (hts _ q1022) (hts _ q1023) rfl (by decide +kernel) ⟨Nat.le_of_ble_eq_true rfl, Nat.le_of_ble_eq_true rfl⟩) ⟨PI.blind, fun U hU hW => ⟨rfl, by rw [hU], by rw [hU]; exact hP, va_K.moved hW.alike hK⟩⟩ rfl rfl hl.1 rfl (lv_room (Nat.le_of_ble_eq_true rfl)) dX15_init_3 ⟨Nat.le_of_ble_eq_true rfl, Nat.le_of_ble_eq_true rfl⟩) hS (Or.inl rfl) (fun q h => Or.inr h) (fun H locs hP hS _ _ => ?_)
    have hD : va_D (AI a s.heap.size) [(a, .inr (13, [.int x1, va_rf none, .int 0]))] := AI.one
    refine lv_aload_n hx hb dX15_init_6 rfl (lv_at hl 0 rfl) ?_
    refine lv_iload_n hx hb dX15_init_7 rfl (lv_at hl 3 rfl) ?_
    refine lv_if_eq hx hb (tgt := 15) dX15_init_8 (by decide) (fun h9 => ?_) (fun h9 => ?_)
    · refine lv_iconst hx hb (v := -1) dX15_init_15 (by decide) ?_
      refine va_putF (D := gD Γ) (ci := 13) (v := .int (-1)) (ty := .int) (C := RX15) (T := TX15) (N := 3) hx hb hts in_X15 tyX15 tyX15_ok nmX15 hown hK hP hD hS 0 rfl rfl 2 (by decide) (hts _ q1026) (fun _ h9 => h9) rfl hin rfl (by decide +kernel) rfl rfl (Nat.le_of_ble_eq_true rfl) dX15_init_16 (fun H locs hP hD hS => ?_)
      exact W.vret hx hb B.returns (fun t ht hW => ⟨rfl, by rw [ht]; first | exact hP | (rw [if_pos h9]; exact hP) | (rw [if_neg h9]; exact hP), hS.F ht⟩) hS.2.2 dX15_init_19 B.notSynchronized
    · refine lv_iconst hx hb (v := 1) dX15_init_11 (by decide) ?_
      refine lv_goto hx hb (tgt := 16) dX15_init_12 (by decide) ?_
      refine va_putF (D := gD Γ) (ci := 13) (v := .int 1) (ty := .int) (C := RX15) (T := TX15) (N := 3) hx hb hts in_X15 tyX15 tyX15_ok nmX15 hown hK hP hD hS 0 rfl rfl 2 (by decide) (hts _ q1026) (fun _ h9 => h9) rfl hin rfl (by decide +kernel) rfl rfl (Nat.le_of_ble_eq_true rfl) dX15_init_16 (fun H locs hP hD hS => ?_)
      exact W.vret hx hb B.returns (fun t ht hW => ⟨rfl, by rw [ht]; first | exact hP | (rw [if_pos h9]; exact hP) | (rw [if_neg h9]; exact hP), hS.F ht⟩) hS.2.2 dX15_init_19 B.notSynchronized
  | some z =>
    refine Met.ofW (cc := cX15_init) (maxL := 4) (ret := none) (by decide +kernel) rfl ?_
    intro p e s m args below meth c s₁ B hml hv
    obtain ⟨rfl, hsz, hP, hK⟩ := hv
    have hx := B.exec
    have hb := B.bytes
    have hts := atoms_spec (ws := ws_ yX15_init cX15_init 4 none) B.pre
    have hts : ∀ w ∈ lw_all, w.before _ s = true := fun w h => hts w (List.mem_cons_of_mem _ h)
    have hown : s.vm.findClass RX15 = some m.cls := findClass_of_methodNamed B.named
    have hin : meth.name = "<init>" := (name_of_methodNamed B.named B.method).1
    subst hsz
    have hD : va_D (AI a s.heap.size) [(a, .inr (13, [.int 0, .null, .int 0]))] := AI.one
    have hS : va_S (AI a s.heap.size) s.heap s.heap [] := va_S.rf
    have hl := lv_entry [.ref a, .int x1, va_rf (some z), .int x3] (n := 4) (Nat.le_of_ble_eq_true rfl)
    rw [lg_entry_eq]
    generalize (lg_sl [.ref a, .int x1, va_rf (some z), .int x3] ++ List.replicate (4 - (lg_sl [.ref a, .int x1, va_rf (some z), .int x3]).length) Slot.unset).toArray = ls at hl ⊢
    have hl : lv_has ls 4 [(0, .ref a), (1, .int x1), (2, va_rf (some z)), (3, .int x3)] := hl
    refine lv_aload_n hx hb dX15_init_0 rfl (lv_at hl 0 rfl) ?_
    refine lv_iload_n hx hb dX15_init_1 rfl (lv_at hl 1 rfl) ?_
    refine lv_aload_n hx hb dX15_init_2 rfl (lv_at hl 2 rfl) ?_
    refine QI_call (va_runI (As := [.int x1, va_rf (some z)]) (rest := []) ⟨hx, hb, hml, hown, hts⟩ (iX14a l Γ a x1 (some z) 0 s.heap.size) (cwI 2 hts (lw_meth q1024) rfl rfl rfl (hts _ q149) (hts _ q1022) (hts _ q1023) rfl (by decide +kernel) ⟨Nat.le_of_ble_eq_true rfl, Nat.le_of_ble_eq_true rfl⟩) ⟨PI.blind, fun U hU hW => ⟨rfl, by rw [hU], by rw [hU]; exact hP, va_K.moved hW.alike hK⟩⟩ rfl rfl hl.1 rfl (lv_room (Nat.le_of_ble_eq_true rfl)) dX15_init_3 ⟨Nat.le_of_ble_eq_true rfl, Nat.le_of_ble_eq_true rfl⟩) hS (Or.inl rfl) (fun q h => Or.inr h) (fun H locs hP hS _ _ => ?_)
    have hD : va_D (AI a s.heap.size) [(a, .inr (13, [.int x1, va_rf (some z), .int 0]))] := AI.one
    refine lv_aload_n hx hb dX15_init_6 rfl (lv_at hl 0 rfl) ?_
    refine lv_iload_n hx hb dX15_init_7 rfl (lv_at hl 3 rfl) ?_
    refine lv_if_eq hx hb (tgt := 15) dX15_init_8 (by decide) (fun h9 => ?_) (fun h9 => ?_)
    · refine lv_iconst hx hb (v := -1) dX15_init_15 (by decide) ?_
      refine va_putF (D := gD Γ) (ci := 13) (v := .int (-1)) (ty := .int) (C := RX15) (T := TX15) (N := 3) hx hb hts in_X15 tyX15 tyX15_ok nmX15 hown hK hP hD hS 0 rfl rfl 2 (by decide) (hts _ q1026) (fun _ h9 => h9) rfl hin rfl (by decide +kernel) rfl rfl (Nat.le_of_ble_eq_true rfl) dX15_init_16 (fun H locs hP hD hS => ?_)
      exact W.vret hx hb B.returns (fun t ht hW => ⟨rfl, by rw [ht]; first | exact hP | (rw [if_pos h9]; exact hP) | (rw [if_neg h9]; exact hP), hS.F ht⟩) hS.2.2 dX15_init_19 B.notSynchronized
    · refine lv_iconst hx hb (v := 1) dX15_init_11 (by decide) ?_
      refine lv_goto hx hb (tgt := 16) dX15_init_12 (by decide) ?_
      refine va_putF (D := gD Γ) (ci := 13) (v := .int 1) (ty := .int) (C := RX15) (T := TX15) (N := 3) hx hb hts in_X15 tyX15 tyX15_ok nmX15 hown hK hP hD hS 0 rfl rfl 2 (by decide) (hts _ q1026) (fun _ h9 => h9) rfl hin rfl (by decide +kernel) rfl rfl (Nat.le_of_ble_eq_true rfl) dX15_init_16 (fun H locs hP hD hS => ?_)
      exact W.vret hx hb B.returns (fun t ht hW => ⟨rfl, by rw [ht]; first | exact hP | (rw [if_pos h9]; exact hP) | (rw [if_neg h9]; exact hP), hS.F ht⟩) hS.2.2 dX15_init_19 B.notSynchronized

set_option maxRecDepth 100000 in
theorem iX16 (l : Launch) (Γ : xG) (a : Nat) (x1 : Int32) (v2 : Option Nat) (x3 : Int32) (sz : Nat) : Met l yX16_init (ws_ yX16_init cX16_init 4 none) { frames := 2, cells := 0, slots := 0, locals := 34 } (PI Γ sz [.ref a, .int x1, va_rf v2, .int x3] [(a, .inr (14, [.int 0, .null, .int 0]))]) (QI Γ [(a, .inr (14, [.int x1, va_rf v2, .int (if x3 = 0 then -1 else 1)]))] (AI a sz)) 0 0 (AI a sz) := by
  cases v2 with
  | none =>
    refine Met.ofW (cc := cX16_init) (maxL := 4) (ret := none) (by decide +kernel) rfl ?_
    intro p e s m args below meth c s₁ B hml hv
    obtain ⟨rfl, hsz, hP, hK⟩ := hv
    have hx := B.exec
    have hb := B.bytes
    have hts := atoms_spec (ws := ws_ yX16_init cX16_init 4 none) B.pre
    have hts : ∀ w ∈ lw_all, w.before _ s = true := fun w h => hts w (List.mem_cons_of_mem _ h)
    have hown : s.vm.findClass RX16 = some m.cls := findClass_of_methodNamed B.named
    have hin : meth.name = "<init>" := (name_of_methodNamed B.named B.method).1
    subst hsz
    have hD : va_D (AI a s.heap.size) [(a, .inr (14, [.int 0, .null, .int 0]))] := AI.one
    have hS : va_S (AI a s.heap.size) s.heap s.heap [] := va_S.rf
    have hl := lv_entry [.ref a, .int x1, va_rf none, .int x3] (n := 4) (Nat.le_of_ble_eq_true rfl)
    rw [lg_entry_eq]
    generalize (lg_sl [.ref a, .int x1, va_rf none, .int x3] ++ List.replicate (4 - (lg_sl [.ref a, .int x1, va_rf none, .int x3]).length) Slot.unset).toArray = ls at hl ⊢
    have hl : lv_has ls 4 [(0, .ref a), (1, .int x1), (2, va_rf none), (3, .int x3)] := hl
    refine lv_aload_n hx hb dX16_init_0 rfl (lv_at hl 0 rfl) ?_
    refine lv_iload_n hx hb dX16_init_1 rfl (lv_at hl 1 rfl) ?_
    refine lv_aload_nN hx hb dX16_init_2 rfl (lv_at hl 2 rfl) ?_
    refine QI_call (va_runI (As := [.int x1, va_rf none]) (rest := []) ⟨hx, hb, hml, hown, hts⟩ (iX14b l Γ a x1 none 0 s.heap.size) (cwI 2 hts (lw_meth q1024) rfl rfl rfl (hts _ q149) (hts _ q1041) (hts _ q1023) rfl (by decide +kernel) ⟨Nat.le_of_ble_eq_true rfl, Nat.le_of_ble_eq_true rfl⟩) ⟨PI.blind, fun U hU hW => ⟨rfl, by rw [hU], by rw [hU]; exact hP, va_K.moved hW.alike hK⟩⟩ rfl rfl hl.1 rfl (lv_room (Nat.le_of_ble_eq_true rfl)) dX16_init_3 ⟨Nat.le_of_ble_eq_true rfl, Nat.le_of_ble_eq_true rfl⟩) hS (Or.inl rfl) (fun q h => Or.inr h) (fun H locs hP hS _ _ => ?_)
    have hD : va_D (AI a s.heap.size) [(a, .inr (14, [.int x1, va_rf none, .int 0]))] := AI.one
    refine lv_aload_n hx hb dX16_init_6 rfl (lv_at hl 0 rfl) ?_
    refine lv_iload_n hx hb dX16_init_7 rfl (lv_at hl 3 rfl) ?_
    refine lv_if_eq hx hb (tgt := 15) dX16_init_8 (by decide) (fun h9 => ?_) (fun h9 => ?_)
    · refine lv_iconst hx hb (v := -1) dX16_init_15 (by decide) ?_
      refine va_putF (D := gD Γ) (ci := 14) (v := .int (-1)) (ty := .int) (C := RX16) (T := TX16) (N := 3) hx hb hts in_X16 tyX16 tyX16_ok nmX16 hown hK hP hD hS 0 rfl rfl 2 (by decide) (hts _ q1042) (fun _ h9 => h9) rfl hin rfl (by decide +kernel) rfl rfl (Nat.le_of_ble_eq_true rfl) dX16_init_16 (fun H locs hP hD hS => ?_)
      exact W.vret hx hb B.returns (fun t ht hW => ⟨rfl, by rw [ht]; first | exact hP | (rw [if_pos h9]; exact hP) | (rw [if_neg h9]; exact hP), hS.F ht⟩) hS.2.2 dX16_init_19 B.notSynchronized
    · refine lv_iconst hx hb (v := 1) dX16_init_11 (by decide) ?_
      refine lv_goto hx hb (tgt := 16) dX16_init_12 (by decide) ?_
      refine va_putF (D := gD Γ) (ci := 14) (v := .int 1) (ty := .int) (C := RX16) (T := TX16) (N := 3) hx hb hts in_X16 tyX16 tyX16_ok nmX16 hown hK hP hD hS 0 rfl rfl 2 (by decide) (hts _ q1042) (fun _ h9 => h9) rfl hin rfl (by decide +kernel) rfl rfl (Nat.le_of_ble_eq_true rfl) dX16_init_16 (fun H locs hP hD hS => ?_)
      exact W.vret hx hb B.returns (fun t ht hW => ⟨rfl, by rw [ht]; first | exact hP | (rw [if_pos h9]; exact hP) | (rw [if_neg h9]; exact hP), hS.F ht⟩) hS.2.2 dX16_init_19 B.notSynchronized
  | some z =>
    refine Met.ofW (cc := cX16_init) (maxL := 4) (ret := none) (by decide +kernel) rfl ?_
    intro p e s m args below meth c s₁ B hml hv
    obtain ⟨rfl, hsz, hP, hK⟩ := hv
    have hx := B.exec
    have hb := B.bytes
    have hts := atoms_spec (ws := ws_ yX16_init cX16_init 4 none) B.pre
    have hts : ∀ w ∈ lw_all, w.before _ s = true := fun w h => hts w (List.mem_cons_of_mem _ h)
    have hown : s.vm.findClass RX16 = some m.cls := findClass_of_methodNamed B.named
    have hin : meth.name = "<init>" := (name_of_methodNamed B.named B.method).1
    subst hsz
    have hD : va_D (AI a s.heap.size) [(a, .inr (14, [.int 0, .null, .int 0]))] := AI.one
    have hS : va_S (AI a s.heap.size) s.heap s.heap [] := va_S.rf
    have hl := lv_entry [.ref a, .int x1, va_rf (some z), .int x3] (n := 4) (Nat.le_of_ble_eq_true rfl)
    rw [lg_entry_eq]
    generalize (lg_sl [.ref a, .int x1, va_rf (some z), .int x3] ++ List.replicate (4 - (lg_sl [.ref a, .int x1, va_rf (some z), .int x3]).length) Slot.unset).toArray = ls at hl ⊢
    have hl : lv_has ls 4 [(0, .ref a), (1, .int x1), (2, va_rf (some z)), (3, .int x3)] := hl
    refine lv_aload_n hx hb dX16_init_0 rfl (lv_at hl 0 rfl) ?_
    refine lv_iload_n hx hb dX16_init_1 rfl (lv_at hl 1 rfl) ?_
    refine lv_aload_n hx hb dX16_init_2 rfl (lv_at hl 2 rfl) ?_
    refine QI_call (va_runI (As := [.int x1, va_rf (some z)]) (rest := []) ⟨hx, hb, hml, hown, hts⟩ (iX14b l Γ a x1 (some z) 0 s.heap.size) (cwI 2 hts (lw_meth q1024) rfl rfl rfl (hts _ q149) (hts _ q1041) (hts _ q1023) rfl (by decide +kernel) ⟨Nat.le_of_ble_eq_true rfl, Nat.le_of_ble_eq_true rfl⟩) ⟨PI.blind, fun U hU hW => ⟨rfl, by rw [hU], by rw [hU]; exact hP, va_K.moved hW.alike hK⟩⟩ rfl rfl hl.1 rfl (lv_room (Nat.le_of_ble_eq_true rfl)) dX16_init_3 ⟨Nat.le_of_ble_eq_true rfl, Nat.le_of_ble_eq_true rfl⟩) hS (Or.inl rfl) (fun q h => Or.inr h) (fun H locs hP hS _ _ => ?_)
    have hD : va_D (AI a s.heap.size) [(a, .inr (14, [.int x1, va_rf (some z), .int 0]))] := AI.one
    refine lv_aload_n hx hb dX16_init_6 rfl (lv_at hl 0 rfl) ?_
    refine lv_iload_n hx hb dX16_init_7 rfl (lv_at hl 3 rfl) ?_
    refine lv_if_eq hx hb (tgt := 15) dX16_init_8 (by decide) (fun h9 => ?_) (fun h9 => ?_)
    · refine lv_iconst hx hb (v := -1) dX16_init_15 (by decide) ?_
      refine va_putF (D := gD Γ) (ci := 14) (v := .int (-1)) (ty := .int) (C := RX16) (T := TX16) (N := 3) hx hb hts in_X16 tyX16 tyX16_ok nmX16 hown hK hP hD hS 0 rfl rfl 2 (by decide) (hts _ q1042) (fun _ h9 => h9) rfl hin rfl (by decide +kernel) rfl rfl (Nat.le_of_ble_eq_true rfl) dX16_init_16 (fun H locs hP hD hS => ?_)
      exact W.vret hx hb B.returns (fun t ht hW => ⟨rfl, by rw [ht]; first | exact hP | (rw [if_pos h9]; exact hP) | (rw [if_neg h9]; exact hP), hS.F ht⟩) hS.2.2 dX16_init_19 B.notSynchronized
    · refine lv_iconst hx hb (v := 1) dX16_init_11 (by decide) ?_
      refine lv_goto hx hb (tgt := 16) dX16_init_12 (by decide) ?_
      refine va_putF (D := gD Γ) (ci := 14) (v := .int 1) (ty := .int) (C := RX16) (T := TX16) (N := 3) hx hb hts in_X16 tyX16 tyX16_ok nmX16 hown hK hP hD hS 0 rfl rfl 2 (by decide) (hts _ q1042) (fun _ h9 => h9) rfl hin rfl (by decide +kernel) rfl rfl (Nat.le_of_ble_eq_true rfl) dX16_init_16 (fun H locs hP hD hS => ?_)
      exact W.vret hx hb B.returns (fun t ht hW => ⟨rfl, by rw [ht]; first | exact hP | (rw [if_pos h9]; exact hP) | (rw [if_neg h9]; exact hP), hS.F ht⟩) hS.2.2 dX16_init_19 B.notSynchronized

/-- Sum(): its array is made too -/
def QS (Γ : xG) (a sz : Nat) : Array Value → State → Outcome → State → Prop := fun _ st oc t => oc = .returned none ∧ (∃ b : Nat, sz ≤ b ∧ b ≠ a ∧ va_P (gD Γ) xcl [(a, .inr (10, [.ref b, .int 0])), (b, .inl (gA Γ 0, 6, .inl fun _ => 0))] t.heap) ∧ va_F (AI a sz) st t
set_option maxRecDepth 100000 in
theorem iX11 (l : Launch) (Γ : xG) (a : Nat) (sz : Nat) : Met l yX11_init (ws_ yX11_init cX11_init 1 none) { frames := 1, cells := 1, slots := 6, locals := 12 } (PI Γ sz [.ref a] [(a, .inr (10, [.null, .int 0]))]) (QS Γ a sz) 1 6 (AI a sz) := by
  refine Met.ofW (cc := cX11_init) (maxL := 1) (ret := none) (by decide +kernel) rfl ?_
  intro p e s m args below meth c s₁ B hml hv
  obtain ⟨rfl, hsz, hP, hK⟩ := hv
  have hx := B.exec
  have hb := B.bytes
  have hts := atoms_spec (ws := ws_ yX11_init cX11_init 1 none) B.pre
  have hts : ∀ w ∈ lw_all, w.before _ s = true := fun w h => hts w (List.mem_cons_of_mem _ h)
  have hown : s.vm.findClass RX11 = some m.cls := findClass_of_methodNamed B.named
  have hin : meth.name = "<init>" := (name_of_methodNamed B.named B.method).1
  subst hsz
  have hD : va_D (AI a s.heap.size) [(a, .inr (10, [.null, .int 0]))] := AI.one
  have hS : va_S (AI a s.heap.size) s.heap s.heap [] := va_S.rf
  have hl := lv_entry [.ref a] (n := 1) (Nat.le_of_ble_eq_true rfl)
  rw [lg_entry_eq]
  generalize (lg_sl [.ref a] ++ List.replicate (1 - (lg_sl [.ref a]).length) Slot.unset).toArray = ls at hl ⊢
  have hl : lv_has ls 1 [(0, .ref a)] := hl
  refine lv_aload_n hx hb dX11_init_0 rfl (lv_at hl 0 rfl) ?_
  refine W.objInit hx hb hown (hts _ q959) (hts _ q164) (hts _ q165) rfl (by rw [hml]; exact hl.1) rfl dX11_init_1 (Nat.le_of_ble_eq_true rfl) (Nat.le_of_ble_eq_true rfl) ?_
  refine W.eq (g2 := F0 m 4 ls []) rfl ?_
  refine lv_aload_n hx hb dX11_init_4 rfl (lv_at hl 0 rfl) ?_
  refine lv_bipush hx hb (v := 6) dX11_init_5 (by decide) ?_
  refine va_newa (atype := .int) (ty := .int) (N' := 6) (a0 := (6, .inl fun _ => 0)) hx hb (hts _ q225) rfl hK hP hD hS (fun q h => Or.inr h) (fun cA => rfl) (by decide) rfl (by decide) (Nat.le_of_ble_eq_true rfl) (Nat.le_of_ble_eq_true rfl) dX11_init_7 (fun q cA H hK2 hP hD hS => ?_)
  have e9 : gA Γ 0 = cA := Option.some.inj (((hK2.2 0 _ rfl).2).symm.trans ((hK2.2 9 _ rfl).2))
  subst e9
  have hq1 : q ≠ a := fun z => absurd (hD.1 0 1 _ _ rfl rfl z.symm) (by decide)
  have hq2 : s.heap.size ≤ q := (hD.2 1 _ rfl).elim (fun z => absurd z hq1) id
  refine va_putF (D := gD Γ) (ci := 10) (v := .ref q) (ty := (.array .int)) (C := RX11) (T := TX11) (N := 2) hx hb hts in_X11 tyX11 tyX11_ok nmX11 hown hK hP hD hS 0 rfl rfl 0 (by decide) (hts _ q960) (fun _ h9 => h9) rfl hin rfl (by decide +kernel) rfl rfl (Nat.le_of_ble_eq_true rfl) dX11_init_9 (fun H locs hP hD hS => ?_)
  exact W.vret hx hb B.returns (fun t ht hW => ⟨rfl, ⟨q, hq2, hq1, by rw [ht]; exact hP⟩, hS.F ht⟩) hS.2.2 dX11_init_12 B.notSynchronized
