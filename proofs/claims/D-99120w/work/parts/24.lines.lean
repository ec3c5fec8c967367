set_option maxRecDepth 100000
/-! the lines of the law -/
def sinksOf (d : LDen) (F : Nat → Int32) : Int32 := if d.1 = 0 then d.2.1 * (if d.2.2.2 F then d.2.2.1 else 0) else 0
def carriesOf (d : LDen) (F : Nat → Int32) : Int32 := if d.1 = 0 then 0 else d.2.1 * (if d.2.2.2 F then d.2.2.1 else 0)
def addsOf (d : LDen) (F : Nat → Int32) : Int32 := if d.2.2.2 F then d.2.2.1 else 0
def lnq {α : Type} (D : List LDen) (v : Int32) (k : LDen → Option α) : Option α := if v = 0 then none else match D[v.toNatClampNeg - 1]? with
  | none => none
  | some d => k d
abbrev yLineSinks : MethodName := ⟨"FeatherYard$Line", "sinks", "([I)I"⟩
abbrev yLineCarries : MethodName := ⟨"FeatherYard$Line", "carries", "([I)I"⟩
/-- Line.adds upon an object of a class of xcl that holds n, cond first -/
theorem mX14_adds (l : Launch) (Γ : xG) (hG : dmI dmX Γ) (D : List LDen) (s : Nat) (hs : s < 15) (M : Mem) (a : Nat) (d : LDen) : CNP l yX14_adds (ws_ yX14_adds cX14_adds 2 (some .int)) 34 1300 Γ D [.ref a, .ref (gadr Γ (0, s, 6))] M (fun H => LnAt Γ a d H) (addsOf d (M (0, s, 6))) := by
  refine CNP.of (own := RX14) (lv0 := lv_args 0 [.ref a, .ref (gadr Γ (0, s, 6))]) (by decide +kernel) rfl (Nat.le_of_ble_eq_true rfl) rfl (fun X e1 e2 e3 hnl hC hP => ?_)
  subst e1
  subst e2
  subst e3
  obtain ⟨hna, b, hat, hb⟩ := hP
  have get : ∀ {pr : Option (Int32 × Mem)} {pc idx fk : Nat} {v : Value} {st : List Value} (hv : [Value.int d.2.2.1, va_rf b, .int d.2.1][fk]? = some v) (ht : (TX15 fk).1 = "FeatherYard$Line") (ht2 : (TX16 fk) = (TX15 fk)) (hq : Cond.fieldLink RX14 idx "FeatherYard$Line" (TX15 fk).2.1 (TX15 fk).2.2.1 ∈ lw_all) (hf : Nat.ble (fk + 1) 3 = true) (hd : decode cX14_adds pc = .ok (.getfield idx, 3)) (kk : J X (ZN X foI) pr (pc + 3) [(0, .ref a), (1, .ref (gadr (XG X) (0, s, 6)))] (v :: st) M 0 0), J X (ZN X foI) pr pc [(0, .ref a), (1, .ref (gadr (XG X) (0, s, 6)))] (.ref a :: st) M 0 0 := by
    intro pr pc idx fk v st hv ht ht2 hq hf hd kk
    by_cases h0 : d.1 = 0
    · rw [if_pos h0] at hat
      exact j_dget (fk := fk) (ref := "FeatherYard$Line") hC hna hat rfl in_X15 hf ht hq hv hd kk
    · rw [if_neg h0] at hat
      exact j_dget (fk := fk) (ref := "FeatherYard$Line") hC hna hat rfl in_X16 hf (by rw [ht2]; exact ht) (by rw [ht2]; exact hq) hv hd kk
  rcases hb with ⟨rfl, hf⟩ | ⟨q, rfl, hc⟩
  · have e : addsOf d (M (0, s, 6)) = d.2.2.1 := by simp [addsOf, hf]
    rw [e]
    refine j_aload_n hC 0 dX14_adds_0 rfl ?_
    refine get (fk := 1) rfl rfl rfl q1028 rfl dX14_adds_1 ?_
    refine j_ifnullN (tgt := 20) hC dX14_adds_4 (by decide) ?_
    refine j_aload_n hC 0 dX14_adds_20 rfl ?_
    refine get (fk := 0) rfl rfl rfl q1027 rfl dX14_adds_21 ?_
    refine j_goto (tgt := 28) hC dX14_adds_24 (by decide) ?_
    exact j_iret hC dX14_adds_28
  · have e : (some (addsOf d (M (0, s, 6)), M)) = if bi (d.2.2.2 (M (0, s, 6))) = 0 then some ((0 : Int32), M) else some (d.2.2.1, M) := by
      unfold addsOf
      by_cases h : d.2.2.2 (M (0, s, 6)) = true <;> simp [h, bi]
    rw [e]
    refine j_aload_n hC 0 dX14_adds_0 rfl ?_
    refine get (fk := 1) rfl rfl rfl q1028 rfl dX14_adds_1 ?_
    refine j_ifnull (a := q) hC dX14_adds_4 ?_
    refine j_aload_n hC 0 dX14_adds_7 rfl ?_
    refine get (fk := 1) rfl rfl rfl q1028 rfl dX14_adds_8 ?_
    refine j_aload_n hC 1 dX14_adds_11 rfl ?_
    refine j_cond (HS_all (XL X) (XG X) hG (XD X) s hs M 29) hc hC q603 (by decide) (by decide) rfl rfl rfl dX14_adds_12 ?_
    refine j_if_eq (tgt := 27) hC dX14_adds_17 (by decide) (fun _ => ?_) (fun _ => ?_)
    · refine j_iconst (v := 0) hC dX14_adds_27 (by decide) ?_
      exact j_iret hC dX14_adds_28
    · refine j_aload_n hC 0 dX14_adds_20 rfl ?_
      refine get (fk := 0) rfl rfl rfl q1027 rfl dX14_adds_21 ?_
      refine j_goto (tgt := 28) hC dX14_adds_24 (by decide) ?_
      exact j_iret hC dX14_adds_28
theorem mX15_sinks (l : Launch) (Γ : xG) (hG : dmI dmX Γ) (D : List LDen) (s : Nat) (hs : s < 15) (M : Mem) (a : Nat) (d : LDen) (h0 : d.1 = 0) : CNP l yX15_sinks (ws_ yX15_sinks cX15_sinks 2 (some .int)) 35 1330 Γ D [.ref a, .ref (gadr Γ (0, s, 6))] M (fun H => LnAt Γ a d H) (sinksOf d (M (0, s, 6))) := by
  refine CNP.of (own := RX15) (lv0 := lv_args 0 [.ref a, .ref (gadr Γ (0, s, 6))]) (by decide +kernel) rfl (Nat.le_of_ble_eq_true rfl) rfl (fun X e1 e2 e3 hnl hC hP => ?_)
  subst e1
  subst e2
  subst e3
  obtain ⟨hna, b, hat, hb⟩ := id hP
  rw [if_pos h0] at hat
  have e : sinksOf d (M (0, s, 6)) = d.2.1 * addsOf d (M (0, s, 6)) := by simp [sinksOf, h0, addsOf]
  rw [e]
  refine j_aload_n hC 0 dX15_sinks_0 rfl ?_
  refine j_dget (fk := 2) hC hna hat rfl in_X15 rfl rfl q1026 rfl dX15_sinks_1 ?_
  refine j_aload_n hC 0 dX15_sinks_4 rfl ?_
  refine j_aload_n hC 1 dX15_sinks_5 rfl ?_
  refine j_callUP (nA := 1) (rest := [.int d.2.1]) hC [.ref (gadr (XG X) (0, s, 6))] rfl (mX14_adds (XL X) (XG X) hG (XD X) s hs M a d) (fun H1 hKp => LnAt.kept hP hKp) q596 q597 q599 q600 q149 q601 hna hat rfl rfl (by decide +kernel) rfl rfl rfl rfl rfl rfl dX15_sinks_6 ?_
  refine j_imul hC dX15_sinks_9 ?_
  exact j_iret hC dX15_sinks_10
theorem mX16_carries (l : Launch) (Γ : xG) (hG : dmI dmX Γ) (D : List LDen) (s : Nat) (hs : s < 15) (M : Mem) (a : Nat) (d : LDen) (h0 : ¬ d.1 = 0) : CNP l yX16_carries (ws_ yX16_carries cX16_carries 2 (some .int)) 35 1330 Γ D [.ref a, .ref (gadr Γ (0, s, 6))] M (fun H => LnAt Γ a d H) (carriesOf d (M (0, s, 6))) := by
  refine CNP.of (own := RX16) (lv0 := lv_args 0 [.ref a, .ref (gadr Γ (0, s, 6))]) (by decide +kernel) rfl (Nat.le_of_ble_eq_true rfl) rfl (fun X e1 e2 e3 hnl hC hP => ?_)
  subst e1
  subst e2
  subst e3
  obtain ⟨hna, b, hat, hb⟩ := id hP
  rw [if_neg h0] at hat
  have e : carriesOf d (M (0, s, 6)) = d.2.1 * addsOf d (M (0, s, 6)) := by simp [carriesOf, h0, addsOf]
  rw [e]
  refine j_aload_n hC 0 dX16_carries_0 rfl ?_
  refine j_dget (fk := 2) hC hna hat rfl in_X16 rfl rfl q1042 rfl dX16_carries_1 ?_
  refine j_aload_n hC 0 dX16_carries_4 rfl ?_
  refine j_aload_n hC 1 dX16_carries_5 rfl ?_
  refine j_callUP (nA := 1) (rest := [.int d.2.1]) hC [.ref (gadr (XG X) (0, s, 6))] rfl (mX14_adds (XL X) (XG X) hG (XD X) s hs M a d) (fun H1 hKp => LnAt.kept hP hKp) q655 q656 q657 q600 q149 q601 hna hat rfl rfl (by decide +kernel) rfl rfl rfl rfl rfl rfl dX16_carries_6 ?_
  refine j_imul hC dX16_carries_9 ?_
  exact j_iret hC dX16_carries_10
theorem mX14_sinks (l : Launch) (Γ : xG) (D : List LDen) (s : Nat) (M : Mem) (a : Nat) (P : Heap → Prop) : CNP l yX14_sinks (ws_ yX14_sinks cX14_sinks 2 (some .int)) 35 1330 Γ D [.ref a, .ref (gadr Γ (0, s, 6))] M P 0 := by
  refine CNP.of (own := RX14) (lv0 := lv_args 0 [.ref a, .ref (gadr Γ (0, s, 6))]) (by decide +kernel) rfl (Nat.le_of_ble_eq_true rfl) rfl (fun X e1 e2 e3 hnl hC hP => ?_)
  refine j_iconst (v := 0) hC dX14_sinks_0 (by decide) ?_
  exact j_iret hC dX14_sinks_1
theorem mX14_carries (l : Launch) (Γ : xG) (D : List LDen) (s : Nat) (M : Mem) (a : Nat) (P : Heap → Prop) : CNP l yX14_carries (ws_ yX14_carries cX14_carries 2 (some .int)) 35 1330 Γ D [.ref a, .ref (gadr Γ (0, s, 6))] M P 0 := by
  refine CNP.of (own := RX14) (lv0 := lv_args 0 [.ref a, .ref (gadr Γ (0, s, 6))]) (by decide +kernel) rfl (Nat.le_of_ble_eq_true rfl) rfl (fun X e1 e2 e3 hnl hC hP => ?_)
  refine j_iconst (v := 0) hC dX14_carries_0 (by decide) ?_
  exact j_iret hC dX14_carries_1
/-- the receiver at H -/
theorem hrecv {Γ : xG} {s : State} {H : Heap} {b ci N : Nat} {C : String} {T : u_T} {fs : List Value} (hK : va_K (gD Γ) xcl (xtys Γ) s) (hat : va_at (gD Γ) xcl (b, .inr (ci, fs)) H) (hcl : xcl[ci]? = some (C, T, N)) : ∃ cell : Cell, H[b]? = some cell ∧ cell.vm.isStatics = false ∧ s.vm.findClass C = some cell.cls :=
  va_recv (ws := [(b, .inr (ci, fs))]) hK (fun i q hi => by
    cases i with
    | zero => cases hi; exact hat
    | succ i => cases hi) hcl (q0 := 0) rfl
section JLINE
variable {ρ : Type} {X : JX} {Z : ρ → State → Prop} {pc : Nat} {lv : List (Nat × Value)} {rest : List Value} {M : Mem} {k n : Nat} {cc : ByteArray} {ret : Option FieldType} {fr lc mc ms : Nat}
/-- 'law[i].sinks(facts)': aaload, aload_0, getfield facts, invokevirtual -/
theorem j_lineSinks (hC : JC X cc RX3 ret fr lc mc ms) (hG : dmI dmX (XG X)) {s : Nat} (hs : s < 15) {i : Int32} {kont : LDen → Option ρ} (j : Nat) (hj : lv[j]? = some (0, .ref (gadr (XG X) (0, s, 0)))) (d0 : decode cc pc = .ok (.aaload, 1)) (d1 : decode cc (pc + 1) = .ok (.aload_n 0, 1)) (d2 : decode cc (pc + 1 + 1) = .ok (.getfield 36, 3)) (d5 : decode cc (pc + 1 + 1 + 3) = .ok (.invokevirtual 112, 3)) (hqf : Cond.fieldLink RX3 36 RX3 "facts" "[I" ∈ lw_all)
    (hfr : 36 ≤ fr) (hlc : 1360 ≤ lc) (hrm : Nat.ble ((rest.map fun v => v.category).sum) 8 = true) (hk : Nat.ble k mc = true) (hn : Nat.ble n ms = true) (kk : ∀ d, J X Z (kont d) (pc + 1 + 1 + 3 + 3) lv (.int (sinksOf d (M (0, s, 6))) :: rest) M k n) : J X Z (gd i 12 (lnq (XD X) (M (0, s, 3) i.toNatClampNeg) kont)) pc lv (.int i :: .ref (gadr (XG X) (0, s, 3)) :: rest) M k n := by
  refine j_gd (fun hin => ?_)
  obtain ⟨p, l, e, R, s0, m, args, below, meth, co, Γ, D, nL⟩ := X
  intro r hr H locs ls hW hS hl
  have hR := hC.2.2.2.2.2.2.2.1
  have hK := hC.2.2.2.2.2.1.1
  have hr : lnq D (M (0, s, 3) i.toNatClampNeg) kont = some r := hr
  unfold lnq at hr
  by_cases hv : M (0, s, 3) i.toNatClampNeg = 0
  · rw [if_pos hv] at hr; cases hr
  rw [if_neg hv] at hr
  cases hD : D[(M (0, s, 3) i.toNatClampNeg).toNatClampNeg - 1]? with
  | none => rw [hD] at hr; cases hr
  | some d =>
    rw [hD] at hr
    have hr : kont d = some r := hr
    obtain ⟨aL, hW1, hW2⟩ := id hW
    have hLn := hW2.1.line hD
    have h1 := hW1 (0, s, 3) (dmS hG hs rfl)
    have hP : va_P (gD Γ) xcl [(gadr Γ (0, s, 3), .inl (gA Γ 5, 12, .inr (.inr (.inr (.inr (vq Γ aL (M (0, s, 3)) (0, s, 3)))))))] H := fun i q hi => by
      cases i with
      | zero => cases hi; exact h1
      | succ i => cases hi
    refine va_aldq (C := RX14) hC.1 hC.2.1 hK hP 0 5 rfl rfl hin d0 ?_
    have e9 : va_rf (vq Γ aL (M (0, s, 3)) (0, s, 3) i.toNatClampNeg) = .ref (aL ((M (0, s, 3) i.toNatClampNeg).toNatClampNeg - 1)) := by
      show va_rf (lref aL (M (0, s, 3) i.toNatClampNeg)) = _
      unfold lref
      rw [if_neg hv]
      rfl
    rw [e9]
    generalize aL ((M (0, s, 3) i.toNatClampNeg).toNatClampNeg - 1) = a at hLn
    refine lv_aload_n hC.1 hC.2.1 d1 rfl (lv_at hl j hj) ?_
    have h2 := hW1 (0, s, 0) (dmS hG hs rfl)
    have hP2 : va_P (gD Γ) xcl [(gadr Γ (0, s, 0), .inr (2, (List.range (fN 2)).map (vl Γ aL (M (0, s, 0)) (0, s, 0))))] H := fun i q hi => by
      cases i with
      | zero => cases hi; exact h2
      | succ i => cases hi
    refine va_get (k := 5) (v := .ref (gadr Γ (0, s, 6))) hC.1 hC.2.1 hC.2.2.2.2.1 in_X3 hC.2.2.2.1 hK hP2 0 rfl rfl (by decide) (hC.2.2.2.2.1 _ hqf) (fun x hx => hx) rfl d2 ?_
    have hpre : ∀ U : State, U.heap = H → s0.WarmedH U.vm → PreP Γ D M H.size [.ref a, .ref (gadr Γ (0, s, 6))] (fun H => LnAt Γ a d H) (Value.ref a :: [Value.ref (gadr Γ (0, s, 6))]).toArray U := fun U hU hWm => ⟨rfl, by rw [hU], by rw [hU]; exact hW, hC.2.2.2.2.2.1.pass hS hU hWm, hC.2.2.2.2.2.2.1, by rw [hU]; exact hLn⟩
    obtain ⟨-, b, hat, -⟩ := id hLn
    have hkc := Nat.le_of_ble_eq_true hk
    have hkn := Nat.le_of_ble_eq_true hn
    by_cases h0 : d.1 = 0
    · rw [if_pos h0] at hat
      have run := va_runU (l := l) (R := R) (e := e) (below := below) (meth := meth) (rest := rest) (As := [.ref (gadr Γ (0, s, 6))]) (g := F0 m (pc + 1 + 1 + 3) ls (.ref (gadr Γ (0, s, 6)) :: .ref a :: rest)) (locs := locs) (cells := k) (slots := n) ⟨hC.1, hC.2.1, hC.2.2.1, hC.2.2.2.1, hC.2.2.2.2.1⟩ (mX15_sinks l Γ hG D s hs M a d h0 H.size) (va_cwO (x := yLineSinks) (owner := RX14) (C := RX15) 1 hC.2.2.2.2.1 (lw_O q589 q591 q590 q593 q594 q150 q595) rfl rfl rfl q638 (by decide +kernel) ⟨by rw [hR]; exact hfr, by rw [hR]; show 8 + (2 + 11) + 1330 ≤ lc; omega⟩)
        ⟨PreP.blind, hrecv hK hat rfl, hpre⟩ rfl rfl hl.1 rfl (lv_room (Nat.le_of_ble_eq_true hrm)) d5 ⟨by rw [hR]; exact hkc, by rw [hR]; exact hkn⟩
      exact W_after run hS (fun H1 locs1 hW1 hS1 => kk d r hr H1 locs1 ls hW1 hS1 hl)
    · rw [if_neg h0] at hat
      have run := va_runU (l := l) (R := R) (e := e) (below := below) (meth := meth) (rest := rest) (As := [.ref (gadr Γ (0, s, 6))]) (g := F0 m (pc + 1 + 1 + 3) ls (.ref (gadr Γ (0, s, 6)) :: .ref a :: rest)) (locs := locs) (cells := k) (slots := n) ⟨hC.1, hC.2.1, hC.2.2.1, hC.2.2.2.1, hC.2.2.2.2.1⟩ (mX14_sinks l Γ D s M a (fun H => LnAt Γ a d H) H.size) (va_cwU (x := yLineSinks) (owner := RX14) (C := RX16) 1 hC.2.2.2.2.1 (lw_U q589 q591 q592 q590 q149 q638) rfl rfl rfl rfl (by decide +kernel) ⟨by rw [hR]; exact hfr, by rw [hR]; show 8 + (2 + 11) + 1330 ≤ lc; omega⟩)
        ⟨PreP.blind, hrecv hK hat rfl, hpre⟩ rfl rfl hl.1 rfl (lv_room (Nat.le_of_ble_eq_true hrm)) d5 ⟨by rw [hR]; exact hkc, by rw [hR]; exact hkn⟩
      have hz : sinksOf d (M (0, s, 6)) = 0 := by simp [sinksOf, h0]
      refine W_after run hS (fun H1 locs1 hW1 hS1 => ?_)
      have h9 := kk d r hr H1 locs1 ls hW1 hS1 hl
      rw [hz] at h9
      exact h9
theorem j_lineCarries (hC : JC X cc RX3 ret fr lc mc ms) (hG : dmI dmX (XG X)) {s : Nat} (hs : s < 15) {i : Int32} {kont : LDen → Option ρ} (j : Nat) (hj : lv[j]? = some (0, .ref (gadr (XG X) (0, s, 0)))) (d0 : decode cc pc = .ok (.aaload, 1)) (d1 : decode cc (pc + 1) = .ok (.aload_n 0, 1)) (d2 : decode cc (pc + 1 + 1) = .ok (.getfield 36, 3)) (d5 : decode cc (pc + 1 + 1 + 3) = .ok (.invokevirtual 125, 3)) (hqf : Cond.fieldLink RX3 36 RX3 "facts" "[I" ∈ lw_all)
    (hfr : 36 ≤ fr) (hlc : 1360 ≤ lc) (hrm : Nat.ble ((rest.map fun v => v.category).sum) 8 = true) (hk : Nat.ble k mc = true) (hn : Nat.ble n ms = true) (kk : ∀ d, J X Z (kont d) (pc + 1 + 1 + 3 + 3) lv (.int (carriesOf d (M (0, s, 6))) :: rest) M k n) : J X Z (gd i 12 (lnq (XD X) (M (0, s, 3) i.toNatClampNeg) kont)) pc lv (.int i :: .ref (gadr (XG X) (0, s, 3)) :: rest) M k n := by
  refine j_gd (fun hin => ?_)
  obtain ⟨p, l, e, R, s0, m, args, below, meth, co, Γ, D, nL⟩ := X
  intro r hr H locs ls hW hS hl
  have hR := hC.2.2.2.2.2.2.2.1
  have hK := hC.2.2.2.2.2.1.1
  have hr : lnq D (M (0, s, 3) i.toNatClampNeg) kont = some r := hr
  unfold lnq at hr
  by_cases hv : M (0, s, 3) i.toNatClampNeg = 0
  · rw [if_pos hv] at hr; cases hr
  rw [if_neg hv] at hr
  cases hD : D[(M (0, s, 3) i.toNatClampNeg).toNatClampNeg - 1]? with
  | none => rw [hD] at hr; cases hr
  | some d =>
    rw [hD] at hr
    have hr : kont d = some r := hr
    obtain ⟨aL, hW1, hW2⟩ := id hW
    have hLn := hW2.1.line hD
    have h1 := hW1 (0, s, 3) (dmS hG hs rfl)
    have hP : va_P (gD Γ) xcl [(gadr Γ (0, s, 3), .inl (gA Γ 5, 12, .inr (.inr (.inr (.inr (vq Γ aL (M (0, s, 3)) (0, s, 3)))))))] H := fun i q hi => by
      cases i with
      | zero => cases hi; exact h1
      | succ i => cases hi
    refine va_aldq (C := RX14) hC.1 hC.2.1 hK hP 0 5 rfl rfl hin d0 ?_
    have e9 : va_rf (vq Γ aL (M (0, s, 3)) (0, s, 3) i.toNatClampNeg) = .ref (aL ((M (0, s, 3) i.toNatClampNeg).toNatClampNeg - 1)) := by
      show va_rf (lref aL (M (0, s, 3) i.toNatClampNeg)) = _
      unfold lref
      rw [if_neg hv]
      rfl
    rw [e9]
    generalize aL ((M (0, s, 3) i.toNatClampNeg).toNatClampNeg - 1) = a at hLn
    refine lv_aload_n hC.1 hC.2.1 d1 rfl (lv_at hl j hj) ?_
    have h2 := hW1 (0, s, 0) (dmS hG hs rfl)
    have hP2 : va_P (gD Γ) xcl [(gadr Γ (0, s, 0), .inr (2, (List.range (fN 2)).map (vl Γ aL (M (0, s, 0)) (0, s, 0))))] H := fun i q hi => by
      cases i with
      | zero => cases hi; exact h2
      | succ i => cases hi
    refine va_get (k := 5) (v := .ref (gadr Γ (0, s, 6))) hC.1 hC.2.1 hC.2.2.2.2.1 in_X3 hC.2.2.2.1 hK hP2 0 rfl rfl (by decide) (hC.2.2.2.2.1 _ hqf) (fun x hx => hx) rfl d2 ?_
    have hpre : ∀ U : State, U.heap = H → s0.WarmedH U.vm → PreP Γ D M H.size [.ref a, .ref (gadr Γ (0, s, 6))] (fun H => LnAt Γ a d H) (Value.ref a :: [Value.ref (gadr Γ (0, s, 6))]).toArray U := fun U hU hWm => ⟨rfl, by rw [hU], by rw [hU]; exact hW, hC.2.2.2.2.2.1.pass hS hU hWm, hC.2.2.2.2.2.2.1, by rw [hU]; exact hLn⟩
    obtain ⟨-, b, hat, -⟩ := id hLn
    have hkc := Nat.le_of_ble_eq_true hk
    have hkn := Nat.le_of_ble_eq_true hn
    by_cases h0 : d.1 = 0
    · rw [if_pos h0] at hat
      have run := va_runU (l := l) (R := R) (e := e) (below := below) (meth := meth) (rest := rest) (As := [.ref (gadr Γ (0, s, 6))]) (g := F0 m (pc + 1 + 1 + 3) ls (.ref (gadr Γ (0, s, 6)) :: .ref a :: rest)) (locs := locs) (cells := k) (slots := n) ⟨hC.1, hC.2.1, hC.2.2.1, hC.2.2.2.1, hC.2.2.2.2.1⟩ (mX14_carries l Γ D s M a (fun H => LnAt Γ a d H) H.size) (va_cwU (x := yLineCarries) (owner := RX14) (C := RX15) 1 hC.2.2.2.2.1 (lw_U q649 q651 q658 q650 q149 q659) rfl rfl rfl rfl (by decide +kernel) ⟨by rw [hR]; exact hfr, by rw [hR]; show 8 + (2 + 11) + 1330 ≤ lc; omega⟩)
        ⟨PreP.blind, hrecv hK hat rfl, hpre⟩ rfl rfl hl.1 rfl (lv_room (Nat.le_of_ble_eq_true hrm)) d5 ⟨by rw [hR]; exact hkc, by rw [hR]; exact hkn⟩
      have hz : carriesOf d (M (0, s, 6)) = 0 := by simp [carriesOf, h0]
      refine W_after run hS (fun H1 locs1 hW1 hS1 => ?_)
      have h9 := kk d r hr H1 locs1 ls hW1 hS1 hl
      rw [hz] at h9
      exact h9
    · rw [if_neg h0] at hat
      have run := va_runU (l := l) (R := R) (e := e) (below := below) (meth := meth) (rest := rest) (As := [.ref (gadr Γ (0, s, 6))]) (g := F0 m (pc + 1 + 1 + 3) ls (.ref (gadr Γ (0, s, 6)) :: .ref a :: rest)) (locs := locs) (cells := k) (slots := n) ⟨hC.1, hC.2.1, hC.2.2.1, hC.2.2.2.1, hC.2.2.2.2.1⟩ (mX16_carries l Γ hG D s hs M a d h0 H.size) (va_cwO (x := yLineCarries) (owner := RX14) (C := RX16) 1 hC.2.2.2.2.1 (lw_O q649 q651 q650 q652 q653 q151 q654) rfl rfl rfl q659 (by decide +kernel) ⟨by rw [hR]; exact hfr, by rw [hR]; show 8 + (2 + 11) + 1330 ≤ lc; omega⟩)
        ⟨PreP.blind, hrecv hK hat rfl, hpre⟩ rfl rfl hl.1 rfl (lv_room (Nat.le_of_ble_eq_true hrm)) d5 ⟨by rw [hR]; exact hkc, by rw [hR]; exact hkn⟩
      exact W_after run hS (fun H1 locs1 hW1 hS1 => kk d r hr H1 locs1 ls hW1 hS1 hl)
end JLINE
