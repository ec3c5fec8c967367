set_option maxRecDepth 100000
/-! the conditions' holds, by depth -/
section JNUL
variable {ρ : Type} {X : JX} {Z : ρ → State → Prop} {pr : Option ρ} {pc : Nat} {lv : List (Nat × Value)} {rest : List Value} {M : Mem} {k n : Nat} {cc : ByteArray} {own : String} {ret : Option FieldType} {fr lc mc ms : Nat}
theorem j_aload_nN (hC : JC X cc own ret fr lc mc ms) {q : Fin 4} (j : Nat) (hd : decode cc pc = .ok (.aload_n q, 1)) (hj : lv[j]? = some ((q : Nat), .null)) (kk : J X Z pr (pc + 1) lv (.null :: rest) M k n) : J X Z pr pc lv rest M k n := by
  obtain ⟨p, l, e, R, s, m, args, below, meth, co, Γ, D, nL⟩ := X
  intro r hr H locs ls hW hS hl
  exact lv_aload_nN hC.1 hC.2.1 hd rfl (lv_at hl j hj) (kk r hr H locs ls hW hS hl)
theorem j_astore_nN (hC : JC X cc own ret fr lc mc ms) {q : Fin 4} (lv' : List (Nat × Value)) {nl : Nat} (hnl : nLof X = nl) (hd : decode cc pc = .ok (.astore_n q, 1)) (hi : Nat.ble ((q : Nat) + 1) nl = true) (hl' : ((q : Nat), Value.null) :: lv.filter (fun z => !(z.1 == (q : Nat)) && !(z.1 + 1 == (q : Nat) && z.2.category == 2)) = lv') (kk : J X Z pr (pc + 1) lv' rest M k n) : J X Z pr pc lv (.null :: rest) M k n := by
  obtain ⟨p, l, e, R, s, m, args, below, meth, co, Γ, D, nL⟩ := X
  intro r hr H locs ls hW hS hl
  exact lv_astore_nN hC.1 hC.2.1 hd rfl hl (by have h := Nat.le_of_ble_eq_true hi; rw [← hnl] at h; exact h) hl' (fun ls' hl2 => kk r hr H locs ls' hW hS hl2)
end JNUL
theorem CTag.kp {Γ : xG} {a : Nat} {f : Den} {H H1 : Heap} (h : CTag Γ a f H) (hq : Kp Γ H H1) : CTag Γ a f H1 := h.kept hq
/-- the four contracts: what stands below is of depth d at most -/
def HS (l : Launch) (Γ : xG) (D : List LDen) (s : Nat) (M : Mem) (d : Nat) : Prop :=
  (∀ a f, CNP l yX10_holds (ws_ yX10_holds cX10_holds 2 (some .boolean)) (d + 2) (40 * (d + 1)) Γ D [.ref a, .ref (gadr Γ (0, s, 6))] M (fun H => CTag Γ a f H) (bi (f (M (0, s, 6))))) ∧
  (∀ a f, CNP l yX13_holds (ws_ yX13_holds cX13_holds 2 (some .boolean)) (d + 2) (40 * (d + 1)) Γ D [.ref a, .ref (gadr Γ (0, s, 6))] M (fun H => CNot Γ (fun b g => CondN Γ d b g H) a f H) (bi (f (M (0, s, 6))))) ∧
  (∀ a f, CNP l yX12_holds (ws_ yX12_holds cX12_holds 2 (some .boolean)) (d + 2) (40 * (d + 1)) Γ D [.ref a, .ref (gadr Γ (0, s, 6))] M (fun H => CLess Γ a f H) (bi (f (M (0, s, 6))))) ∧
  (∀ a f, CNP l yX9_holds (ws_ yX9_holds cX9_holds 3 (some .boolean)) (d + 2) (40 * (d + 1)) Γ D [.ref a, .ref (gadr Γ (0, s, 6))] M (fun H => CChain Γ (fun b g => CondN Γ d b g H) a f H) (bi (f (M (0, s, 6)))))
theorem j_cond {ρ : Type} {X : JX} {Z : ρ → State → Prop} {pr : Option ρ} {pc : Nat} {lv : List (Nat × Value)} {rest : List Value} {M : Mem} {k n : Nat} {cc : ByteArray} {own : String} {ret : Option FieldType} {fr lc mc ms idx count d s b : Nat} {g : Den}
    (hH : HS (XL X) (XG X) (XD X) s M d) (hcond : CondN (XG X) (d + 1) b g (XS X).heap) (hC : JC X cc own ret fr lc mc ms) (h1 : Cond.methodLink own idx yCond ∈ lw_all) (hfr : d + 3 ≤ fr) (hlc : 22 + 40 * (d + 1) ≤ lc) (hrm : Nat.ble ((rest.map fun v => v.category).sum) 8 = true) (hk : Nat.ble k mc = true) (hn : Nat.ble n ms = true)
    (hd : decode cc pc = .ok (.invokeinterface idx count, 5)) (kk : J X Z pr (pc + 5) lv (.int (bi (g (M (0, s, 6)))) :: rest) M k n) : J X Z pr pc lv (.ref (gadr (XG X) (0, s, 6)) :: .ref b :: rest) M k n := by
  obtain ⟨-, -, -, -, -, -, -, f9, f10, f12, f13⟩ := hC.KN
  rcases hcond with h | h | h | h
  · obtain ⟨q, hq, hna, hat, -⟩ := id h
    exact j_callFP (nA := 1) (rest := rest) hC [.ref (gadr (XG X) (0, s, 6))] rfl (hH.1 b g) (fun H1 hKp => h.kept hKp) h1 q633 q635 q145 q637 f10 hna hat rfl (by decide +kernel) hfr (by omega) rfl hrm hk hn hd kk
  · obtain ⟨q, hq, hna, hat, -⟩ := id h
    exact j_callFP (nA := 1) (rest := rest) hC [.ref (gadr (XG X) (0, s, 6))] rfl (hH.2.1 b g) (fun H1 hKp => h.kept (fun _ _ z => CondN.kept hKp _ _ _ z) hKp) h1 q625 q627 q148 q629 f13 hna hat rfl (by decide +kernel) hfr (by omega) rfl hrm hk hn hd kk
  · obtain ⟨q1, q2, t1, t2, n1, n2, hna, hat, -⟩ := id h
    exact j_callFP (nA := 1) (rest := rest) hC [.ref (gadr (XG X) (0, s, 6))] rfl (hH.2.2.1 b g) (fun H1 hKp => h.kept hKp) h1 q615 q617 q147 q619 f12 hna hat rfl (by decide +kernel) hfr (by omega) rfl hrm hk hn hd kk
  · obtain ⟨al, L, h0, hL, -⟩ := id h
    cases hL0 : L[0]? with
    | none => rw [hL0] at h0; cases h0
    | some q =>
      rw [hL0] at h0
      have e : q.1 = b := Option.some.inj h0
      obtain ⟨hna, hat, -⟩ := hL 0 q hL0
      rw [e] at hna hat
      exact j_callFP (nA := 1) (rest := rest) hC [.ref (gadr (XG X) (0, s, 6))] rfl (hH.2.2.2 b g) (fun H1 hKp => h.kept (fun _ _ z => CondN.kept hKp _ _ _ z) hKp) h1 q607 q609 q144 q611 f9 hna hat rfl (by decide +kernel) hfr (by omega) rfl hrm hk hn hd kk
theorem toNat_nI8 {k : Nat} (h : k < 8) : (nI k).toNatClampNeg = k := by
  have : ∀ k, k < 8 → (nI k).toNatClampNeg = k := by decide +kernel
  exact this k h
theorem vin_nI8 {k : Nat} (h : k < 8) : vp_in (nI k) 8 := by
  have : ∀ k, k < 8 → ¬ (nI k < 0 ∨ 8 ≤ (nI k).toNatClampNeg) := by decide +kernel
  exact this k h
theorem mTag (l : Launch) (Γ : xG) (hG : dmI dmX Γ) (D : List LDen) (s : Nat) (hs : s < 15) (M : Mem) (d a : Nat) (f : Den) : CNP l yX10_holds (ws_ yX10_holds cX10_holds 2 (some .boolean)) (d + 2) (40 * (d + 1)) Γ D [.ref a, .ref (gadr Γ (0, s, 6))] M (fun H => CTag Γ a f H) (bi (f (M (0, s, 6)))) := by
  refine CNP.of (own := RX10) (lv0 := lv_args 0 [.ref a, .ref (gadr Γ (0, s, 6))]) (by decide +kernel) rfl (Nat.le_of_ble_eq_true rfl) rfl (fun X e1 e2 e3 hnl hC hP => ?_)
  subst e1
  obtain ⟨k, hk, hna, hat, hf⟩ := hP
  have e : (some (bi (f (M (0, s, 6))), M)) = if M (0, s, 6) k = 0 then some ((0 : Int32), M) else some ((1 : Int32), M) := by
    rw [hf]
    by_cases h : M (0, s, 6) k = 0 <;> simp [h, bi]
  rw [e]
  refine j_aload_n hC 1 dX10_holds_0 rfl ?_
  refine j_aload_n hC 0 dX10_holds_1 rfl ?_
  refine j_dget (fk := 0) hC hna hat rfl in_X10 rfl rfl q946 rfl dX10_holds_2 ?_
  refine j_ialdP (L := 8) hC (dmS hG hs rfl) rfl (vin_nI8 hk) dX10_holds_5 ?_
  rw [toNat_nI8 hk]
  refine j_if_eq (tgt := 13) hC dX10_holds_6 (by decide) (fun _ => ?_) (fun _ => ?_)
  · refine j_iconst (v := 0) hC dX10_holds_13 (by decide) ?_
    exact j_zret hC (by decide) dX10_holds_14
  · refine j_iconst (v := 1) hC dX10_holds_9 (by decide) ?_
    refine j_goto (tgt := 14) hC dX10_holds_10 (by decide) ?_
    exact j_zret hC (by decide) dX10_holds_14
theorem mLess (l : Launch) (Γ : xG) (hG : dmI dmX Γ) (D : List LDen) (s : Nat) (hs : s < 15) (M : Mem) (d a : Nat) (f : Den) : CNP l yX12_holds (ws_ yX12_holds cX12_holds 2 (some .boolean)) (d + 2) (40 * (d + 1)) Γ D [.ref a, .ref (gadr Γ (0, s, 6))] M (fun H => CLess Γ a f H) (bi (f (M (0, s, 6)))) := by
  refine CNP.of (own := RX12) (lv0 := lv_args 0 [.ref a, .ref (gadr Γ (0, s, 6))]) (by decide +kernel) rfl (Nat.le_of_ble_eq_true rfl) rfl (fun X e1 e2 e3 hnl hC hP => ?_)
  subst e1
  subst e2
  obtain ⟨b1, b2, t1, t2, n1, n2, hna, hat, hs1, hs2, hf⟩ := hP
  have e : (some (bi (f (M (0, s, 6))), M)) = if sumv t2 n2 (M (0, s, 6)) ≤ sumv t1 n1 (M (0, s, 6)) then some ((0 : Int32), M) else some ((1 : Int32), M) := by
    rw [hf]
    by_cases h : sumv t2 n2 (M (0, s, 6)) ≤ sumv t1 n1 (M (0, s, 6))
    · have h2 : ¬ sumv t1 n1 (M (0, s, 6)) < sumv t2 n2 (M (0, s, 6)) := Int32.not_lt.mpr h
      simp [h, h2, bi]
    · have h2 : sumv t1 n1 (M (0, s, 6)) < sumv t2 n2 (M (0, s, 6)) := Int32.not_le.mp h
      simp [h, h2, bi]
  rw [e]
  obtain ⟨c1, g1, g2, g3, g4⟩ := id hs1
  obtain ⟨c2, k1, k2, k3, k4⟩ := id hs2
  refine j_aload_n hC 0 dX12_holds_0 rfl ?_
  refine j_dget (fk := 0) hC hna hat rfl in_X12 rfl rfl q983 rfl dX12_holds_1 ?_
  refine j_aload_n hC 1 dX12_holds_4 rfl ?_
  refine j_callVP (nA := 1) (rest := []) hC [.ref (gadr (XG X) (0, s, 6))] rfl (mX11_of (XL X) (XG X) hG (XD X) s hs M b1 t1 n1) (fun H1 hKp => hs1.kept hKp) q620 q621 q622 q146 q623 g1 g3 rfl (by decide +kernel) (Nat.ble_eq_true_of_le (by omega)) (Nat.ble_eq_true_of_le (by omega)) rfl rfl rfl rfl dX12_holds_5 ?_
  refine j_aload_n hC 0 dX12_holds_8 rfl ?_
  refine j_dget (fk := 1) hC hna hat rfl in_X12 rfl rfl q984 rfl dX12_holds_9 ?_
  refine j_aload_n hC 1 dX12_holds_12 rfl ?_
  refine j_callVP (nA := 1) (rest := [.int (sumv t1 n1 (M (0, s, 6)))]) hC [.ref (gadr (XG X) (0, s, 6))] rfl (mX11_of (XL X) (XG X) hG (XD X) s hs M b2 t2 n2) (fun H1 hKp => hs2.kept hKp) q620 q621 q622 q146 q623 k1 k3 rfl (by decide +kernel) (Nat.ble_eq_true_of_le (by omega)) (Nat.ble_eq_true_of_le (by omega)) rfl rfl rfl rfl dX12_holds_13 ?_
  refine j_icmp_ge (tgt := 23) hC dX12_holds_16 (by decide) (fun _ => ?_) (fun _ => ?_)
  · refine j_iconst (v := 0) hC dX12_holds_23 (by decide) ?_
    exact j_zret hC (by decide) dX12_holds_24
  · refine j_iconst (v := 1) hC dX12_holds_19 (by decide) ?_
    refine j_goto (tgt := 24) hC dX12_holds_20 (by decide) ?_
    exact j_zret hC (by decide) dX12_holds_24
theorem mNot (l : Launch) (Γ : xG) (hG : dmI dmX Γ) (D : List LDen) (s : Nat) (hs : s < 15) (M : Mem) (d a : Nat) (f : Den) (ih : ∀ d', d = d' + 1 → HS l Γ D s M d') : CNP l yX13_holds (ws_ yX13_holds cX13_holds 2 (some .boolean)) (d + 2) (40 * (d + 1)) Γ D [.ref a, .ref (gadr Γ (0, s, 6))] M (fun H => CNot Γ (fun b g => CondN Γ d b g H) a f H) (bi (f (M (0, s, 6)))) := by
  refine CNP.of (own := RX13) (lv0 := lv_args 0 [.ref a, .ref (gadr Γ (0, s, 6))]) (by decide +kernel) rfl (Nat.le_of_ble_eq_true rfl) rfl (fun X e1 e2 e3 hnl hC hP => ?_)
  subst e1
  subst e2
  subst e3
  obtain ⟨b, g, hna, hat, hsub, hf⟩ := hP
  cases d with
  | zero => exact hsub.elim
  | succ d =>
    have e : (some (bi (f (M (0, s, 6))), M)) = if bi (g (M (0, s, 6))) = 0 then some ((1 : Int32), M) else some ((0 : Int32), M) := by
      rw [hf]
      by_cases h : g (M (0, s, 6)) = true <;> simp [h, bi]
    rw [e]
    refine j_aload_n hC 0 dX13_holds_0 rfl ?_
    refine j_dget (fk := 0) hC hna hat rfl in_X13 rfl rfl q996 rfl dX13_holds_1 ?_
    refine j_aload_n hC 1 dX13_holds_4 rfl ?_
    refine j_cond (ih d rfl) hsub hC q631 (by omega) (by omega) rfl rfl rfl dX13_holds_5 ?_
    refine j_if_ne (tgt := 17) hC dX13_holds_10 (by decide) (fun _ => ?_) (fun _ => ?_)
    · refine j_iconst (v := 1) hC dX13_holds_13 (by decide) ?_
      refine j_goto (tgt := 18) hC dX13_holds_14 (by decide) ?_
      exact j_zret hC (by decide) dX13_holds_18
    · refine j_iconst (v := 0) hC dX13_holds_17 (by decide) ?_
      exact j_zret hC (by decide) dX13_holds_18
theorem chv_b (al v w1 w2 : Bool) (M : Mem) : (some (bi (if al then (v && w1) else (v || w2)), M)) = if bi v = (if al then 1 else 0 : Int32) then some (bi (if al then w1 else w2), M) else (if (if al then 1 else 0 : Int32) = 0 then some ((1 : Int32), M) else some ((0 : Int32), M)) := by
  cases al <;> cases v <;> cases w1 <;> cases w2 <;> rfl
theorem chv_step (al : Bool) (q : Nat × Nat × Den) (L : List (Nat × Nat × Den)) (F : Nat → Int32) (M : Mem) : (some (bi (chv al (q :: L) F), M)) = if bi (q.2.2 F) = (if al then 1 else 0 : Int32) then some (bi (chv al L F), M) else (if (if al then 1 else 0 : Int32) = 0 then some ((1 : Int32), M) else some ((0 : Int32), M)) :=
  chv_b al (q.2.2 F) (L.all (fun q => q.2.2 F)) (L.any (fun q => q.2.2 F)) M
theorem mChain (l : Launch) (Γ : xG) (hG : dmI dmX Γ) (D : List LDen) (s : Nat) (hs : s < 15) (M : Mem) (d a : Nat) (f : Den) (ih : ∀ d', d = d' + 1 → HS l Γ D s M d') : CNP l yX9_holds (ws_ yX9_holds cX9_holds 3 (some .boolean)) (d + 2) (40 * (d + 1)) Γ D [.ref a, .ref (gadr Γ (0, s, 6))] M (fun H => CChain Γ (fun b g => CondN Γ d b g H) a f H) (bi (f (M (0, s, 6)))) := by
  refine CNP.of (own := RX9) (lv0 := lv_args 0 [.ref a, .ref (gadr Γ (0, s, 6))]) (by decide +kernel) rfl (Nat.le_of_ble_eq_true rfl) rfl (fun X e1 e2 e3 hnl hC hP => ?_)
  subst e1
  subst e2
  subst e3
  obtain ⟨al, L, h0, hL, hf⟩ := hP
  obtain ⟨q0, hq0⟩ : ∃ q0, L[0]? = some q0 := by
    cases h : L[0]? with
    | none => rw [h] at h0; cases h0
    | some q => exact ⟨q, rfl⟩
  have ea : q0.1 = a := by rw [hq0] at h0; exact Option.some.inj h0
  obtain ⟨hna, hat, hsub0⟩ := hL 0 q0 hq0
  rw [ea] at hna hat
  cases d with
  | zero => exact hsub0.elim
  | succ d =>
    have hH := ih d rfl
    have loop : ∀ (m i : Nat), L.length ≤ i + m → J X (ZN X foI) (some (bi (chv al (L.drop i) (M (0, s, 6))), M)) 2 [(0, .ref a), (1, .ref (gadr (XG X) (0, s, 6))), (2, va_rf ((L[i]?).map (·.1)))] [] M 0 0 := by
      have fin : ∀ i, L[i]? = none → J X (ZN X foI) (some (bi (chv al (L.drop i) (M (0, s, 6))), M)) 2 [(0, .ref a), (1, .ref (gadr (XG X) (0, s, 6))), (2, va_rf ((L[i]?).map (·.1)))] [] M 0 0 := by
        intro i hi
        have hdr : L.drop i = [] := List.drop_eq_nil_of_le (by simpa using hi)
        rw [hi, hdr]
        have e : (some (bi (chv al [] (M (0, s, 6))), M)) = some ((if al then 1 else 0 : Int32) &&& 1, M) := by cases al <;> rfl
        rw [e]
        refine j_aload_nN hC 2 dX9_holds_2 rfl ?_
        refine j_ifnullN (tgt := 44) hC dX9_holds_3 (by decide) ?_
        refine j_aload_n hC 0 dX9_holds_44 rfl ?_
        refine j_dget (fk := 1) hC hna hat rfl in_X9 rfl rfl q1005 rfl dX9_holds_45 ?_
        exact j_zret hC rfl dX9_holds_48
      intro m
      induction m with
      | zero => intro i hi; exact fin i (by simp; omega)
      | succ m ihm =>
        intro i hi
        cases hLi : L[i]? with
        | none => have h := fin i hLi; rw [hLi] at h; exact h
        | some q =>
          obtain ⟨hnq, hatq, hsubq⟩ := hL i q hLi
          have hdr : L.drop i = q :: L.drop (i + 1) := by
            have hlt : i < L.length := (List.getElem?_eq_some_iff.mp hLi).1
            rw [List.drop_eq_getElem_cons hlt, (List.getElem?_eq_some_iff.mp hLi).2]
          have e : (some (bi (chv al (L.drop i) (M (0, s, 6))), M)) = if bi (q.2.2 (M (0, s, 6))) = (if al then 1 else 0 : Int32) then some (bi (chv al (L.drop (i + 1)) (M (0, s, 6))), M) else (if (if al then 1 else 0 : Int32) = 0 then some ((1 : Int32), M) else some ((0 : Int32), M)) := by
            rw [hdr]
            exact chv_step al q (L.drop (i + 1)) (M (0, s, 6)) M
          rw [e]
          have hrec := ihm (i + 1) (by omega)
          refine j_aload_n (x := q.1) hC 2 dX9_holds_2 rfl ?_
          refine j_ifnull hC dX9_holds_3 ?_
          refine j_aload_n (x := q.1) hC 2 dX9_holds_6 rfl ?_
          refine j_dget (fk := 0) hC hnq hatq rfl in_X9 rfl rfl q1004 rfl dX9_holds_7 ?_
          refine j_aload_n hC 1 dX9_holds_10 rfl ?_
          refine j_cond hH hsubq hC q613 (by omega) (by omega) rfl rfl rfl dX9_holds_11 ?_
          refine j_aload_n hC 0 dX9_holds_16 rfl ?_
          refine j_dget (fk := 1) hC hna hat rfl in_X9 rfl rfl q1005 rfl dX9_holds_17 ?_
          refine j_icmp_eq (tgt := 36) hC dX9_holds_20 (by decide) (fun _ => ?_) (fun _ => ?_)
          · refine j_aload_n (x := q.1) hC 2 dX9_holds_36 rfl ?_
            refine j_dget (fk := 2) hC hnq hatq rfl in_X9 rfl rfl q1006 rfl dX9_holds_37 ?_
            cases hnx : L[i + 1]? with
            | none =>
              rw [hnx] at hrec
              refine j_astore_nN hC [(2, .null), (0, .ref a), (1, .ref (gadr (XG X) (0, s, 6)))] hnl dX9_holds_40 rfl rfl ?_
              refine j_goto (tgt := 2) hC dX9_holds_41 (by decide) ?_
              exact j_sub [1, 2, 0] rfl hrec
            | some q2 =>
              rw [hnx] at hrec
              refine j_astore_n (x := q2.1) hC [(2, .ref q2.1), (0, .ref a), (1, .ref (gadr (XG X) (0, s, 6)))] hnl dX9_holds_40 rfl rfl ?_
              refine j_goto (tgt := 2) hC dX9_holds_41 (by decide) ?_
              exact j_sub [1, 2, 0] rfl hrec
          · refine j_aload_n hC 0 dX9_holds_23 rfl ?_
            refine j_dget (fk := 1) hC hna hat rfl in_X9 rfl rfl q1005 rfl dX9_holds_24 ?_
            refine j_if_ne (tgt := 34) hC dX9_holds_27 (by decide) (fun _ => ?_) (fun _ => ?_)
            · refine j_iconst (v := 1) hC dX9_holds_30 (by decide) ?_
              refine j_goto (tgt := 35) hC dX9_holds_31 (by decide) ?_
              exact j_zret hC (by decide) dX9_holds_35
            · refine j_iconst (v := 0) hC dX9_holds_34 (by decide) ?_
              exact j_zret hC (by decide) dX9_holds_35
    rw [hf]
    have hl0 := loop L.length 0 (by omega)
    rw [hq0] at hl0
    rw [List.drop_zero] at hl0
    refine j_aload_n hC 0 dX9_holds_0 rfl ?_
    refine j_astore_n hC [(2, .ref a), (0, .ref a), (1, .ref (gadr (XG X) (0, s, 6)))] hnl dX9_holds_1 rfl rfl ?_
    have e2 : va_rf (Option.map (·.1) (some q0)) = .ref a := by rw [← ea]; rfl
    rw [e2] at hl0
    exact j_sub [1, 2, 0] rfl hl0
theorem HS_all (l : Launch) (Γ : xG) (hG : dmI dmX Γ) (D : List LDen) (s : Nat) (hs : s < 15) (M : Mem) : ∀ d, HS l Γ D s M d := by
  intro d
  induction d with
  | zero => exact ⟨mTag l Γ hG D s hs M 0, fun a f => mNot l Γ hG D s hs M 0 a f (fun d' h => by cases h), mLess l Γ hG D s hs M 0, fun a f => mChain l Γ hG D s hs M 0 a f (fun d' h => by cases h)⟩
  | succ d ih => exact ⟨mTag l Γ hG D s hs M (d + 1), fun a f => mNot l Γ hG D s hs M (d + 1) a f (fun d' h => by cases h; exact ih), mLess l Γ hG D s hs M (d + 1), fun a f => mChain l Γ hG D s hs M (d + 1) a f (fun d' h => by cases h; exact ih)⟩
