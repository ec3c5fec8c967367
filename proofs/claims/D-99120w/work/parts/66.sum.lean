set_option maxRecDepth 100000
/-! Reader.sum -/
abbrev SV : Type := (Nat → Int32) × Int32
def dS : SV := (fun _ => 0, 0)
def GX2_sum_13 (fu : Nat) (D : List LDen) (kn : Mem → Option (PR SV)) (M : Mem) : Option (PR SV) :=
  bd (FX2_sign fu D M) (fun v M14 => if v = 43 then lt (up M14 (4, 0, 8) 8 ((M14 (4, 0, 8) 8) + 1)) (fun M29 => bX dS (FX2_part fu D M29) (fun _ M34 => kn M34)) else some (0, (M14 (8, 0, 1), M14 (8, 0, 0) 1), 0, M14))
def FX2_sum_13 (fu : Nat) (D : List LDen) (M : Mem) : Option (PR SV) := lp (fun kn z => GX2_sum_13 fu D kn z) fu M
def FX2_sum (fu : Nat) (D : List LDen) (M : Mem) : Option (PR SV) :=
  tick 2 (lt (mS 0 (fun _ => 0) M) (fun M7 => bX dS (FX2_part fu D M7) (fun _ M10 => FX2_sum_13 fu D M10)))
/-- a Sum that stands: its object and its array -/
def SemS (Γ : xG) (q : Nat) (v : SV) (N : va_W) : Prop := ∃ b : Nat, b ≠ q ∧ N = [(q, sE b v.2), (b, tE Γ v.1)]
theorem gS_dmXS {a b : Nat} {P : va_W} {Γ : xG} (hG : dmI dmX Γ) : dmI dmXS (gS a b (gwP P Γ)) := by
  intro c hc
  refine gS_dm.mpr ?_
  by_cases h8 : dm8 c = true
  · exact Or.inr h8
  · refine Or.inl (hG c ?_)
    unfold dmXS at hc
    split at hc
    · rename_i w i
      exact absurd (show dm8 (8, w, i) = true from hc) h8
    · exact hc
theorem j_lpm {σ α : Type} {X : JX} {Z : PR α → State → Prop} {pc : Nat} {k n m : Nat} {body : (σ → Option (PR α)) → σ → Option (PR α)} {lvf : σ → List (Nat × Value)} {Mf : σ → Mem} (hb : ∀ kn : σ → Option (PR α), (∀ x, J X Z (lm m (kn x)) pc (lvf x) [] (Mf x) k n) → ∀ x, J X Z (lm m (body kn x)) pc (lvf x) [] (Mf x) k n) : ∀ (fu : Nat) (x : σ), J X Z (lm m (lp body fu x)) pc (lvf x) [] (Mf x) k n := by
  intro fu
  induction fu with
  | zero => intro x; exact j_none
  | succ fu ih => intro x; exact hb (lp body fu) ih x
section
variable {Y : JX} {fr lc mc ms k n m : Nat} {Z : PR SV → State → Prop}
theorem wgX2_sum_13 (hC : JC Y cX2_sum RX2 (some (.object "FeatherYard$Sum")) fr lc mc ms) (hT : JT Y) (hG : dmI dmXS (XG Y)) (hnl : nLof Y = 2) (hfr : 7 ≤ fr) (hlc : 188 ≤ lc) (hk : k ≤ mc) (hn : n ≤ ms) (fu : Nat)
    (hend : ∀ (M : Mem) (lv : List (Nat × Value)), J Y Z (some (0, (M (8, 0, 1), M (8, 0, 0) 1), 0, M)) 41 lv [.ref (gadr (XG Y) (8, 0, 0))] M k n)
    (hexc : ∀ (e : Nat) (M : Mem) (pc : Nat) (lv : List (Nat × Value)) (rest : List Value), JH Y Z (some (e + 1, dS, 0, M)) (e + 1) pc lv rest M k n)
    (kn : Mem → Option (PR SV)) (hkn : ∀ M, J Y Z (lm m (kn M)) 13 [(1, .ref (gadr (XG Y) (8, 0, 0))), (0, .ref (gadr (XG Y) (4, 0, 8)))] [] M k n) (M : Mem) : J Y Z (lm m (GX2_sum_13 fu (XD Y) kn M)) 13 [(1, .ref (gadr (XG Y) (8, 0, 0))), (0, .ref (gadr (XG Y) (4, 0, 8)))] [] M k n := by
  unfold GX2_sum_13
  refine j_aload_n hC 1 dX2_sum_13 rfl ?_
  refine j_lm lm_bd ?_
  refine j_callV (nA := 0) (rest := []) hC [] rfl (fun r hr => mX2_sign (XL Y) (XG Y) (dmXS_X hG) fu (XD Y) M r hr) q759 q761 qs11 q127 q762 (dmY (dmXS_X hG) rfl) rfl rfl (by decide +kernel) (bk (by omega)) (bk (by omega)) rfl rfl (bk hk) (bk hn) dX2_sum_14 (fun v14 => [.int v14]) (fun _ => rfl) (fun v14 M14 => ?_)
  refine j_lm lm_ite ?_
  refine j_bipush (v := 43) hC dX2_sum_17 (by decide) ?_
  refine j_icmp_ne (tgt := 40) hC dX2_sum_19 (by decide) (fun h19 => ?_) (fun h19 => ?_)
  · refine j_aload_n hC 1 dX2_sum_22 rfl ?_
    refine j_dup hC dX2_sum_23 rfl ?_
    refine j_getI (fk := 8) hC (dmY (dmXS_X hG) rfl) rfl rfl in_X2 rfl rfl q433 rfl dX2_sum_24 ?_
    refine j_iconst (v := 1) hC dX2_sum_27 (by decide) ?_
    refine j_iadd hC dX2_sum_28 ?_
    refine j_put (fk := 8) (ty := .int) hC (dmY (dmXS_X hG) rfl) rfl rfl in_X2 rfl rfl q433 tyX2 tyX2_ok nmX2 rfl rfl (by decide +kernel) rfl rfl dX2_sum_29 ?_
    refine j_lm lm_lt ?_
    refine j_lt (fun M29 => ?_)
    refine j_aload_n hC 1 dX2_sum_32 rfl ?_
    refine j_aload_n hC 0 dX2_sum_33 rfl ?_
    refine j_lm lm_bX ?_
    refine j_callVH (nA := 1) (rest := []) hC [.ref (gadr (XG Y) (8, 0, 0))] rfl (fun r hr => mX2_part (XL Y) (JT.st hT) (XG Y) hG fu (XD Y) M29 r hr) q969 q971 qs28 q127 q972 (dmY (dmXS_X hG) rfl) rfl rfl (by decide +kernel) (bk (by omega)) (bk (by omega)) rfl rfl (bk hk) (bk hn) dX2_sum_34 (fun _ => []) (fun _ => rfl) (fun v34 M34 => ?_) (fun e M34 => hexc e M34 _ _ _)
    refine j_goto (tgt := 13) hC dX2_sum_37 (by decide) ?_
    exact hkn M34
  · refine j_lm lm_some ?_
    refine j_aload_n hC 0 dX2_sum_40 rfl ?_
    exact hend M14 _
theorem wX2_sum_7 (hC : JC Y cX2_sum RX2 (some (.object "FeatherYard$Sum")) fr lc mc ms) (hT : JT Y) (hG : dmI dmXS (XG Y)) (hnl : nLof Y = 2) (hfr : 7 ≤ fr) (hlc : 188 ≤ lc) (hk : k ≤ mc) (hn : n ≤ ms) (fu : Nat)
    (hend : ∀ (M : Mem) (lv : List (Nat × Value)), J Y Z (some (0, (M (8, 0, 1), M (8, 0, 0) 1), 0, M)) 41 lv [.ref (gadr (XG Y) (8, 0, 0))] M k n)
    (hexc : ∀ (e : Nat) (M : Mem) (pc : Nat) (lv : List (Nat × Value)) (rest : List Value), JH Y Z (some (e + 1, dS, 0, M)) (e + 1) pc lv rest M k n) (M : Mem) : J Y Z (lm m (bX dS (FX2_part fu (XD Y) M) (fun _ M10 => FX2_sum_13 fu (XD Y) M10))) 7 [(0, .ref (gadr (XG Y) (4, 0, 8)))] [.ref (gadr (XG Y) (8, 0, 0))] M k n := by
  refine j_astore_n hC [(1, .ref (gadr (XG Y) (8, 0, 0))), (0, .ref (gadr (XG Y) (4, 0, 8)))] hnl dX2_sum_7 rfl rfl ?_
  refine j_aload_n hC 1 dX2_sum_8 rfl ?_
  refine j_aload_n hC 0 dX2_sum_9 rfl ?_
  refine j_lm lm_bX ?_
  refine j_callVH (nA := 1) (rest := []) hC [.ref (gadr (XG Y) (8, 0, 0))] rfl (fun r hr => mX2_part (XL Y) (JT.st hT) (XG Y) hG fu (XD Y) M r hr) q969 q971 qs28 q127 q972 (dmY (dmXS_X hG) rfl) rfl rfl (by decide +kernel) (bk (by omega)) (bk (by omega)) rfl rfl (bk hk) (bk hn) dX2_sum_10 (fun _ => []) (fun _ => rfl) (fun v10 M10 => ?_) (fun e M10 => hexc e M10 _ _ _)
  exact j_lpm (lvf := fun _ => [(1, .ref (gadr (XG Y) (8, 0, 0))), (0, .ref (gadr (XG Y) (4, 0, 8)))]) (Mf := fun z => z) (fun kn hkn z => wgX2_sum_13 hC hT hG hnl hfr hlc hk hn fu hend hexc kn hkn z) fu M10
end
theorem wX2_sum {X : JX} {c : Nat} (hC : JC X cX2_sum RX2 (some (.object "FeatherYard$Sum")) 7 188 c (8 * c)) (hT : JT X) (hG : dmI dmX (XG X)) (h80 : gdm (XG X) (8, 0, 0) = false) (h81 : gdm (XG X) (8, 0, 1) = false) (hnl : nLof X = 2) (fu : Nat) (M : Mem) : J X (ZM X (SemS (XG X)) c (8 * c)) (lm c (FX2_sum fu (XD X) M)) 0 [(0, .ref (gadr (XG X) (4, 0, 8)))] [] M 0 0 := by
  unfold FX2_sum
  refine jm_tick (fun h2 => ?_)
  refine j_new hC (ci := 10) (fs := [.null, .int 0]) rfl in_X11 tyX11 tyX11_ok (fun j hj => by match j, hj with | 0, _ => rfl | 1, _ => rfl) q954 q955 q146 (by omega) (by omega) dX2_sum_0 (fun q hq1 hq2 => ?_)
  refine j_dup (JC.xw _ hC) dX2_sum_3 rfl ?_
  refine j_sumNew (JC.xw _ hC) (P := gP (XG X)) (a := q) rfl hq2 hq1 h80 h81 q956 q957 q146 q958 rfl rfl rfl rfl (by omega) (by omega) dX2_sum_4 (fun b ho => ?_)
  have hCY := JC.xS (P := gP (XG X)) (JC.xw ((q, .inr (10, [.null, .int 0])) :: gP (XG X)) hC) ho
  have key := wX2_sum_7 (Z := ZM X (SemS (XG X)) c (8 * c)) (k := 0 + 1 + 1) (n := 0 + 2 + 6) (m := c - 2) hCY (JT.xS (JT.xw _ hT)) (gS_dmXS hG) hnl (Nat.le_refl _) (Nat.le_refl _) (by omega) (by omega) fu
    (fun M lv => by
      refine j_closeS ho ?_
      rw [show gadr (XG (xS q b (gP (XG X)) (xwP ((q, .inr (10, [.null, .int 0])) :: gP (XG X)) X))) (8, 0, 0) = q from gS_a0]
      refine jm_aret (X := X) (N := [(q, sE b (M (8, 0, 0) 1)), (b, tE (XG X) (M (8, 0, 1)))]) hC rfl ⟨b, ho.2.2.1.symm, rfl⟩ (fun z hz => ?_) (by omega) (by omega) dX2_sum_41
      rcases List.mem_cons.mp hz with rfl | hz
      · exact ho.1
      · rw [List.mem_singleton.mp hz]; exact ho.2.1)
    (fun e M pc lv rest => by
      refine jh_closeS ho ?_
      exact jhm_out (X := X) hC hT (fun z hz => List.mem_cons_of_mem _ (List.mem_cons_of_mem _ hz)) (by omega) (by omega) (by omega))
    (mS 0 (fun _ => 0) M)
  rw [show gadr (XG (xS q b (gP (XG X)) (xwP ((q, .inr (10, [.null, .int 0])) :: gP (XG X)) X))) (8, 0, 0) = q from gS_a0, show gadr (XG (xS q b (gP (XG X)) (xwP ((q, .inr (10, [.null, .int 0])) :: gP (XG X)) X))) (4, 0, 8) = gadr (XG X) (4, 0, 8) from gS_adr (fun z => by cases z) (fun z => by cases z)] at key
  exact key
theorem mX2_sum (l : Launch) (hst : l.stackTraces = false) (Γ : xG) (hG : dmI dmX Γ) (h80 : gdm Γ (8, 0, 0) = false) (h81 : gdm Γ (8, 0, 1) = false) (fu : Nat) (D : List LDen) (M : Mem) (r : PR SV) (hr : FX2_sum fu D M = some r) : CM l yX2_sum (ws_ yX2_sum cX2_sum 2 (some (.object "FeatherYard$Sum"))) 7 188 Γ D [.ref (gadr Γ (4, 0, 8))] M (SemS Γ) r := by
  refine CM.of hst (own := RX2) (lv0 := lv_args 0 [.ref (gadr Γ (4, 0, 8))]) (by decide +kernel) rfl (Nat.le_of_ble_eq_true rfl) rfl r hr (fun X e1 e2 e3 e4 hC hT => ?_)
  subst e1
  subst e2
  exact wX2_sum hC hT hG h80 h81 e4 fu M
