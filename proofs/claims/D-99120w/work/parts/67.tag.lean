set_option maxRecDepth 100000
/-! Reader.tag -/
def dC : Den := fun _ => false
def lessD (a b : SV) : Den := fun F => decide (sumv a.1 a.2 F < sumv b.1 b.2 F)
def FX2_tag_72 (fu : Nat) (D : List LDen) (s : Int32) (a : SV) (M : Mem) : Option (PR Den) :=
  lt (up M (4, 0, 8) 8 ((M (4, 0, 8) 8) + 1)) (fun M79 => bm dC (FX2_sum fu D M79) (fun b M83 => if s = 60 then tick 1 (some (0, lessD a b, 0, M83)) else tick 1 (some (0, lessD b a, 0, M83))))
def FX2_tag_42 (fu : Nat) (D : List LDen) (M : Mem) : Option (PR Den) :=
  bm dC (FX2_sum fu D M) (fun a M43 => bd (FX2_sign fu D M43) (fun s M48 => if s = 60 then FX2_tag_72 fu D s a M48 else if s = 62 then FX2_tag_72 fu D s a M48 else bX dC (FX2_fail fu D M48 (M48 (4, 0, 8) 8)) (fun _ M69 => FX2_tag_72 fu D s a M69)))
def GX2_tag_2 (fu : Nat) (D : List LDen) (kn : Mem × Int32 → Option (PR Den)) (M : Mem) (x : Int32) : Option (PR Den) :=
  if 2 ≤ x then FX2_tag_42 fu D M else gd x 2 (bd (FX2_takes fu D (x.toNatClampNeg + 6) M) (fun v M18 => if v = 0 then lt (x + 1) (fun y => kn (M18, y)) else tick 1 (some (0, (fun F => !decide (F (x.toNatClampNeg + 6) = 0)), 0, M18))))
def FX2_tag (fu : Nat) (D : List LDen) (M : Mem) : Option (PR Den) := lp (fun kn z => GX2_tag_2 fu D kn z.1 z.2) fu (M, 0)
/-- a condition that stands, of depth d -/
def SemC (Γ : xG) (d : Nat) (q : Nat) (f : Den) (N : va_W) : Prop := ∀ (Γ' : xG) (H : Heap), gD Γ' = gD Γ → gA Γ' = gA Γ → (∀ z ∈ N, nX Γ' z.1 ∧ va_at (gD Γ') xcl z H) → CondN Γ' d q f H
theorem SemS.at {Γ : xG} {q : Nat} {v : SV} {N : va_W} (h : SemS Γ q v N) {Γ' : xG} {H : Heap} (hA : gA Γ' = gA Γ) (hN : ∀ z ∈ N, nX Γ' z.1 ∧ va_at (gD Γ') xcl z H) : SumAt Γ' q v.1 v.2 H := by
  obtain ⟨b, -, rfl⟩ := h
  have h1 := hN _ List.mem_cons_self
  have h2 := hN _ (List.mem_cons_of_mem _ List.mem_cons_self)
  refine ⟨b, h1.1, h2.1, h1.2, ?_⟩
  rw [hA]
  exact h2.2
theorem SemC.less {Γ : xG} {d q qa qb : Nat} {a b : SV} {Na Nb N : va_W} (ha : SemS Γ qa a Na) (hb : SemS Γ qb b Nb) (hNa : ∀ z ∈ Na, z ∈ N) (hNb : ∀ z ∈ Nb, z ∈ N) : SemC Γ (d + 1) q (lessD a b) ((q, .inr (11, [.ref qa, .ref qb])) :: N) := by
  intro Γ' H hD hA hN
  have h1 := hN _ List.mem_cons_self
  exact Or.inr (Or.inr (Or.inl ⟨qa, qb, a.1, b.1, a.2, b.2, h1.1, h1.2, ha.at hA (fun z hz => hN z (List.mem_cons_of_mem _ (hNa z hz))), hb.at hA (fun z hz => hN z (List.mem_cons_of_mem _ (hNb z hz))), rfl⟩))
theorem SemC.tag {Γ : xG} {d q k : Nat} (hk : k < 8) {v : Int32} (hv : v = nI k) : SemC Γ (d + 1) q (fun F => !decide (F k = 0)) [(q, .inr (9, [.int v]))] := by
  intro Γ' H hD hA hN
  have h1 := hN _ List.mem_cons_self
  subst hv
  exact Or.inl ⟨k, hk, h1.1, h1.2, rfl⟩
theorem vin2 {x : Int32} (h : vp_in x 2) : x = 0 ∨ x = 1 := by
  have h1 : x.toNatClampNeg < 2 := vin_lt h
  have h0 : ¬ x < 0 := fun z => h (Or.inl z)
  have h2 : (0 : Int) ≤ x.toInt := by
    have := Int32.not_lt.mp h0
    simpa using Int32.le_iff_toInt_le.mp this
  have h3 : x.toInt.toNat < 2 := h1
  have h4 : x.toInt = 0 ∨ x.toInt = 1 := by omega
  rcases h4 with h4 | h4
  · exact Or.inl (Int32.toInt_inj.mp (by rw [h4]; decide))
  · exact Or.inr (Int32.toInt_inj.mp (by rw [h4]; decide))
theorem wX2_tag_72 {X : JX} {c k n m : Nat} (hC : JC X cX2_tag RX2 (some (.object "FeatherYard$Cond")) 8 209 c (8 * c)) (hT : JT X) (hG : dmI dmX (XG X)) (h80 : gdm (XG X) (8, 0, 0) = false) (h81 : gdm (XG X) (8, 0, 1) = false) (hnl : nLof X = 4) (fu d : Nat) (hk : k + m ≤ c) (hn : n + 8 * m ≤ 8 * c) (qa : Nat) (a : SV) (Na : va_W) (hSa : SemS (XG X) qa a Na) (hNa : ∀ z ∈ Na, (XS X).heap.size ≤ z.1) (s : Int32) (M : Mem) : J (xwP (Na ++ gP (XG X)) X) (ZM X (SemC (XG X) (d + 1)) c (8 * c)) (lm m (FX2_tag_72 fu (XD X) s a M)) 72 [(2, .int s), (1, .ref qa), (0, .ref (gadr (XG X) (4, 0, 8)))] [] M k n := by
  unfold FX2_tag_72
  obtain ⟨P, hP⟩ : ∃ P : va_W, P = Na ++ gP (XG X) := ⟨_, rfl⟩
  rw [← hP]
  refine j_aload_n (JC.xw _ hC) 2 dX2_tag_72 rfl ?_
  refine j_dup (JC.xw _ hC) dX2_tag_73 rfl ?_
  refine j_getI (fk := 8) (JC.xw _ hC) (dmY hG rfl) rfl rfl in_X2 rfl rfl q433 rfl dX2_tag_74 ?_
  refine j_iconst (v := 1) (JC.xw _ hC) dX2_tag_77 (by decide) ?_
  refine j_iadd (JC.xw _ hC) dX2_tag_78 ?_
  refine j_put (fk := 8) (ty := .int) (JC.xw _ hC) (dmY hG rfl) rfl rfl in_X2 rfl rfl q433 tyX2 tyX2_ok nmX2 rfl rfl (by decide +kernel) rfl rfl dX2_tag_79 ?_
  refine j_lm lm_lt ?_
  refine j_lt (fun M79 => ?_)
  refine j_aload_n (JC.xw _ hC) 2 dX2_tag_82 rfl ?_
  refine jm_call (X := X) (P := P) hC hT [] rfl (fun z hz => by rw [hP]; exact List.mem_append.mpr (Or.inr hz)) (fun r hr => mX2_sum (XL X) (JT.st hT) (gwP (P) (XG X)) hG h80 h81 fu (XD X) M79 r hr) q950 q952 qs27 q127 q953 (dmY hG rfl) rfl rfl (by decide +kernel) (by omega) (by omega) rfl rfl (by omega) (by omega) (Nat.le_refl _) (Nat.le_refl _) dX2_tag_83 (fun qb b Nb c83 M83 hSb hNb hc83 => ?_)
  refine j_astore_n (JC.xw _ hC) [(3, .ref qb), (2, .int s), (1, .ref qa), (0, .ref (gadr (XG X) (4, 0, 8)))] hnl dX2_tag_86 rfl rfl ?_
  refine j_lm lm_ite ?_
  refine j_iload_n (JC.xw _ hC) 1 dX2_tag_87 rfl ?_
  refine j_bipush (v := 60) (JC.xw _ hC) dX2_tag_88 (by decide) ?_
  refine j_icmp_ne (tgt := 105) (JC.xw _ hC) dX2_tag_90 (by decide) (fun h90 => ?_) (fun h90 => ?_)
  · refine jm_tick (fun h1 => ?_)
    refine j_lm lm_some ?_
    refine j_new (JC.xw _ hC) (ci := 11) (fs := [.null, .null]) rfl in_X12 tyX12 tyX12_ok (fun j hj => by match j, hj with | 0, _ => rfl | 1, _ => rfl) q977 q978 q147 (by omega) (by omega) dX2_tag_93 (fun q hqa hqb => ?_)
    refine j_dup (JC.xw _ hC) dX2_tag_96 rfl ?_
    refine j_aload_n (JC.xw _ hC) 2 dX2_tag_97 rfl ?_
    refine j_aload_n (JC.xw _ hC) 0 dX2_tag_98 rfl ?_
    refine j_init (JC.xw _ hC) (P1 := []) (P2 := Nb ++ P) (a := q) (ci := 11) (fs0 := [.null, .null]) (nA := 2) rfl (fun z hz => hqb z hz) hqa [.ref qa, .ref qb] rfl (fun sz => iX12 (XL X) _ q qa qb sz) q979 q980 q147 q981 rfl (by decide +kernel) (bk (by omega)) (bk (by omega)) rfl rfl (by omega) (by omega) dX2_tag_99 ?_
    refine j_goto (tgt := 114) (JC.xw _ hC) dX2_tag_102 (by decide) ?_
    refine jm_aret (X := X) (N := (q, .inr (11, [.ref qa, .ref qb])) :: (Nb ++ Na)) hC (by rw [hP]; simp [List.append_assoc]) (SemC.less hSa hSb (by simp +contextual) (by simp +contextual)) (fun z hz => ?_) (by omega) (by omega) dX2_tag_114
    rcases List.mem_cons.mp hz with rfl | hz
    · exact hqa
    · rcases List.mem_append.mp hz with hz | hz
      · exact (hNb z hz).1
      · exact hNa z hz
  · refine jm_tick (fun h1 => ?_)
    refine j_lm lm_some ?_
    refine j_new (JC.xw _ hC) (ci := 11) (fs := [.null, .null]) rfl in_X12 tyX12 tyX12_ok (fun j hj => by match j, hj with | 0, _ => rfl | 1, _ => rfl) q977 q978 q147 (by omega) (by omega) dX2_tag_105 (fun q hqa hqb => ?_)
    refine j_dup (JC.xw _ hC) dX2_tag_108 rfl ?_
    refine j_aload_n (JC.xw _ hC) 0 dX2_tag_109 rfl ?_
    refine j_aload_n (JC.xw _ hC) 2 dX2_tag_110 rfl ?_
    refine j_init (JC.xw _ hC) (P1 := []) (P2 := Nb ++ P) (a := q) (ci := 11) (fs0 := [.null, .null]) (nA := 2) rfl (fun z hz => hqb z hz) hqa [.ref qb, .ref qa] rfl (fun sz => iX12 (XL X) _ q qb qa sz) q979 q980 q147 q981 rfl (by decide +kernel) (bk (by omega)) (bk (by omega)) rfl rfl (by omega) (by omega) dX2_tag_111 ?_
    refine jm_aret (X := X) (N := (q, .inr (11, [.ref qb, .ref qa])) :: (Nb ++ Na)) hC (by rw [hP]; simp [List.append_assoc]) (SemC.less hSb hSa (by simp +contextual) (by simp +contextual)) (fun z hz => ?_) (by omega) (by omega) dX2_tag_114
    rcases List.mem_cons.mp hz with rfl | hz
    · exact hqa
    · rcases List.mem_append.mp hz with hz | hz
      · exact (hNb z hz).1
      · exact hNa z hz
theorem wX2_tag_42 {X : JX} {c : Nat} (hC : JC X cX2_tag RX2 (some (.object "FeatherYard$Cond")) 8 209 c (8 * c)) (hT : JT X) (hG : dmI dmX (XG X)) (h80 : gdm (XG X) (8, 0, 0) = false) (h81 : gdm (XG X) (8, 0, 1) = false) (hnl : nLof X = 4) (fu d : Nat) (x : Int32) (M : Mem) : J X (ZM X (SemC (XG X) (d + 1)) c (8 * c)) (lm c (FX2_tag_42 fu (XD X) M)) 42 [(1, .int x), (0, .ref (gadr (XG X) (4, 0, 8)))] [] M 0 0 := by
  unfold FX2_tag_42
  refine j_aload_n hC 1 dX2_tag_42 rfl ?_
  show J (xwP (gP (XG X)) X) _ _ _ _ _ _ _ _
  refine jm_call (X := X) (P := gP (XG X)) hC hT [] rfl (fun z hz => hz) (fun r hr => mX2_sum (XL X) (JT.st hT) (XG X) hG h80 h81 fu (XD X) M r hr) q950 q952 qs27 q127 q953 (dmY hG rfl) rfl rfl (by decide +kernel) (by omega) (by omega) rfl rfl (by omega) (by omega) (Nat.le_refl _) (Nat.le_refl _) dX2_tag_43 (fun qa a Na c43 M43 hSa hNa hc43 => ?_)
  refine j_astore_n (JC.xw _ hC) [(1, .ref qa), (0, .ref (gadr (XG X) (4, 0, 8)))] hnl dX2_tag_46 rfl rfl ?_
  refine j_aload_n (JC.xw _ hC) 1 dX2_tag_47 rfl ?_
  refine j_lm lm_bd ?_
  refine j_callV (nA := 0) (rest := []) (JC.xw _ hC) [] rfl (fun r hr => mX2_sign (XL X) (XG (xwP (Na ++ gP (XG X)) X)) hG fu (XD X)  M43 r hr) q759 q761 qs11 q127 q762 (dmY hG rfl) rfl rfl (by decide +kernel) (bk (by omega)) (bk (by omega)) rfl rfl (bk (by omega)) (bk (by omega)) dX2_tag_48 (fun v48 => [.int v48]) (fun _ => rfl) (fun v48 M48 => ?_)
  refine j_istore_n (JC.xw _ hC) [(2, .int v48), (1, .ref qa), (0, .ref (gadr (XG X) (4, 0, 8)))] hnl dX2_tag_51 rfl rfl ?_
  refine j_lm lm_ite ?_
  refine j_iload_n (JC.xw _ hC) 0 dX2_tag_52 rfl ?_
  refine j_bipush (v := 60) (JC.xw _ hC) dX2_tag_53 (by decide) ?_
  refine j_icmp_eq (tgt := 72) (JC.xw _ hC) dX2_tag_55 (by decide) (fun h55 => ?_) (fun h55 => ?_)
  · exact wX2_tag_72 hC hT hG h80 h81 hnl fu d (by omega) (by omega) qa a Na hSa (fun z hz => (hNa z hz).1) v48 M48
  · refine j_lm lm_ite ?_
    refine j_iload_n (JC.xw _ hC) 0 dX2_tag_58 rfl ?_
    refine j_bipush (v := 62) (JC.xw _ hC) dX2_tag_59 (by decide) ?_
    refine j_icmp_eq (tgt := 72) (JC.xw _ hC) dX2_tag_61 (by decide) (fun h61 => ?_) (fun h61 => ?_)
    · exact wX2_tag_72 hC hT hG h80 h81 hnl fu d (by omega) (by omega) qa a Na hSa (fun z hz => (hNa z hz).1) v48 M48
    · refine j_aload_n (JC.xw _ hC) 2 dX2_tag_64 rfl ?_
      refine j_aload_n (JC.xw _ hC) 2 dX2_tag_65 rfl ?_
      refine j_getI (fk := 8) (JC.xw _ hC) (dmY hG rfl) rfl rfl in_X2 rfl rfl q433 rfl dX2_tag_66 ?_
      refine j_lm lm_bX ?_
      refine j_callVH (nA := 1) (rest := []) (JC.xw _ hC) [.int (M48 (4, 0, 8) 8)] rfl (fun r hr => mX2_fail (XL X) (JT.st hT) (XG (xwP (Na ++ gP (XG X)) X)) hG fu (XD X)  M48 (M48 (4, 0, 8) 8) r hr) q763 q765 qs12 q127 q766 (dmY hG rfl) rfl rfl (by decide +kernel) (bk (by omega)) (bk (by omega)) rfl rfl (bk (by omega)) (bk (by omega)) dX2_tag_69 (fun v69 => []) (fun _ => rfl) (fun v69 M69 => ?_) (fun e M69 => jhm_out (X := X) hC hT (fun z hz => List.mem_append.mpr (Or.inr hz)) (by omega) (by omega) (by omega))
      exact wX2_tag_72 hC hT hG h80 h81 hnl fu d (by omega) (by omega) qa a Na hSa (fun z hz => (hNa z hz).1) v48 M69
theorem wgX2_tag_2 {X : JX} {c : Nat} (hC : JC X cX2_tag RX2 (some (.object "FeatherYard$Cond")) 8 209 c (8 * c)) (hT : JT X) (hG : dmI dmX (XG X)) (h80 : gdm (XG X) (8, 0, 0) = false) (h81 : gdm (XG X) (8, 0, 1) = false) (hnl : nLof X = 4) (fu d : Nat) (kn : Mem × Int32 → Option (PR Den)) (hkn : ∀ (M : Mem) (x : Int32), J X (ZM X (SemC (XG X) (d + 1)) c (8 * c)) (lm c (kn (M, x))) 2 [(1, .int x), (0, .ref (gadr (XG X) (4, 0, 8)))] [] M 0 0) (M : Mem) (x : Int32) : J X (ZM X (SemC (XG X) (d + 1)) c (8 * c)) (lm c (GX2_tag_2 fu (XD X) kn M x)) 2 [(1, .int x), (0, .ref (gadr (XG X) (4, 0, 8)))] [] M 0 0 := by
  unfold GX2_tag_2
  refine j_lm lm_ite ?_
  refine j_iload_n hC 0 dX2_tag_2 rfl ?_
  refine j_aload_n hC 1 dX2_tag_3 rfl ?_
  refine j_getR (fk := 2) hC (dmY hG rfl) rfl rfl in_X2 rfl rfl q426 rfl dX2_tag_4 ?_
  refine j_alen7 (L := 2) (v := 2) hC (dmY hG rfl) rfl (by decide) dX2_tag_7 ?_
  refine j_icmp_ge (tgt := 42) hC dX2_tag_8 (by decide) (fun h8 => ?_) (fun h8 => ?_)
  · exact wX2_tag_42 hC hT hG h80 h81 hnl fu d x M
  · refine j_aload_n hC 1 dX2_tag_11 rfl ?_
    refine j_aload_n hC 1 dX2_tag_12 rfl ?_
    refine j_getR (fk := 2) hC (dmY hG rfl) rfl rfl in_X2 rfl rfl q426 rfl dX2_tag_13 ?_
    refine j_iload_n hC 0 dX2_tag_16 rfl ?_
    refine j_lm lm_gd ?_
    refine j_aald7 (d := (6, 0, x.toNatClampNeg + 6)) hC (dmY hG rfl) rfl rfl dX2_tag_17 (fun h17 => ?_)
    refine j_lm lm_bd ?_
    refine j_callV (nA := 1) (rest := []) hC [.ref (gadr (XG X) (6, 0, x.toNatClampNeg + 6))] rfl (fun r hr => mX2_takes (XL X) (XG X) hG fu (XD X) (x.toNatClampNeg + 6) (by have := vin_lt h17; omega) M r hr) q771 q773 qs14 q127 q774 (dmY hG rfl) rfl rfl (by decide +kernel) (bk (by omega)) (bk (by omega)) rfl rfl (bk (by omega)) (bk (by omega)) dX2_tag_18 (fun v18 => [.int v18]) (fun _ => rfl) (fun v18 M18 => ?_)
    refine j_lm lm_ite ?_
    refine j_if_eq (tgt := 36) hC dX2_tag_21 (by decide) (fun h21 => ?_) (fun h21 => ?_)
    · refine j_lm lm_lt ?_
      refine j_iincL hC 0 (fun y => [(1, .int y), (0, .ref (gadr (XG X) (4, 0, 8)))]) hnl dX2_tag_36 rfl (by decide) rfl (fun _ => rfl) (fun y => ?_)
      refine j_goto (tgt := 2) hC dX2_tag_39 (by decide) ?_
      exact hkn M18 y
    · refine jm_tick (fun h1 => ?_)
      refine j_lm lm_some ?_
      refine j_new hC (ci := 9) (fs := [.int 0]) rfl in_X10 tyX10 tyX10_ok (fun j hj => by match j, hj with | 0, _ => rfl) q940 q941 q145 (by omega) (by omega) dX2_tag_24 (fun q hqa hqb => ?_)
      refine j_dup (JC.xw _ hC) dX2_tag_27 rfl ?_
      refine j_bipush (v := 6) (JC.xw _ hC) dX2_tag_28 (by decide) ?_
      refine j_iload_n (JC.xw _ hC) 0 dX2_tag_30 rfl ?_
      refine j_iadd (JC.xw _ hC) dX2_tag_31 ?_
      refine j_init (JC.xw _ hC) (P1 := []) (P2 := gP (XG X)) (a := q) (ci := 9) (fs0 := [.int 0]) (nA := 1) rfl (fun z hz => hqb z hz) hqa [.int (6 + x)] rfl (fun sz => iX10 (XL X) _ q (6 + x) sz) q942 q943 q145 q944 rfl (by decide +kernel) (bk (by omega)) (bk (by omega)) rfl rfl (by omega) (by omega) dX2_tag_32 ?_
      refine jm_aret (X := X) (N := [(q, .inr (9, [.int (6 + x)]))]) hC rfl (SemC.tag (by have := vin_lt h17; omega) (by rcases vin2 h17 with rfl | rfl <;> decide)) (fun z hz => ?_) (by omega) (by omega) dX2_tag_35
      rw [List.mem_singleton.mp hz]; exact hqa
theorem mX2_tag (l : Launch) (hst : l.stackTraces = false) (Γ : xG) (hG : dmI dmX Γ) (h80 : gdm Γ (8, 0, 0) = false) (h81 : gdm Γ (8, 0, 1) = false) (fu d : Nat) (D : List LDen) (M : Mem) (r : PR Den) (hr : FX2_tag fu D M = some r) : CM l yX2_tag (ws_ yX2_tag cX2_tag 4 (some (.object "FeatherYard$Cond"))) 8 209 Γ D [.ref (gadr Γ (4, 0, 8))] M (SemC Γ (d + 1)) r := by
  refine CM.of hst (own := RX2) (lv0 := lv_args 0 [.ref (gadr Γ (4, 0, 8))]) (by decide +kernel) rfl (Nat.le_of_ble_eq_true rfl) rfl r hr (fun X e1 e2 e3 e4 hC hT => ?_)
  subst e1
  subst e2
  refine j_iconst (v := 0) hC dX2_tag_0 (by decide) ?_
  refine j_istore_n hC [(1, .int 0), (0, .ref (gadr (XG X) (4, 0, 8)))] e4 dX2_tag_1 rfl rfl ?_
  exact j_lpm (lvf := fun z => [(1, .int z.2), (0, .ref (gadr (XG X) (4, 0, 8)))]) (Mf := fun z => z.1) (fun kn hkn z => wgX2_tag_2 hC hT hG h80 h81 e4 fu d kn (fun M x => hkn (M, x)) z.1 z.2) fu (M, 0)
