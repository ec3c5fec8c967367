set_option maxRecDepth 100000
/-! Reader.row, Reader.atom -/
def chd (al : Bool) (ds : List Den) : Den := fun F => if al then ds.all (fun f => f F) else ds.any (fun f => f F)
def GX2_row_27 (fu : Nat) (D : List LDen) (al : Bool) (w : Nat) (sub : Mem → Option (PR Den)) (kn : Mem × List Den → Option (PR Den)) (M : Mem) (ds : List Den) : Option (PR Den) :=
  bd (FX2_takes fu D w M) (fun v M39 => if v = 0 then some (0, chd al ds, 0, M39) else tick 1 (bm dC (sub M39) (fun f M63 => kn (M63, ds ++ [f]))))
def FX2_row_27 (fu : Nat) (D : List LDen) (al : Bool) (w : Nat) (sub : Mem → Option (PR Den)) (M : Mem) (ds : List Den) : Option (PR Den) := lp (fun kn z => GX2_row_27 fu D al w sub kn z.1 z.2) fu (M, ds)
def FX2_row (fu : Nat) (D : List LDen) (al : Bool) (w : Nat) (sub : Mem → Option (PR Den)) (M : Mem) : Option (PR Den) := tick 1 (bm dC (sub M) (fun f M20 => FX2_row_27 fu D al w sub M20 [f]))
def FX2_atom_120 (f : Den) (M : Mem) : Option (PR Den) := lt (up M (4, 0, 8) 9 ((M (4, 0, 8) 9) - 1)) (fun M127 => some (0, f, 0, M127))
def FX2_atom_110 (f : Den) (M : Mem) : Option (PR Den) := lt (up M (4, 0, 8) 8 ((M (4, 0, 8) 8) + 1)) (fun M117 => FX2_atom_120 f M117)
def FX2_atom_46 (fu : Nat) (D : List LDen) (srow satom : Mem → Option (PR Den)) (x3 : Int32) (M : Mem) : Option (PR Den) :=
  lt (up M (4, 0, 8) 9 ((M (4, 0, 8) 9) + 1)) (fun M53 => if x3 = 0 then lt (up M53 (4, 0, 8) 8 ((M53 (4, 0, 8) 8) + 1)) (fun M83 => bm dC (srow M83) (fun f M88 => bd (FX2_sign fu D M88) (fun v94 M94 => if v94 = 41 then FX2_atom_110 f M94 else bX dC (FX2_fail fu D M94 (M94 (4, 0, 8) 8)) (fun _ M107 => FX2_atom_110 f M107)))) else tick 1 (bm dC (satom M53) (fun f M65 => FX2_atom_120 (fun F => !(f F)) M65)))
def FX2_atom_32 (fu : Nat) (D : List LDen) (srow satom : Mem → Option (PR Den)) (x2 x3 : Int32) (M : Mem) : Option (PR Den) :=
  if (M (4, 0, 8) 9) = 6 then bX dC (FX2_fail fu D M x2) (fun _ M43 => FX2_atom_46 fu D srow satom x3 M43) else FX2_atom_46 fu D srow satom x3 M
def FX2_atom (fu : Nat) (D : List LDen) (srow satom : Mem → Option (PR Den)) (M : Mem) : Option (PR Den) :=
  bd (FX2_sign fu D M) (fun v1 M1 => lt (M1 (4, 0, 8) 8) (fun y9 => bd (FX2_takes fu D 24 M1) (fun v13 M13 => if v13 = 0 then (if v1 = 40 then FX2_atom_32 fu D srow satom y9 v13 M13 else bm dC (FX2_tag fu D M13) (fun f M28 => some (0, f, 0, M28))) else FX2_atom_32 fu D srow satom y9 v13 M13)))
/-- row(false): 0, row(true): 1, atom(): 2 -/
def FX2_ra (fu : Nat) (D : List LDen) : Nat → Nat → Mem → Option (PR Den)
  | 0, _, _ => none
  | g + 1, 0, M => FX2_row fu D false 26 (FX2_ra fu D g 1) M
  | g + 1, 1, M => FX2_row fu D true 25 (FX2_ra fu D g 2) M
  | g + 1, _ + 2, M => FX2_atom fu D (FX2_ra fu D g 0) (FX2_ra fu D g 2) M
theorem CondN.more {Γ : xG} {H : Heap} : ∀ (d a : Nat) (f : Den), CondN Γ d a f H → CondN Γ (d + 1) a f H := by
  intro d
  induction d with
  | zero => intro a f h; exact h.elim
  | succ d ih =>
    intro a f h
    rcases h with h | ⟨b, g, h1, h2, h3, h4⟩ | h | ⟨al, L, h1, h2, h3⟩
    · exact Or.inl h
    · exact Or.inr (Or.inl ⟨b, g, h1, h2, ih _ _ h3, h4⟩)
    · exact Or.inr (Or.inr (Or.inl h))
    · exact Or.inr (Or.inr (Or.inr ⟨al, L, h1, fun i q hi => ⟨(h2 i q hi).1, (h2 i q hi).2.1, ih _ _ (h2 i q hi).2.2⟩, h3⟩))
theorem CondN.moreN {Γ : xG} {H : Heap} {a : Nat} {f : Den} {d e : Nat} (hde : d ≤ e) (h : CondN Γ d a f H) : CondN Γ e a f H := by
  induction e with
  | zero => rw [show d = 0 by omega] at h; exact h
  | succ e ih =>
    rcases Nat.lt_or_ge e d with h1 | h1
    · rw [show d = e + 1 by omega] at h; exact h
    · exact (ih h1).more
theorem SemC.more {Γ : xG} {d q : Nat} {f : Den} {N : va_W} (h : SemC Γ d q f N) : SemC Γ (d + 1) q f N := fun Γ' H h1 h2 h3 => (h Γ' H h1 h2 h3).more
theorem SemC.not {Γ : xG} {d q b : Nat} {f : Den} {N N' : va_W} (h : SemC Γ d b f N) (hs : ∀ z ∈ N, z ∈ N') : SemC Γ (d + 1) q (fun F => !(f F)) ((q, .inr (12, [.ref b])) :: N') := by
  intro Γ' H hD hA hN
  have h1 := hN _ List.mem_cons_self
  exact Or.inr (Or.inl ⟨b, f, h1.1, h1.2, h Γ' H hD hA (fun z hz => hN z (List.mem_cons_of_mem _ (hs z hz))), rfl⟩)
abbrev zb (al : Bool) : Int32 := if al then 1 else 0
/-- a chain's cells but the last one's own -/
def SemL (Γ : xG) (g : Nat) (al : Bool) (a : Nat) (L : List (Nat × Nat × Den)) (x : Nat × Nat × Den) (N : va_W) : Prop := (((L ++ [x])[0]?).map (·.1) = some a) ∧ ∀ (Γ' : xG) (H : Heap), gD Γ' = gD Γ → gA Γ' = gA Γ → (∀ z ∈ N, nX Γ' z.1 ∧ va_at (gD Γ') xcl z H) → (∀ (i : Nat) (q : Nat × Nat × Den), L[i]? = some q → nX Γ' q.1 ∧ va_at (gD Γ') xcl (q.1, .inr (8, [.ref q.2.1, .int (zb al), va_rf (((L ++ [x])[i + 1]?).map (·.1))])) H) ∧ ∀ q ∈ L ++ [x], CondN Γ' g q.2.1 q.2.2 H
theorem SemL.one {Γ : xG} {g q b : Nat} {al : Bool} {f : Den} {N : va_W} (h : SemC Γ g b f N) : SemL Γ g al q [] (q, b, f) N :=
  ⟨rfl, fun Γ' H h1 h2 h3 => ⟨fun i q hi => by simp at hi, fun z hz => by
    rw [List.mem_singleton.mp hz]; exact h Γ' H h1 h2 h3⟩⟩
theorem SemL.step {Γ : xG} {g a : Nat} {al : Bool} {L : List (Nat × Nat × Den)} {x y : Nat × Nat × Den} {N N1 N2 : va_W} (h : SemL Γ g al a L x N) (hy : SemC Γ g y.2.1 y.2.2 N1) (hN : ∀ z ∈ N, z ∈ N2) (hN1 : ∀ z ∈ N1, z ∈ N2) (hx : (x.1, .inr (8, [.ref x.2.1, .int (zb al), .ref y.1])) ∈ N2) : SemL Γ g al a (L ++ [x]) y N2 := by
  refine ⟨?_, fun Γ' H hD hA hs => ?_⟩
  · rw [List.getElem?_append_left (by simp)]; exact h.1
  obtain ⟨h1, h2⟩ := h.2 Γ' H hD hA (fun z hz => hs z (hN z hz))
  refine ⟨fun i q hi => ?_, fun q hq => ?_⟩
  · rcases Nat.lt_or_ge i L.length with hl | hl
    · rw [List.getElem?_append_left hl] at hi
      have := h1 i q hi
      rw [List.getElem?_append_left (show i + 1 < (L ++ [x]).length by simp; omega)]
      exact this
    · have hi2 : i = L.length := by
        have := (List.getElem?_eq_some_iff.mp hi).1
        simp at this
        omega
      subst hi2
      simp at hi
      subst hi
      have h9 := hs _ hx
      refine ⟨h9.1, ?_⟩
      rw [List.getElem?_append_right (by simp)]
      simp [va_rf]
      exact h9.2
  · rcases List.mem_append.mp hq with hq | hq
    · exact h2 q hq
    · rw [List.mem_singleton.mp hq]
      exact hy Γ' H hD hA (fun z hz => hs z (hN1 z hz))
theorem SemL.chain {Γ : xG} {g a : Nat} {al : Bool} {L : List (Nat × Nat × Den)} {x : Nat × Nat × Den} {N N2 : va_W} (h : SemL Γ g al a L x N) (hN : ∀ z ∈ N, z ∈ N2) (hx : (x.1, .inr (8, [.ref x.2.1, .int (zb al), .null])) ∈ N2) : SemC Γ (g + 1) a (chd al ((L ++ [x]).map (·.2.2))) N2 := by
  intro Γ' H hD hA hs
  obtain ⟨h1, h2⟩ := h.2 Γ' H hD hA (fun z hz => hs z (hN z hz))
  refine Or.inr (Or.inr (Or.inr ⟨al, L ++ [x], h.1, fun i q hi => ?_, ?_⟩))
  · rcases Nat.lt_or_ge i L.length with hl | hl
    · have hi2 := hi
      rw [List.getElem?_append_left hl] at hi2
      have := h1 i q hi2
      exact ⟨this.1, this.2, h2 q (List.mem_of_getElem? hi)⟩
    · have hi2 : i = L.length := by
        have := (List.getElem?_eq_some_iff.mp hi).1
        simp at this
        omega
      subst hi2
      have hq : q = x := by simpa using hi.symm
      subst hq
      have h9 := hs _ hx
      refine ⟨h9.1, ?_, h2 q (by simp)⟩
      rw [List.getElem?_eq_none (show (L ++ [q]).length ≤ L.length + 1 by simp)]
      exact h9.2
  · funext F
    unfold chd chv
    cases al <;> simp [List.all_map, List.any_map, Function.comp_def]
section
variable {ρ : Type} {X : JX} {Z : ρ → State → Prop} {pr : Option ρ} {pc : Nat} {lv : List (Nat × Value)} {rest : List Value} {M : Mem} {k n : Nat} {cc : ByteArray} {own : String} {ret : Option FieldType} {fr lc mc ms : Nat}
theorem j_ifeqT (hC : JC X cc own ret fr lc mc ms) {x : Int32} {off : Int} {tgt : Nat} (hd : decode cc pc = .ok (.ifCond .eq off, 3)) (ht : (pc : Int) + off = (tgt : Int)) (hx : x = 0) (kk : J X Z pr tgt lv rest M k n) : J X Z pr pc lv (.int x :: rest) M k n := by
  have h := j_if_eq (A := pr) (B := pr) (x := x) hC hd ht (fun _ => kk) (fun h => absurd hx h)
  rwa [ite_self] at h
theorem j_ifeqF (hC : JC X cc own ret fr lc mc ms) {x : Int32} {off : Int} {tgt : Nat} (hd : decode cc pc = .ok (.ifCond .eq off, 3)) (ht : (pc : Int) + off = (tgt : Int)) (hx : ¬ x = 0) (kk : J X Z pr (pc + 3) lv rest M k n) : J X Z pr pc lv (.int x :: rest) M k n := by
  have h := j_if_eq (A := pr) (B := pr) (x := x) hC hd ht (fun h => absurd h hx) (fun _ => kk)
  rwa [ite_self] at h
end
abbrev OC : Option FieldType := some (.object "FeatherYard$Cond")
/-- the contracts at fuel g -/
def RAok (l : Launch) (fu : Nat) (g : Nat) : Prop := ∀ (Γ : xG), dmI dmX Γ → gdm Γ (8, 0, 0) = false → gdm Γ (8, 0, 1) = false → ∀ (D : List LDen) (M : Mem) (r : PR Den),
  (FX2_ra fu D g 0 M = some r → CM l yX2_row (ws_ yX2_row cX2_row 4 OC) (g + 9) (232 + 24 * g) Γ D [.ref (gadr Γ (4, 0, 8)), .int 0] M (SemC Γ g) r) ∧
  (FX2_ra fu D g 1 M = some r → CM l yX2_row (ws_ yX2_row cX2_row 4 OC) (g + 9) (232 + 24 * g) Γ D [.ref (gadr Γ (4, 0, 8)), .int 1] M (SemC Γ g) r) ∧
  (FX2_ra fu D g 2 M = some r → CM l yX2_atom (ws_ yX2_atom cX2_atom 5 OC) (g + 9) (232 + 24 * g) Γ D [.ref (gadr Γ (4, 0, 8))] M (SemC Γ g) r)
theorem wX2_row_4_0 {X : JX} {c : Nat} (g : Nat) (hC : JC X cX2_row RX2 OC (g + 10) (256 + 24 * g) c (8 * c)) (hT : JT X) (hG : dmI dmX (XG X)) (h80 : gdm (XG X) (8, 0, 0) = false) (h81 : gdm (XG X) (8, 0, 1) = false) (hnl : nLof X = 4) (fu : Nat) (hR : RAok (XL X) fu g) {P : va_W} (hP : ∀ z ∈ gP (XG X), z ∈ P) {M : Mem} {k n m : Nat} (hk : k + m ≤ c) (hn : n + 8 * m ≤ 8 * c) {rest : List Value} (hrm : Nat.ble ((rest.map fun v => v.category).sum) 8 = true) {kont : Den → Mem → Option (PR Den)} (kk : ∀ (q : Nat) (v : Den) (N : va_W) (c1 : Nat) (M1 : Mem), SemC (XG X) g q v N → (∀ z ∈ N, (XS X).heap.size ≤ z.1 ∧ ∀ w ∈ P, z.1 ≠ w.1) → c1 ≤ m → J (xwP (N ++ P) X) (ZM X (SemC (XG X) (g + 1)) c (8 * c)) (lm (m - c1) (kont v M1)) 20 [(0, .ref (gadr (XG X) (4, 0, 8))), (1, .int 0)] (.ref q :: rest) M1 (k + c1) (n + 8 * c1)) : J (xwP P X) (ZM X (SemC (XG X) (g + 1)) c (8 * c)) (lm m (bm dC (FX2_ra fu (XD X) g 1 M) kont)) 4 [(0, .ref (gadr (XG X) (4, 0, 8))), (1, .int 0)] rest M k n := by
  refine j_iload_n (JC.xw _ hC) 1 dX2_row_4 rfl ?_
  refine j_ifeqT (tgt := 15) (JC.xw _ hC) dX2_row_5 (by decide) rfl ?_
  refine j_aload_n (JC.xw _ hC) 0 dX2_row_15 rfl ?_
  refine j_iconst (v := 1) (JC.xw _ hC) dX2_row_16 (by decide) ?_
  refine jm_call (X := X) (P := P) (rest := rest) hC hT [.int 1] rfl hP (fun r hr => (hR (gwP P (XG X)) hG h80 h81 (XD X) M r).2.1 hr) q925 q927 qs24 q127 q928 (dmY hG rfl) rfl rfl (by decide +kernel) (by omega) (by omega) rfl hrm (by omega) (by omega) (Nat.le_refl _) (Nat.le_refl _) dX2_row_17 (fun q v N c1 M1 h1 h2 h3 => ?_)
  exact kk q v N c1 M1 h1 h2 h3
theorem wX2_row_50_0 {X : JX} {c : Nat} (g : Nat) (hC : JC X cX2_row RX2 OC (g + 10) (256 + 24 * g) c (8 * c)) (hT : JT X) (hG : dmI dmX (XG X)) (h80 : gdm (XG X) (8, 0, 0) = false) (h81 : gdm (XG X) (8, 0, 1) = false) (hnl : nLof X = 4) (fu : Nat) (hR : RAok (XL X) fu g) {P : va_W} (hP : ∀ z ∈ gP (XG X), z ∈ P) {M : Mem} {k n m : Nat} (hk : k + m ≤ c) (hn : n + 8 * m ≤ 8 * c) {rest : List Value} (hrm : Nat.ble ((rest.map fun v => v.category).sum) 8 = true) {kont : Den → Mem → Option (PR Den)} {q1 q2 : Nat} {lv : List (Nat × Value)} (hlv : lv = [(3, .ref q1), (2, .ref q2), (1, .int 0), (0, .ref (gadr (XG X) (4, 0, 8)))]) (kk : ∀ (q : Nat) (v : Den) (N : va_W) (c1 : Nat) (M1 : Mem), SemC (XG X) g q v N → (∀ z ∈ N, (XS X).heap.size ≤ z.1 ∧ ∀ w ∈ P, z.1 ≠ w.1) → c1 ≤ m → J (xwP (N ++ P) X) (ZM X (SemC (XG X) (g + 1)) c (8 * c)) (lm (m - c1) (kont v M1)) 66 lv (.ref q :: rest) M1 (k + c1) (n + 8 * c1)) : J (xwP P X) (ZM X (SemC (XG X) (g + 1)) c (8 * c)) (lm m (bm dC (FX2_ra fu (XD X) g 1 M) kont)) 50 lv rest M k n := by
  subst hlv
  refine j_iload_n (JC.xw _ hC) 2 dX2_row_50 rfl ?_
  refine j_ifeqT (tgt := 61) (JC.xw _ hC) dX2_row_51 (by decide) rfl ?_
  refine j_aload_n (JC.xw _ hC) 3 dX2_row_61 rfl ?_
  refine j_iconst (v := 1) (JC.xw _ hC) dX2_row_62 (by decide) ?_
  refine jm_call (X := X) (P := P) (rest := rest) hC hT [.int 1] rfl hP (fun r hr => (hR (gwP P (XG X)) hG h80 h81 (XD X) M r).2.1 hr) q925 q927 qs24 q127 q928 (dmY hG rfl) rfl rfl (by decide +kernel) (by omega) (by omega) rfl hrm (by omega) (by omega) (Nat.le_refl _) (Nat.le_refl _) dX2_row_63 (fun q v N c1 M1 h1 h2 h3 => ?_)
  exact kk q v N c1 M1 h1 h2 h3
theorem wX2_row_4_1 {X : JX} {c : Nat} (g : Nat) (hC : JC X cX2_row RX2 OC (g + 10) (256 + 24 * g) c (8 * c)) (hT : JT X) (hG : dmI dmX (XG X)) (h80 : gdm (XG X) (8, 0, 0) = false) (h81 : gdm (XG X) (8, 0, 1) = false) (hnl : nLof X = 4) (fu : Nat) (hR : RAok (XL X) fu g) {P : va_W} (hP : ∀ z ∈ gP (XG X), z ∈ P) {M : Mem} {k n m : Nat} (hk : k + m ≤ c) (hn : n + 8 * m ≤ 8 * c) {rest : List Value} (hrm : Nat.ble ((rest.map fun v => v.category).sum) 8 = true) {kont : Den → Mem → Option (PR Den)} (kk : ∀ (q : Nat) (v : Den) (N : va_W) (c1 : Nat) (M1 : Mem), SemC (XG X) g q v N → (∀ z ∈ N, (XS X).heap.size ≤ z.1 ∧ ∀ w ∈ P, z.1 ≠ w.1) → c1 ≤ m → J (xwP (N ++ P) X) (ZM X (SemC (XG X) (g + 1)) c (8 * c)) (lm (m - c1) (kont v M1)) 20 [(0, .ref (gadr (XG X) (4, 0, 8))), (1, .int 1)] (.ref q :: rest) M1 (k + c1) (n + 8 * c1)) : J (xwP P X) (ZM X (SemC (XG X) (g + 1)) c (8 * c)) (lm m (bm dC (FX2_ra fu (XD X) g 2 M) kont)) 4 [(0, .ref (gadr (XG X) (4, 0, 8))), (1, .int 1)] rest M k n := by
  refine j_iload_n (JC.xw _ hC) 1 dX2_row_4 rfl ?_
  refine j_ifeqF (tgt := 15) (JC.xw _ hC) dX2_row_5 (by decide) (by decide) ?_
  refine j_aload_n (JC.xw _ hC) 0 dX2_row_8 rfl ?_
  refine jm_call (X := X) (P := P) (rest := rest) hC hT [] rfl hP (fun r hr => (hR (gwP P (XG X)) hG h80 h81 (XD X) M r).2.2 hr) q931 q933 qs25 q127 q934 (dmY hG rfl) rfl rfl (by decide +kernel) (by omega) (by omega) rfl hrm (by omega) (by omega) (Nat.le_refl _) (Nat.le_refl _) dX2_row_9 (fun q v N c1 M1 h1 h2 h3 => ?_)
  refine j_goto (tgt := 20) (JC.xw _ hC) dX2_row_12 (by decide) ?_
  exact kk q v N c1 M1 h1 h2 h3
theorem wX2_row_50_1 {X : JX} {c : Nat} (g : Nat) (hC : JC X cX2_row RX2 OC (g + 10) (256 + 24 * g) c (8 * c)) (hT : JT X) (hG : dmI dmX (XG X)) (h80 : gdm (XG X) (8, 0, 0) = false) (h81 : gdm (XG X) (8, 0, 1) = false) (hnl : nLof X = 4) (fu : Nat) (hR : RAok (XL X) fu g) {P : va_W} (hP : ∀ z ∈ gP (XG X), z ∈ P) {M : Mem} {k n m : Nat} (hk : k + m ≤ c) (hn : n + 8 * m ≤ 8 * c) {rest : List Value} (hrm : Nat.ble ((rest.map fun v => v.category).sum) 8 = true) {kont : Den → Mem → Option (PR Den)} {q1 q2 : Nat} {lv : List (Nat × Value)} (hlv : lv = [(3, .ref q1), (2, .ref q2), (1, .int 1), (0, .ref (gadr (XG X) (4, 0, 8)))]) (kk : ∀ (q : Nat) (v : Den) (N : va_W) (c1 : Nat) (M1 : Mem), SemC (XG X) g q v N → (∀ z ∈ N, (XS X).heap.size ≤ z.1 ∧ ∀ w ∈ P, z.1 ≠ w.1) → c1 ≤ m → J (xwP (N ++ P) X) (ZM X (SemC (XG X) (g + 1)) c (8 * c)) (lm (m - c1) (kont v M1)) 66 lv (.ref q :: rest) M1 (k + c1) (n + 8 * c1)) : J (xwP P X) (ZM X (SemC (XG X) (g + 1)) c (8 * c)) (lm m (bm dC (FX2_ra fu (XD X) g 2 M) kont)) 50 lv rest M k n := by
  subst hlv
  refine j_iload_n (JC.xw _ hC) 2 dX2_row_50 rfl ?_
  refine j_ifeqF (tgt := 61) (JC.xw _ hC) dX2_row_51 (by decide) (by decide) ?_
  refine j_aload_n (JC.xw _ hC) 3 dX2_row_54 rfl ?_
  refine jm_call (X := X) (P := P) (rest := rest) hC hT [] rfl hP (fun r hr => (hR (gwP P (XG X)) hG h80 h81 (XD X) M r).2.2 hr) q931 q933 qs25 q127 q934 (dmY hG rfl) rfl rfl (by decide +kernel) (by omega) (by omega) rfl hrm (by omega) (by omega) (Nat.le_refl _) (Nat.le_refl _) dX2_row_55 (fun q v N c1 M1 h1 h2 h3 => ?_)
  refine j_goto (tgt := 66) (JC.xw _ hC) dX2_row_58 (by decide) ?_
  exact kk q v N c1 M1 h1 h2 h3
theorem wX2_row_27_0 {X : JX} {c : Nat} (g : Nat) (hC : JC X cX2_row RX2 OC (g + 10) (256 + 24 * g) c (8 * c)) (hT : JT X) (hG : dmI dmX (XG X)) (h80 : gdm (XG X) (8, 0, 0) = false) (h81 : gdm (XG X) (8, 0, 1) = false) (hnl : nLof X = 4) (fu : Nat) (hR : RAok (XL X) fu g) : ∀ (fu' : Nat) (k n m : Nat) (a : Nat) (L : List (Nat × Nat × Den)) (x : Nat × Nat × Den) (Na Nb : va_W) (M : Mem), k + m ≤ c → n + 8 * m ≤ 8 * c → SemL (XG X) g false a L x (Na ++ Nb) → (∀ z ∈ Na ++ (Nb ++ gP (XG X)), z.1 ≠ x.1) → (XS X).heap.size ≤ x.1 → (∀ z ∈ Na ++ Nb, (XS X).heap.size ≤ z.1) →
    J (xwP (Na ++ (x.1, .inr (8, [.ref x.2.1, .int 0, .null])) :: (Nb ++ gP (XG X))) X) (ZM X (SemC (XG X) (g + 1)) c (8 * c)) (lm m (lp (fun kn z => GX2_row_27 fu (XD X) false 26 (FX2_ra fu (XD X) g 1) kn z.1 z.2) fu' (M, (L ++ [x]).map (·.2.2)))) 27 [(3, .ref x.1), (2, .ref a), (1, .int 0), (0, .ref (gadr (XG X) (4, 0, 8)))] [] M k n := by
  intro fu'
  induction fu' with
  | zero => intro k n m a L x Na Nb M hk hn hL hx hx0 hz0; exact j_none
  | succ fu' ih =>
    intro k n m a L x Na Nb M hk hn hL hx hx0 hz0
    show J _ _ (lm m (GX2_row_27 fu (XD X) false 26 (FX2_ra fu (XD X) g 1) (lp (fun kn z => GX2_row_27 fu (XD X) false 26 (FX2_ra fu (XD X) g 1) kn z.1 z.2) fu') M ((L ++ [x]).map (·.2.2)))) _ _ _ _ _ _
    unfold GX2_row_27
    refine j_aload_n (JC.xw _ hC) 3 dX2_row_27 rfl ?_
    refine j_iload_n (JC.xw _ hC) 2 dX2_row_28 rfl ?_
    refine j_ifeqT (tgt := 37) (JC.xw _ hC) dX2_row_29 (by decide) rfl ?_
    refine j_ldcS (i := 26) (tx := "or") (JC.xw _ hC) (by simp [strR, RX2]) dX2_row_37 ?_
    refine j_lm lm_bd ?_
    refine j_callV (nA := 1) (rest := []) (JC.xw _ hC) [.ref (gadr (XG X) (6, 0, 26))] rfl (fun r hr => mX2_takes (XL X) (XG (xwP (Na ++ (x.1, .inr (8, [.ref x.2.1, .int 0, .null])) :: (Nb ++ gP (XG X))) X)) hG fu (XD X) 26 (by decide) M r hr) q771 q773 qs14 q127 q774 (dmY hG rfl) rfl rfl (by decide +kernel) (bk (by omega)) (bk (by omega)) rfl rfl (bk (by omega)) (bk (by omega)) dX2_row_39 (fun v39 => [.int v39]) (fun _ => rfl) (fun v39 M39 => ?_)
    refine j_lm lm_ite ?_
    refine j_if_eq (tgt := 81) (JC.xw _ hC) dX2_row_42 (by decide) (fun h42 => ?_) (fun h42 => ?_)
    · refine j_lm lm_some ?_
      refine j_aload_n (JC.xw _ hC) 1 dX2_row_81 rfl ?_
      refine jm_aret (X := X) (N := Na ++ (x.1, .inr (8, [.ref x.2.1, .int 0, .null])) :: Nb) hC (by simp [List.append_assoc]) (hL.chain (fun z hz => ?_) (by simp)) (fun z hz => ?_) (by omega) (by omega) dX2_row_82
      · rcases List.mem_append.mp hz with h9 | h9 <;> simp [h9]
      · rcases List.mem_append.mp hz with h9 | h9
        · exact hz0 z (List.mem_append.mpr (Or.inl h9))
        · rcases List.mem_cons.mp h9 with rfl | h9
          · exact hx0
          · exact hz0 z (List.mem_append.mpr (Or.inr h9))
    · refine jm_tick (fun h1 => ?_)
      refine j_aload_n (JC.xw _ hC) 0 dX2_row_45 rfl ?_
      refine j_new (JC.xw _ hC) (ci := 8) (fs := [.null, .int 0, .null]) rfl in_X9 tyX9 tyX9_ok (fun j hj => by match j, hj with | 0, _ => rfl | 1, _ => rfl | 2, _ => rfl) q929 q930 q144 (by omega) (by omega) dX2_row_46 (fun q hqa hqb => ?_)
      refine j_dup (JC.xw _ hC) dX2_row_49 rfl ?_
      have hqb : ∀ z ∈ Na ++ (x.1, .inr (8, [.ref x.2.1, .int 0, .null])) :: (Nb ++ gP (XG X)), z.1 ≠ q := hqb
      refine wX2_row_50_0 (P := (q, .inr (8, [.null, .int 0, .null])) :: (Na ++ (x.1, .inr (8, [.ref x.2.1, .int 0, .null])) :: (Nb ++ gP (XG X)))) (rest := [.ref q, .ref q, .ref x.1]) g hC hT hG h80 h81 hnl fu hR (fun z hz => by simp [hz]) (by omega) (by omega) rfl rfl (fun b f N c1 M1 hS hN hc1 => ?_)
      refine j_iload_n (JC.xw _ hC) 2 dX2_row_66 rfl ?_
      have hNq : ∀ z ∈ N, z.1 ≠ q := fun z hz => (hN z hz).2 (q, .inr (8, [.null, .int 0, .null])) List.mem_cons_self
      have hNx : ∀ z ∈ N, z.1 ≠ x.1 := fun z hz => (hN z hz).2 (x.1, .inr (8, [.ref x.2.1, .int 0, .null])) (by simp)
      have hxq : x.1 ≠ q := hqb (x.1, .inr (8, [.ref x.2.1, .int 0, .null])) (by simp)
      refine j_init (JC.xw _ hC) (P1 := N) (P2 := Na ++ (x.1, .inr (8, [.ref x.2.1, .int 0, .null])) :: (Nb ++ gP (XG X))) (a := q) (ci := 8) (fs0 := [.null, .int 0, .null]) (nA := 2) rfl (fun z hz => ?_) hqa [.ref b, .int 0] rfl (fun sz => iX9 (XL X) _ q b 0 (by decide) sz) q1000 q1001 q144 q1002 rfl (by decide +kernel) (bk (by omega)) (bk (by omega)) rfl rfl (by omega) (by omega) dX2_row_67 ?_
      · rcases List.mem_append.mp hz with h9 | h9
        · exact hNq z h9
        · exact hqb z h9
      refine j_pputN (fk := 2) (v := .ref q) (ty := .object "FeatherYard$Chain") (fs := [.ref x.2.1, .int 0, .null]) (JC.xw _ hC) (P1 := N ++ (q, .inr (8, [.ref b, .int 0, .null])) :: Na) (P2 := Nb ++ gP (XG X)) (a := x.1) (ci := 8) (by simp [List.append_assoc]) (fun z hz => ?_) hx0 rfl in_X9 rfl rfl q1007 tyX9 tyX9_ok nmX9 rfl (by decide +kernel) rfl rfl rfl dX2_row_70 ?_
      · rcases List.mem_append.mp hz with h9 | h9
        · rcases List.mem_append.mp h9 with h9 | h9
          · exact hNx z h9
          · rcases List.mem_cons.mp h9 with rfl | h9
            · exact hxq.symm
            · exact hx z (List.mem_append.mpr (Or.inl h9))
        · exact hx z (List.mem_append.mpr (Or.inr h9))
      refine j_aload_n (JC.xw _ hC) 0 dX2_row_73 rfl ?_
      refine j_pgetN (fk := 2) (v := .ref q) (fs := [.ref x.2.1, .int 0, .ref q]) (JC.xw _ hC) (P1 := N ++ (q, .inr (8, [.ref b, .int 0, .null])) :: Na) (P2 := Nb ++ gP (XG X)) (a := x.1) (ci := 8) rfl rfl in_X9 rfl rfl q1007 rfl dX2_row_74 ?_
      refine j_astore_n (JC.xw _ hC) [(3, .ref q), (2, .ref a), (1, .int 0), (0, .ref (gadr (XG X) (4, 0, 8)))] hnl dX2_row_77 rfl rfl ?_
      refine j_goto (tgt := 27) (JC.xw _ hC) dX2_row_78 (by decide) ?_
      have e1 : (N ++ (q, .inr (8, [.ref b, .int 0, .null])) :: Na) ++ (x.1, .inr (8, [.ref x.2.1, .int 0, .ref q])) :: (Nb ++ gP (XG X)) = N ++ (q, .inr (8, [.ref b, .int 0, .null])) :: ((Na ++ (x.1, .inr (8, [.ref x.2.1, .int 0, .ref q])) :: Nb) ++ gP (XG X)) := by simp [List.append_assoc]
      have e2 : (L ++ [x]).map (·.2.2) ++ [f] = ((L ++ [x]) ++ [(q, b, f)]).map (·.2.2) := by simp
      have go := ih (k + 1 + c1) (n + 3 + 8 * c1) (m - 1 - c1) a (L ++ [x]) (q, b, f) N (Na ++ (x.1, .inr (8, [.ref x.2.1, .int 0, .ref q])) :: Nb) M1 (by omega) (by omega) (hL.step hS (fun z hz => ?_) (fun z hz => by simp [hz]) (by simp)) (fun z hz => ?_) hqa (fun z hz => ?_)
      · rw [e2]
        show J (xwP ((N ++ (q, .inr (8, [.ref b, .int 0, .null])) :: Na) ++ (x.1, .inr (8, [.ref x.2.1, .int 0, .ref q])) :: (Nb ++ gP (XG X))) X) _ _ _ _ _ _ _ _
        rw [e1]
        exact go
      · rcases List.mem_append.mp hz with h9 | h9 <;> simp [h9]
      · rcases List.mem_append.mp hz with h9 | h9
        · exact hNq z h9
        · rcases List.mem_append.mp h9 with h9 | h9
          · rcases List.mem_append.mp h9 with h9 | h9
            · exact hqb z (by simp [h9])
            · rcases List.mem_cons.mp h9 with rfl | h9
              · exact hxq
              · exact hqb z (by simp [h9])
          · exact hqb z (by simp [h9])
      · rcases List.mem_append.mp hz with h9 | h9
        · exact (hN z h9).1
        · rcases List.mem_append.mp h9 with h9 | h9
          · exact hz0 z (List.mem_append.mpr (Or.inl h9))
          · rcases List.mem_cons.mp h9 with rfl | h9
            · exact hx0
            · exact hz0 z (List.mem_append.mpr (Or.inr h9))
theorem wX2_row_0 {X : JX} {c : Nat} (g : Nat) (hC : JC X cX2_row RX2 OC (g + 10) (256 + 24 * g) c (8 * c)) (hT : JT X) (hG : dmI dmX (XG X)) (h80 : gdm (XG X) (8, 0, 0) = false) (h81 : gdm (XG X) (8, 0, 1) = false) (hnl : nLof X = 4) (fu : Nat) (hR : RAok (XL X) fu g) (M : Mem) : J X (ZM X (SemC (XG X) (g + 1)) c (8 * c)) (lm c (FX2_row fu (XD X) false 26 (FX2_ra fu (XD X) g 1) M)) 0 [(0, .ref (gadr (XG X) (4, 0, 8))), (1, .int 0)] [] M 0 0 := by
  unfold FX2_row
  refine jm_tick (fun h1 => ?_)
  refine j_new hC (ci := 8) (fs := [.null, .int 0, .null]) rfl in_X9 tyX9 tyX9_ok (fun j hj => by match j, hj with | 0, _ => rfl | 1, _ => rfl | 2, _ => rfl) q929 q930 q144 (by omega) (by omega) dX2_row_0 (fun q hqa hqb => ?_)
  refine j_dup (JC.xw _ hC) dX2_row_3 rfl ?_
  refine wX2_row_4_0 (P := (q, .inr (8, [.null, .int 0, .null])) :: gP (XG X)) (rest := [.ref q, .ref q]) g hC hT hG h80 h81 hnl fu hR (fun z hz => List.mem_cons_of_mem _ hz) (by omega) (by omega) rfl (fun b f N c1 M1 hS hN hc1 => ?_)
  refine j_iload_n (JC.xw _ hC) 1 dX2_row_20 rfl ?_
  have hNq : ∀ z ∈ N, z.1 ≠ q := fun z hz => (hN z hz).2 (q, .inr (8, [.null, .int 0, .null])) List.mem_cons_self
  refine j_init (JC.xw _ hC) (P1 := N) (P2 := gP (XG X)) (a := q) (ci := 8) (fs0 := [.null, .int 0, .null]) (nA := 2) rfl (fun z hz => ?_) hqa [.ref b, .int 0] rfl (fun sz => iX9 (XL X) _ q b 0 (by decide) sz) q1000 q1001 q144 q1002 rfl (by decide +kernel) (bk (by omega)) (bk (by omega)) rfl rfl (by omega) (by omega) dX2_row_21 ?_
  · rcases List.mem_append.mp hz with h9 | h9
    · exact hNq z h9
    · exact hqb z h9
  refine j_astore_n (JC.xw _ hC) [(2, .ref q), (0, .ref (gadr (XG X) (4, 0, 8))), (1, .int 0)] hnl dX2_row_24 rfl rfl ?_
  refine j_aload_n (JC.xw _ hC) 0 dX2_row_25 rfl ?_
  refine j_astore_n (JC.xw _ hC) [(3, .ref q), (2, .ref q), (0, .ref (gadr (XG X) (4, 0, 8))), (1, .int 0)] hnl dX2_row_26 rfl rfl ?_
  refine j_sub [0, 1, 3, 2] rfl ?_
  refine wX2_row_27_0 g hC hT hG h80 h81 hnl fu hR fu (0 + 1 + c1) (0 + 3 + 8 * c1) (c - 1 - c1) q [] (q, b, f) N [] M1 (by omega) (by omega) (SemL.one (by simpa using hS)) (fun z hz => ?_) hqa (fun z hz => ?_)
  · rcases List.mem_append.mp hz with h9 | h9
    · exact hNq z h9
    · exact hqb z (by simpa using h9)
  · exact (hN z (by simpa using hz)).1
theorem wX2_row_27_1 {X : JX} {c : Nat} (g : Nat) (hC : JC X cX2_row RX2 OC (g + 10) (256 + 24 * g) c (8 * c)) (hT : JT X) (hG : dmI dmX (XG X)) (h80 : gdm (XG X) (8, 0, 0) = false) (h81 : gdm (XG X) (8, 0, 1) = false) (hnl : nLof X = 4) (fu : Nat) (hR : RAok (XL X) fu g) : ∀ (fu' : Nat) (k n m : Nat) (a : Nat) (L : List (Nat × Nat × Den)) (x : Nat × Nat × Den) (Na Nb : va_W) (M : Mem), k + m ≤ c → n + 8 * m ≤ 8 * c → SemL (XG X) g true a L x (Na ++ Nb) → (∀ z ∈ Na ++ (Nb ++ gP (XG X)), z.1 ≠ x.1) → (XS X).heap.size ≤ x.1 → (∀ z ∈ Na ++ Nb, (XS X).heap.size ≤ z.1) →
    J (xwP (Na ++ (x.1, .inr (8, [.ref x.2.1, .int 1, .null])) :: (Nb ++ gP (XG X))) X) (ZM X (SemC (XG X) (g + 1)) c (8 * c)) (lm m (lp (fun kn z => GX2_row_27 fu (XD X) true 25 (FX2_ra fu (XD X) g 2) kn z.1 z.2) fu' (M, (L ++ [x]).map (·.2.2)))) 27 [(3, .ref x.1), (2, .ref a), (1, .int 1), (0, .ref (gadr (XG X) (4, 0, 8)))] [] M k n := by
  intro fu'
  induction fu' with
  | zero => intro k n m a L x Na Nb M hk hn hL hx hx0 hz0; exact j_none
  | succ fu' ih =>
    intro k n m a L x Na Nb M hk hn hL hx hx0 hz0
    show J _ _ (lm m (GX2_row_27 fu (XD X) true 25 (FX2_ra fu (XD X) g 2) (lp (fun kn z => GX2_row_27 fu (XD X) true 25 (FX2_ra fu (XD X) g 2) kn z.1 z.2) fu') M ((L ++ [x]).map (·.2.2)))) _ _ _ _ _ _
    unfold GX2_row_27
    refine j_aload_n (JC.xw _ hC) 3 dX2_row_27 rfl ?_
    refine j_iload_n (JC.xw _ hC) 2 dX2_row_28 rfl ?_
    refine j_ifeqF (tgt := 37) (JC.xw _ hC) dX2_row_29 (by decide) (by decide) ?_
    refine j_ldcS (i := 25) (tx := "and") (JC.xw _ hC) (by simp [strR, RX2]) dX2_row_32 ?_
    refine j_goto (tgt := 39) (JC.xw _ hC) dX2_row_34 (by decide) ?_
    refine j_lm lm_bd ?_
    refine j_callV (nA := 1) (rest := []) (JC.xw _ hC) [.ref (gadr (XG X) (6, 0, 25))] rfl (fun r hr => mX2_takes (XL X) (XG (xwP (Na ++ (x.1, .inr (8, [.ref x.2.1, .int 1, .null])) :: (Nb ++ gP (XG X))) X)) hG fu (XD X) 25 (by decide) M r hr) q771 q773 qs14 q127 q774 (dmY hG rfl) rfl rfl (by decide +kernel) (bk (by omega)) (bk (by omega)) rfl rfl (bk (by omega)) (bk (by omega)) dX2_row_39 (fun v39 => [.int v39]) (fun _ => rfl) (fun v39 M39 => ?_)
    refine j_lm lm_ite ?_
    refine j_if_eq (tgt := 81) (JC.xw _ hC) dX2_row_42 (by decide) (fun h42 => ?_) (fun h42 => ?_)
    · refine j_lm lm_some ?_
      refine j_aload_n (JC.xw _ hC) 1 dX2_row_81 rfl ?_
      refine jm_aret (X := X) (N := Na ++ (x.1, .inr (8, [.ref x.2.1, .int 1, .null])) :: Nb) hC (by simp [List.append_assoc]) (hL.chain (fun z hz => ?_) (by simp)) (fun z hz => ?_) (by omega) (by omega) dX2_row_82
      · rcases List.mem_append.mp hz with h9 | h9 <;> simp [h9]
      · rcases List.mem_append.mp hz with h9 | h9
        · exact hz0 z (List.mem_append.mpr (Or.inl h9))
        · rcases List.mem_cons.mp h9 with rfl | h9
          · exact hx0
          · exact hz0 z (List.mem_append.mpr (Or.inr h9))
    · refine jm_tick (fun h1 => ?_)
      refine j_aload_n (JC.xw _ hC) 0 dX2_row_45 rfl ?_
      refine j_new (JC.xw _ hC) (ci := 8) (fs := [.null, .int 0, .null]) rfl in_X9 tyX9 tyX9_ok (fun j hj => by match j, hj with | 0, _ => rfl | 1, _ => rfl | 2, _ => rfl) q929 q930 q144 (by omega) (by omega) dX2_row_46 (fun q hqa hqb => ?_)
      refine j_dup (JC.xw _ hC) dX2_row_49 rfl ?_
      have hqb : ∀ z ∈ Na ++ (x.1, .inr (8, [.ref x.2.1, .int 1, .null])) :: (Nb ++ gP (XG X)), z.1 ≠ q := hqb
      refine wX2_row_50_1 (P := (q, .inr (8, [.null, .int 0, .null])) :: (Na ++ (x.1, .inr (8, [.ref x.2.1, .int 1, .null])) :: (Nb ++ gP (XG X)))) (rest := [.ref q, .ref q, .ref x.1]) g hC hT hG h80 h81 hnl fu hR (fun z hz => by simp [hz]) (by omega) (by omega) rfl rfl (fun b f N c1 M1 hS hN hc1 => ?_)
      refine j_iload_n (JC.xw _ hC) 2 dX2_row_66 rfl ?_
      have hNq : ∀ z ∈ N, z.1 ≠ q := fun z hz => (hN z hz).2 (q, .inr (8, [.null, .int 0, .null])) List.mem_cons_self
      have hNx : ∀ z ∈ N, z.1 ≠ x.1 := fun z hz => (hN z hz).2 (x.1, .inr (8, [.ref x.2.1, .int 1, .null])) (by simp)
      have hxq : x.1 ≠ q := hqb (x.1, .inr (8, [.ref x.2.1, .int 1, .null])) (by simp)
      refine j_init (JC.xw _ hC) (P1 := N) (P2 := Na ++ (x.1, .inr (8, [.ref x.2.1, .int 1, .null])) :: (Nb ++ gP (XG X))) (a := q) (ci := 8) (fs0 := [.null, .int 0, .null]) (nA := 2) rfl (fun z hz => ?_) hqa [.ref b, .int 1] rfl (fun sz => iX9 (XL X) _ q b 1 (by decide) sz) q1000 q1001 q144 q1002 rfl (by decide +kernel) (bk (by omega)) (bk (by omega)) rfl rfl (by omega) (by omega) dX2_row_67 ?_
      · rcases List.mem_append.mp hz with h9 | h9
        · exact hNq z h9
        · exact hqb z h9
      refine j_pputN (fk := 2) (v := .ref q) (ty := .object "FeatherYard$Chain") (fs := [.ref x.2.1, .int 1, .null]) (JC.xw _ hC) (P1 := N ++ (q, .inr (8, [.ref b, .int 1, .null])) :: Na) (P2 := Nb ++ gP (XG X)) (a := x.1) (ci := 8) (by simp [List.append_assoc]) (fun z hz => ?_) hx0 rfl in_X9 rfl rfl q1007 tyX9 tyX9_ok nmX9 rfl (by decide +kernel) rfl rfl rfl dX2_row_70 ?_
      · rcases List.mem_append.mp hz with h9 | h9
        · rcases List.mem_append.mp h9 with h9 | h9
          · exact hNx z h9
          · rcases List.mem_cons.mp h9 with rfl | h9
            · exact hxq.symm
            · exact hx z (List.mem_append.mpr (Or.inl h9))
        · exact hx z (List.mem_append.mpr (Or.inr h9))
      refine j_aload_n (JC.xw _ hC) 0 dX2_row_73 rfl ?_
      refine j_pgetN (fk := 2) (v := .ref q) (fs := [.ref x.2.1, .int 1, .ref q]) (JC.xw _ hC) (P1 := N ++ (q, .inr (8, [.ref b, .int 1, .null])) :: Na) (P2 := Nb ++ gP (XG X)) (a := x.1) (ci := 8) rfl rfl in_X9 rfl rfl q1007 rfl dX2_row_74 ?_
      refine j_astore_n (JC.xw _ hC) [(3, .ref q), (2, .ref a), (1, .int 1), (0, .ref (gadr (XG X) (4, 0, 8)))] hnl dX2_row_77 rfl rfl ?_
      refine j_goto (tgt := 27) (JC.xw _ hC) dX2_row_78 (by decide) ?_
      have e1 : (N ++ (q, .inr (8, [.ref b, .int 1, .null])) :: Na) ++ (x.1, .inr (8, [.ref x.2.1, .int 1, .ref q])) :: (Nb ++ gP (XG X)) = N ++ (q, .inr (8, [.ref b, .int 1, .null])) :: ((Na ++ (x.1, .inr (8, [.ref x.2.1, .int 1, .ref q])) :: Nb) ++ gP (XG X)) := by simp [List.append_assoc]
      have e2 : (L ++ [x]).map (·.2.2) ++ [f] = ((L ++ [x]) ++ [(q, b, f)]).map (·.2.2) := by simp
      have go := ih (k + 1 + c1) (n + 3 + 8 * c1) (m - 1 - c1) a (L ++ [x]) (q, b, f) N (Na ++ (x.1, .inr (8, [.ref x.2.1, .int 1, .ref q])) :: Nb) M1 (by omega) (by omega) (hL.step hS (fun z hz => ?_) (fun z hz => by simp [hz]) (by simp)) (fun z hz => ?_) hqa (fun z hz => ?_)
      · rw [e2]
        show J (xwP ((N ++ (q, .inr (8, [.ref b, .int 1, .null])) :: Na) ++ (x.1, .inr (8, [.ref x.2.1, .int 1, .ref q])) :: (Nb ++ gP (XG X))) X) _ _ _ _ _ _ _ _
        rw [e1]
        exact go
      · rcases List.mem_append.mp hz with h9 | h9 <;> simp [h9]
      · rcases List.mem_append.mp hz with h9 | h9
        · exact hNq z h9
        · rcases List.mem_append.mp h9 with h9 | h9
          · rcases List.mem_append.mp h9 with h9 | h9
            · exact hqb z (by simp [h9])
            · rcases List.mem_cons.mp h9 with rfl | h9
              · exact hxq
              · exact hqb z (by simp [h9])
          · exact hqb z (by simp [h9])
      · rcases List.mem_append.mp hz with h9 | h9
        · exact (hN z h9).1
        · rcases List.mem_append.mp h9 with h9 | h9
          · exact hz0 z (List.mem_append.mpr (Or.inl h9))
          · rcases List.mem_cons.mp h9 with rfl | h9
            · exact hx0
            · exact hz0 z (List.mem_append.mpr (Or.inr h9))
theorem wX2_row_1 {X : JX} {c : Nat} (g : Nat) (hC : JC X cX2_row RX2 OC (g + 10) (256 + 24 * g) c (8 * c)) (hT : JT X) (hG : dmI dmX (XG X)) (h80 : gdm (XG X) (8, 0, 0) = false) (h81 : gdm (XG X) (8, 0, 1) = false) (hnl : nLof X = 4) (fu : Nat) (hR : RAok (XL X) fu g) (M : Mem) : J X (ZM X (SemC (XG X) (g + 1)) c (8 * c)) (lm c (FX2_row fu (XD X) true 25 (FX2_ra fu (XD X) g 2) M)) 0 [(0, .ref (gadr (XG X) (4, 0, 8))), (1, .int 1)] [] M 0 0 := by
  unfold FX2_row
  refine jm_tick (fun h1 => ?_)
  refine j_new hC (ci := 8) (fs := [.null, .int 0, .null]) rfl in_X9 tyX9 tyX9_ok (fun j hj => by match j, hj with | 0, _ => rfl | 1, _ => rfl | 2, _ => rfl) q929 q930 q144 (by omega) (by omega) dX2_row_0 (fun q hqa hqb => ?_)
  refine j_dup (JC.xw _ hC) dX2_row_3 rfl ?_
  refine wX2_row_4_1 (P := (q, .inr (8, [.null, .int 0, .null])) :: gP (XG X)) (rest := [.ref q, .ref q]) g hC hT hG h80 h81 hnl fu hR (fun z hz => List.mem_cons_of_mem _ hz) (by omega) (by omega) rfl (fun b f N c1 M1 hS hN hc1 => ?_)
  refine j_iload_n (JC.xw _ hC) 1 dX2_row_20 rfl ?_
  have hNq : ∀ z ∈ N, z.1 ≠ q := fun z hz => (hN z hz).2 (q, .inr (8, [.null, .int 0, .null])) List.mem_cons_self
  refine j_init (JC.xw _ hC) (P1 := N) (P2 := gP (XG X)) (a := q) (ci := 8) (fs0 := [.null, .int 0, .null]) (nA := 2) rfl (fun z hz => ?_) hqa [.ref b, .int 1] rfl (fun sz => iX9 (XL X) _ q b 1 (by decide) sz) q1000 q1001 q144 q1002 rfl (by decide +kernel) (bk (by omega)) (bk (by omega)) rfl rfl (by omega) (by omega) dX2_row_21 ?_
  · rcases List.mem_append.mp hz with h9 | h9
    · exact hNq z h9
    · exact hqb z h9
  refine j_astore_n (JC.xw _ hC) [(2, .ref q), (0, .ref (gadr (XG X) (4, 0, 8))), (1, .int 1)] hnl dX2_row_24 rfl rfl ?_
  refine j_aload_n (JC.xw _ hC) 0 dX2_row_25 rfl ?_
  refine j_astore_n (JC.xw _ hC) [(3, .ref q), (2, .ref q), (0, .ref (gadr (XG X) (4, 0, 8))), (1, .int 1)] hnl dX2_row_26 rfl rfl ?_
  refine j_sub [0, 1, 3, 2] rfl ?_
  refine wX2_row_27_1 g hC hT hG h80 h81 hnl fu hR fu (0 + 1 + c1) (0 + 3 + 8 * c1) (c - 1 - c1) q [] (q, b, f) N [] M1 (by omega) (by omega) (SemL.one (by simpa using hS)) (fun z hz => ?_) hqa (fun z hz => ?_)
  · rcases List.mem_append.mp hz with h9 | h9
    · exact hNq z h9
    · exact hqb z (by simpa using h9)
  · exact (hN z (by simpa using hz)).1
theorem wX2_atom_120 {X : JX} {c : Nat} (g : Nat) (hC : JC X cX2_atom RX2 OC (g + 10) (256 + 24 * g) c (8 * c)) (hT : JT X) (hG : dmI dmX (XG X)) (h80 : gdm (XG X) (8, 0, 0) = false) (h81 : gdm (XG X) (8, 0, 1) = false) (hnl : nLof X = 5) (fu : Nat) {k n m q : Nat} (hk : k + m ≤ c) (hn : n + 8 * m ≤ 8 * c) (f : Den) (N : va_W) (hN : ∀ z ∈ N, (XS X).heap.size ≤ z.1) (hS : SemC (XG X) (g + 1) q f N) {lv : List (Nat × Value)} {x1 x2 x3 : Int32} (hlv : lv = [(4, .ref q), (3, .int x3), (2, .int x2), (1, .int x1), (0, .ref (gadr (XG X) (4, 0, 8)))]) (M : Mem) : J (xwP (N ++ gP (XG X)) X) (ZM X (SemC (XG X) (g + 1)) c (8 * c)) (lm m (FX2_atom_120 f M)) 120 lv [] M k n := by
  subst hlv
  unfold FX2_atom_120
  refine j_aload_n (JC.xw _ hC) 4 dX2_atom_120 rfl ?_
  refine j_dup (JC.xw _ hC) dX2_atom_121 rfl ?_
  refine j_getI (fk := 9) (JC.xw _ hC) (dmY hG rfl) rfl rfl in_X2 rfl rfl q434 rfl dX2_atom_122 ?_
  refine j_iconst (v := 1) (JC.xw _ hC) dX2_atom_125 (by decide) ?_
  refine j_isub (JC.xw _ hC) dX2_atom_126 ?_
  refine j_put (fk := 9) (ty := .int) (JC.xw _ hC) (dmY hG rfl) rfl rfl in_X2 rfl rfl q434 tyX2 tyX2_ok nmX2 rfl rfl (by decide +kernel) rfl rfl dX2_atom_127 ?_
  refine j_lm lm_lt ?_
  refine j_lt (fun M127 => ?_)
  refine j_lm lm_some ?_
  refine j_aload (JC.xw _ hC) 0 dX2_atom_130 rfl ?_
  exact jm_aret (X := X) (N := N) hC rfl hS hN (by omega) (by omega) dX2_atom_132
theorem wX2_atom_110 {X : JX} {c : Nat} (g : Nat) (hC : JC X cX2_atom RX2 OC (g + 10) (256 + 24 * g) c (8 * c)) (hT : JT X) (hG : dmI dmX (XG X)) (h80 : gdm (XG X) (8, 0, 0) = false) (h81 : gdm (XG X) (8, 0, 1) = false) (hnl : nLof X = 5) (fu : Nat) {k n m q : Nat} (hk : k + m ≤ c) (hn : n + 8 * m ≤ 8 * c) (f : Den) (N : va_W) (hN : ∀ z ∈ N, (XS X).heap.size ≤ z.1) (hS : SemC (XG X) (g + 1) q f N) {lv : List (Nat × Value)} {x1 x2 x3 : Int32} (hlv : lv = [(4, .ref q), (3, .int x3), (2, .int x2), (1, .int x1), (0, .ref (gadr (XG X) (4, 0, 8)))]) (M : Mem) : J (xwP (N ++ gP (XG X)) X) (ZM X (SemC (XG X) (g + 1)) c (8 * c)) (lm m (FX2_atom_110 f M)) 110 lv [] M k n := by
  subst hlv
  unfold FX2_atom_110
  refine j_aload_n (JC.xw _ hC) 4 dX2_atom_110 rfl ?_
  refine j_dup (JC.xw _ hC) dX2_atom_111 rfl ?_
  refine j_getI (fk := 8) (JC.xw _ hC) (dmY hG rfl) rfl rfl in_X2 rfl rfl q433 rfl dX2_atom_112 ?_
  refine j_iconst (v := 1) (JC.xw _ hC) dX2_atom_115 (by decide) ?_
  refine j_iadd (JC.xw _ hC) dX2_atom_116 ?_
  refine j_put (fk := 8) (ty := .int) (JC.xw _ hC) (dmY hG rfl) rfl rfl in_X2 rfl rfl q433 tyX2 tyX2_ok nmX2 rfl rfl (by decide +kernel) rfl rfl dX2_atom_117 ?_
  refine j_lm lm_lt ?_
  refine j_lt (fun M117 => ?_)
  exact wX2_atom_120 g hC hT hG h80 h81 hnl fu hk hn f N hN hS rfl M117
theorem wX2_atom_46 {X : JX} {c : Nat} (g : Nat) (hC : JC X cX2_atom RX2 OC (g + 10) (256 + 24 * g) c (8 * c)) (hT : JT X) (hG : dmI dmX (XG X)) (h80 : gdm (XG X) (8, 0, 0) = false) (h81 : gdm (XG X) (8, 0, 1) = false) (hnl : nLof X = 5) (fu : Nat) (hR : RAok (XL X) fu g) (x1 x2 x3 : Int32) (M : Mem) : J X (ZM X (SemC (XG X) (g + 1)) c (8 * c)) (lm c (FX2_atom_46 fu (XD X) (FX2_ra fu (XD X) g 0) (FX2_ra fu (XD X) g 2) x3 M)) 46 [(3, .int x3), (2, .int x2), (1, .int x1), (0, .ref (gadr (XG X) (4, 0, 8)))] [] M 0 0 := by
  unfold FX2_atom_46
  refine j_aload_n hC 3 dX2_atom_46 rfl ?_
  refine j_dup hC dX2_atom_47 rfl ?_
  refine j_getI (fk := 9) hC (dmY hG rfl) rfl rfl in_X2 rfl rfl q434 rfl dX2_atom_48 ?_
  refine j_iconst (v := 1) hC dX2_atom_51 (by decide) ?_
  refine j_iadd hC dX2_atom_52 ?_
  refine j_put (fk := 9) (ty := .int) hC (dmY hG rfl) rfl rfl in_X2 rfl rfl q434 tyX2 tyX2_ok nmX2 rfl rfl (by decide +kernel) rfl rfl dX2_atom_53 ?_
  refine j_lm lm_lt ?_
  refine j_lt (fun M53 => ?_)
  refine j_lm lm_ite ?_
  refine j_iload_n hC 0 dX2_atom_56 rfl ?_
  refine j_if_eq (tgt := 76) hC dX2_atom_57 (by decide) (fun h57 => ?_) (fun h57 => ?_)
  · refine j_aload_n hC 3 dX2_atom_76 rfl ?_
    refine j_dup hC dX2_atom_77 rfl ?_
    refine j_getI (fk := 8) hC (dmY hG rfl) rfl rfl in_X2 rfl rfl q433 rfl dX2_atom_78 ?_
    refine j_iconst (v := 1) hC dX2_atom_81 (by decide) ?_
    refine j_iadd hC dX2_atom_82 ?_
    refine j_put (fk := 8) (ty := .int) hC (dmY hG rfl) rfl rfl in_X2 rfl rfl q433 tyX2 tyX2_ok nmX2 rfl rfl (by decide +kernel) rfl rfl dX2_atom_83 ?_
    refine j_lm lm_lt ?_
    refine j_lt (fun M83 => ?_)
    refine j_aload_n hC 3 dX2_atom_86 rfl ?_
    refine j_iconst (v := 0) hC dX2_atom_87 (by decide) ?_
    show J (xwP (gP (XG X)) X) _ _ _ _ _ _ _ _
    refine jm_call (X := X) (P := gP (XG X)) (rest := []) hC hT [.int 0] rfl (fun z hz => hz) (fun r hr => (hR (XG X) hG h80 h81 (XD X) M83 r).1 hr) q925 q927 qs24 q127 q928 (dmY hG rfl) rfl rfl (by decide +kernel) (by omega) (by omega) rfl rfl (by omega) (by omega) (Nat.le_refl _) (Nat.le_refl _) dX2_atom_88 (fun q f N c1 M88 hS hN hc1 => ?_)
    refine j_astore (JC.xw _ hC) [(4, .ref q), (3, .int x3), (2, .int x2), (1, .int x1), (0, .ref (gadr (XG X) (4, 0, 8)))] hnl dX2_atom_91 rfl rfl ?_
    refine j_aload_n (JC.xw _ hC) 4 dX2_atom_93 rfl ?_
    refine j_lm lm_bd ?_
    refine j_callV (nA := 0) (rest := []) (JC.xw _ hC) [] rfl (fun r hr => mX2_sign (XL X) (XG (xwP (N ++ gP (XG X)) X)) hG fu (XD X)  M88 r hr) q759 q761 qs11 q127 q762 (dmY hG rfl) rfl rfl (by decide +kernel) (bk (by omega)) (bk (by omega)) rfl rfl (bk (by omega)) (bk (by omega)) dX2_atom_94 (fun v94 => [.int v94]) (fun _ => rfl) (fun v94 M94 => ?_)
    refine j_lm lm_ite ?_
    refine j_bipush (v := 41) (JC.xw _ hC) dX2_atom_97 (by decide) ?_
    refine j_icmp_eq (tgt := 110) (JC.xw _ hC) dX2_atom_99 (by decide) (fun h99 => ?_) (fun h99 => ?_)
    · exact wX2_atom_110 g hC hT hG h80 h81 hnl fu (by omega) (by omega) f N (fun z hz => (hN z hz).1) hS.more rfl M94
    · refine j_aload_n (JC.xw _ hC) 4 dX2_atom_102 rfl ?_
      refine j_aload_n (JC.xw _ hC) 4 dX2_atom_103 rfl ?_
      refine j_getI (fk := 8) (JC.xw _ hC) (dmY hG rfl) rfl rfl in_X2 rfl rfl q433 rfl dX2_atom_104 ?_
      refine j_lm lm_bX ?_
      refine j_callVH (nA := 1) (rest := []) (JC.xw _ hC) [.int (M94 (4, 0, 8) 8)] rfl (fun r hr => mX2_fail (XL X) (JT.st hT) (XG (xwP (N ++ gP (XG X)) X)) hG fu (XD X)  M94 (M94 (4, 0, 8) 8) r hr) q763 q765 qs12 q127 q766 (dmY hG rfl) rfl rfl (by decide +kernel) (bk (by omega)) (bk (by omega)) rfl rfl (bk (by omega)) (bk (by omega)) dX2_atom_107 (fun v107 => []) (fun _ => rfl) (fun v107 M107 => ?_) (fun e M107 => jhm_out (X := X) hC hT (fun z hz => List.mem_append.mpr (Or.inr hz)) (by omega) (by omega) (by omega))
      exact wX2_atom_110 g hC hT hG h80 h81 hnl fu (by omega) (by omega) f N (fun z hz => (hN z hz).1) hS.more rfl M107
  · refine jm_tick (fun h1 => ?_)
    refine j_new hC (ci := 12) (fs := [.null]) rfl in_X13 tyX13 tyX13_ok (fun j hj => by match j, hj with | 0, _ => rfl) q990 q991 q148 (by omega) (by omega) dX2_atom_60 (fun q hqa hqb => ?_)
    refine j_dup (JC.xw _ hC) dX2_atom_63 rfl ?_
    refine j_aload_n (JC.xw _ hC) 3 dX2_atom_64 rfl ?_
    refine jm_call (X := X) (P := (q, .inr (12, [.null])) :: gP (XG X)) (rest := [.ref q, .ref q]) hC hT [] rfl (fun z hz => List.mem_cons_of_mem _ hz) (fun r hr => (hR (gwP ((q, .inr (12, [.null])) :: gP (XG X)) (XG X)) hG h80 h81 (XD X) M53 r).2.2 hr) q931 q933 qs25 q127 q934 (dmY hG rfl) rfl rfl (by decide +kernel) (by omega) (by omega) rfl rfl (by omega) (by omega) (Nat.le_refl _) (Nat.le_refl _) dX2_atom_65 (fun b f N c1 M65 hS hN hc1 => ?_)
    have hNq : ∀ z ∈ N, z.1 ≠ q := fun z hz => (hN z hz).2 (q, .inr (12, [.null])) List.mem_cons_self
    refine j_init (JC.xw _ hC) (P1 := N) (P2 := gP (XG X)) (a := q) (ci := 12) (fs0 := [.null]) (nA := 1) rfl (fun z hz => ?_) hqa [.ref b] rfl (fun sz => iX13 (XL X) _ q b sz) q992 q993 q148 q994 rfl (by decide +kernel) (bk (by omega)) (bk (by omega)) rfl rfl (by omega) (by omega) dX2_atom_68 ?_
    · rcases List.mem_append.mp hz with h9 | h9
      · exact hNq z h9
      · exact hqb z h9
    refine j_astore (JC.xw _ hC) [(4, .ref q), (3, .int x3), (2, .int x2), (1, .int x1), (0, .ref (gadr (XG X) (4, 0, 8)))] hnl dX2_atom_71 rfl rfl ?_
    refine j_goto (tgt := 120) (JC.xw _ hC) dX2_atom_73 (by decide) ?_
    have e1 : N ++ (q, .inr (12, [.ref b])) :: gP (XG X) = (N ++ [(q, .inr (12, [.ref b]))]) ++ gP (XG X) := by simp
    show J (xwP (N ++ (q, .inr (12, [.ref b])) :: gP (XG X)) X) _ _ _ _ _ _ _ _
    rw [e1]
    refine wX2_atom_120 g hC hT hG h80 h81 hnl fu (by omega) (by omega) (fun F => !(f F)) _ (fun z hz => ?_) (fun Γ' H h1 h2 h3 => SemC.not (N' := N) hS (fun z hz => hz) Γ' H h1 h2 (fun z hz => h3 z (by rcases List.mem_cons.mp hz with h9 | h9 <;> simp [h9]))) rfl M65
    rcases List.mem_append.mp hz with h9 | h9
    · exact (hN z h9).1
    · rw [List.mem_singleton.mp h9]; exact hqa
theorem wX2_atom_32 {X : JX} {c : Nat} (g : Nat) (hC : JC X cX2_atom RX2 OC (g + 10) (256 + 24 * g) c (8 * c)) (hT : JT X) (hG : dmI dmX (XG X)) (h80 : gdm (XG X) (8, 0, 0) = false) (h81 : gdm (XG X) (8, 0, 1) = false) (hnl : nLof X = 5) (fu : Nat) (hR : RAok (XL X) fu g) (x1 x2 x3 : Int32) (M : Mem) : J X (ZM X (SemC (XG X) (g + 1)) c (8 * c)) (lm c (FX2_atom_32 fu (XD X) (FX2_ra fu (XD X) g 0) (FX2_ra fu (XD X) g 2) x2 x3 M)) 32 [(3, .int x3), (2, .int x2), (1, .int x1), (0, .ref (gadr (XG X) (4, 0, 8)))] [] M 0 0 := by
  unfold FX2_atom_32
  refine j_lm lm_ite ?_
  refine j_aload_n hC 3 dX2_atom_32 rfl ?_
  refine j_getI (fk := 9) hC (dmY hG rfl) rfl rfl in_X2 rfl rfl q434 rfl dX2_atom_33 ?_
  refine j_bipush (v := 6) hC dX2_atom_36 (by decide) ?_
  refine j_icmp_ne (tgt := 46) hC dX2_atom_38 (by decide) (fun h38 => ?_) (fun h38 => ?_)
  · refine j_aload_n hC 3 dX2_atom_41 rfl ?_
    refine j_iload_n hC 1 dX2_atom_42 rfl ?_
    refine j_lm lm_bX ?_
    refine j_callVH (nA := 1) (rest := []) hC [.int x2] rfl (fun r hr => mX2_fail (XL X) (JT.st hT) (XG X) hG fu (XD X)  M x2 r hr) q763 q765 qs12 q127 q766 (dmY hG rfl) rfl rfl (by decide +kernel) (bk (by omega)) (bk (by omega)) rfl rfl (bk (by omega)) (bk (by omega)) dX2_atom_43 (fun v43 => []) (fun _ => rfl) (fun v43 M43 => ?_) (fun e M43 => jhm_out (X := X) (P := gP (XG X)) hC hT (fun z hz => hz) (by omega) (by omega) (by omega))
    exact wX2_atom_46 g hC hT hG h80 h81 hnl fu hR x1 x2 x3 M43
  · exact wX2_atom_46 g hC hT hG h80 h81 hnl fu hR x1 x2 x3 M
theorem wX2_atom {X : JX} {c : Nat} (g : Nat) (hC : JC X cX2_atom RX2 OC (g + 10) (256 + 24 * g) c (8 * c)) (hT : JT X) (hG : dmI dmX (XG X)) (h80 : gdm (XG X) (8, 0, 0) = false) (h81 : gdm (XG X) (8, 0, 1) = false) (hnl : nLof X = 5) (fu : Nat) (hR : RAok (XL X) fu g) (M : Mem) : J X (ZM X (SemC (XG X) (g + 1)) c (8 * c)) (lm c (FX2_atom fu (XD X) (FX2_ra fu (XD X) g 0) (FX2_ra fu (XD X) g 2) M)) 0 [(0, .ref (gadr (XG X) (4, 0, 8)))] [] M 0 0 := by
  unfold FX2_atom
  refine j_aload_n hC 0 dX2_atom_0 rfl ?_
  refine j_lm lm_bd ?_
  refine j_callV (nA := 0) (rest := []) hC [] rfl (fun r hr => mX2_sign (XL X) (XG X) hG fu (XD X)  M r hr) q759 q761 qs11 q127 q762 (dmY hG rfl) rfl rfl (by decide +kernel) (bk (by omega)) (bk (by omega)) rfl rfl (bk (by omega)) (bk (by omega)) dX2_atom_1 (fun v1 => [.int v1]) (fun _ => rfl) (fun v1 M1 => ?_)
  refine j_istore_n hC [(1, .int v1), (0, .ref (gadr (XG X) (4, 0, 8)))] hnl dX2_atom_4 rfl rfl ?_
  refine j_aload_n hC 1 dX2_atom_5 rfl ?_
  refine j_getI (fk := 8) hC (dmY hG rfl) rfl rfl in_X2 rfl rfl q433 rfl dX2_atom_6 ?_
  refine j_lm lm_lt ?_
  refine j_ltT (fun y9 => ?_)
  refine j_istore_n hC [(2, .int y9), (1, .int v1), (0, .ref (gadr (XG X) (4, 0, 8)))] hnl dX2_atom_9 rfl rfl ?_
  refine j_aload_n hC 2 dX2_atom_10 rfl ?_
  refine j_ldcS (i := 24) (tx := "not") hC (by simp [strR, RX2]) dX2_atom_11 ?_
  refine j_lm lm_bd ?_
  refine j_callV (nA := 1) (rest := []) hC [.ref (gadr (XG X) (6, 0, 24))] rfl (fun r hr => mX2_takes (XL X) (XG X) hG fu (XD X) 24 (by decide) M1 r hr) q771 q773 qs14 q127 q774 (dmY hG rfl) rfl rfl (by decide +kernel) (bk (by omega)) (bk (by omega)) rfl rfl (bk (by omega)) (bk (by omega)) dX2_atom_13 (fun v13 => [.int v13]) (fun _ => rfl) (fun v13 M13 => ?_)
  refine j_istore_n hC [(3, .int v13), (2, .int y9), (1, .int v1), (0, .ref (gadr (XG X) (4, 0, 8)))] hnl dX2_atom_16 rfl rfl ?_
  refine j_lm lm_ite ?_
  refine j_iload_n hC 0 dX2_atom_17 rfl ?_
  refine j_if_ne (tgt := 32) hC dX2_atom_18 (by decide) (fun h18 => ?_) (fun h18 => ?_)
  · refine j_lm lm_ite ?_
    refine j_iload_n hC 2 dX2_atom_21 rfl ?_
    refine j_bipush (v := 40) hC dX2_atom_22 (by decide) ?_
    refine j_icmp_eq (tgt := 32) hC dX2_atom_24 (by decide) (fun h24 => ?_) (fun h24 => ?_)
    · exact wX2_atom_32 g hC hT hG h80 h81 hnl fu hR v1 y9 v13 M13
    · refine j_aload_n hC 3 dX2_atom_27 rfl ?_
      show J (xwP (gP (XG X)) X) _ _ _ _ _ _ _ _
      refine jm_call (X := X) (P := gP (XG X)) (rest := []) hC hT [] rfl (fun z hz => hz) (fun r hr => mX2_tag (XL X) (JT.st hT) (XG X) hG h80 h81 fu g (XD X) M13 r hr) q936 q938 qs26 q127 q939 (dmY hG rfl) rfl rfl (by decide +kernel) (by omega) (by omega) rfl rfl (by omega) (by omega) (Nat.le_refl _) (Nat.le_refl _) dX2_atom_28 (fun q f N c1 M28 hS hN hc1 => ?_)
      refine j_lm lm_some ?_
      exact jm_aret (X := X) (N := N) hC rfl hS (fun z hz => (hN z hz).1) (by omega) (by omega) dX2_atom_31
  · exact wX2_atom_32 g hC hT hG h80 h81 hnl fu hR v1 y9 v13 M13
theorem RA_all (l : Launch) (hst : l.stackTraces = false) (fu : Nat) : ∀ g : Nat, RAok l fu g := by
  intro g
  induction g with
  | zero => intro Γ hG h80 h81 D M r; exact ⟨fun h => (by cases h), fun h => (by cases h), fun h => (by cases h)⟩
  | succ g ih =>
    intro Γ hG h80 h81 D M r
    refine ⟨fun hr => ?_, fun hr => ?_, fun hr => ?_⟩
    · refine CM.of hst (own := RX2) (lv0 := lv_args 0 [.ref (gadr Γ (4, 0, 8)), .int 0]) (by decide +kernel) rfl (Nat.le_of_ble_eq_true rfl) rfl r hr (fun X e1 e2 e3 e4 hC hT => ?_)
      subst e1
      subst e2
      subst e3
      rw [show g + 1 + 9 = g + 10 by omega, show 232 + 24 * (g + 1) = 256 + 24 * g by omega] at hC
      exact wX2_row_0 g hC hT hG h80 h81 e4 fu ih M
    · refine CM.of hst (own := RX2) (lv0 := lv_args 0 [.ref (gadr Γ (4, 0, 8)), .int 1]) (by decide +kernel) rfl (Nat.le_of_ble_eq_true rfl) rfl r hr (fun X e1 e2 e3 e4 hC hT => ?_)
      subst e1
      subst e2
      subst e3
      rw [show g + 1 + 9 = g + 10 by omega, show 232 + 24 * (g + 1) = 256 + 24 * g by omega] at hC
      exact wX2_row_1 g hC hT hG h80 h81 e4 fu ih M
    · refine CM.of hst (own := RX2) (lv0 := lv_args 0 [.ref (gadr Γ (4, 0, 8))]) (by decide +kernel) rfl (Nat.le_of_ble_eq_true rfl) rfl r hr (fun X e1 e2 e3 e4 hC hT => ?_)
      subst e1
      subst e2
      subst e3
      rw [show g + 1 + 9 = g + 10 by omega, show 232 + 24 * (g + 1) = 256 + 24 * g by omega] at hC
      exact wX2_atom g hC hT hG h80 h81 e4 fu ih M
