set_option maxRecDepth 100000
/-! Reader.law: lines of the law are made, and stored -/
/-- a line's number is that of one that stands -/
def okV (D : List LDen) (v : Int32) : Prop := v = 0 ∨ (0 < v.toNatClampNeg ∧ v.toNatClampNeg ≤ D.length)
def okD (D : List LDen) (M : Mem) : Prop := (∀ s k, okV D (M (0, s, 3) k)) ∧ (∀ w k, okV D (M (4, w, 12) k)) ∧ D.length < 1000000
noncomputable def ifP {α : Type} (p : Prop) (x : Option α) : Option α := @ite _ p (Classical.propDecidable p) x none
theorem ifP_some {α : Type} {p : Prop} {x : Option α} {r : α} (h : ifP p x = some r) : p ∧ x = some r := by
  unfold ifP at h
  by_cases hp : p
  · rw [if_pos hp] at h; exact ⟨hp, h⟩
  · rw [if_neg hp] at h; cases h
theorem lm_ifP {α : Type} {m : Nat} {p : Prop} {x : Option (PR α)} : lm m (ifP p x) = ifP p (lm m x) := by
  unfold ifP
  by_cases hp : p
  · rw [if_pos hp, if_pos hp]
  · rw [if_neg hp, if_neg hp]; rfl
theorem ly_1 {c : CId} {k : Nat} (h : ly c k = .inl 1) : (∃ s, c = (0, s, 3)) ∨ ∃ w, c = (4, w, 12) := by
  unfold ly at h
  split at h <;> first | exact Or.inl ⟨_, rfl⟩ | exact Or.inr ⟨_, rfl⟩ | (cases h; done) | (split at h <;> first | (cases h; done) | (split at h <;> cases h))
theorem lref_ext {D : List LDen} {aL : Nat → Nat} {q : Nat} {v : Int32} (h : okV D v) : lref (fun i => if i = D.length then q else aL i) v = lref aL v := by
  unfold lref
  rcases h with h | ⟨h1, h2⟩
  · rw [if_pos h, if_pos h]
  · have h3 : v ≠ 0 := fun z => by rw [z] at h1; exact absurd h1 (by decide)
    rw [if_neg h3, if_neg h3]
    show some (if v.toNatClampNeg - 1 = D.length then q else aL (v.toNatClampNeg - 1)) = _
    rw [if_neg (by omega)]
theorem okD_at {D : List LDen} {M : Mem} (h : okD D M) {c : CId} {k : Nat} (hl : ly c k = .inl 1) : okV D (M c k) := by
  rcases ly_1 hl with ⟨s, rfl⟩ | ⟨w, rfl⟩
  · exact h.1 s k
  · exact h.2.1 w k
theorem cellE_ext {Γ : xG} {D : List LDen} {M : Mem} {aL : Nat → Nat} {q : Nat} (h : okD D M) (c : CId) : cellE Γ (fun i => if i = D.length then q else aL i) (M c) c = cellE Γ aL (M c) c := by
  have h1 : vl Γ (fun i => if i = D.length then q else aL i) (M c) c = vl Γ aL (M c) c := funext fun k => by
    unfold vl
    generalize hy : ly c k = y
    rcases y with (_ | _ | _) | _
    · rfl
    · show va_rf _ = va_rf _
      rw [lref_ext (okD_at h hy)]
    · rfl
    · rfl
  have h2 : vq Γ (fun i => if i = D.length then q else aL i) (M c) c = vq Γ aL (M c) c := funext fun k => by
    unfold vq
    generalize hy : ly c k = y
    rcases y with (_ | _ | _) | _
    · rfl
    · exact lref_ext (okD_at h hy)
    · rfl
    · rfl
  unfold cellE
  rw [h1, h2]
/-- the surroundings with nothing beside, and these lines -/
abbrev xL (D : List LDen) (X : JX) : JX := (X.1, X.2.1, X.2.2.1, X.2.2.2.1, X.2.2.2.2.1, X.2.2.2.2.2.1, X.2.2.2.2.2.2.1, X.2.2.2.2.2.2.2.1, X.2.2.2.2.2.2.2.2.1, X.2.2.2.2.2.2.2.2.2.1, gwP [] (XG X), D, nLof X)
theorem JC.xL {X : JX} {cc : ByteArray} {own : String} {ret : Option FieldType} {fr lc mc ms : Nat} (D : List LDen) (h : JC X cc own ret fr lc mc ms) : JC (xL D X) cc own ret fr lc mc ms := by
  obtain ⟨p, l, e, R, s, m, args, below, meth, co, Γ, D0, nL⟩ := X
  exact h
theorem JT.xL {X : JX} (D : List LDen) (h : JT X) : JT (xL D X) := by
  obtain ⟨p, l, e, R, s, m, args, below, meth, co, Γ, D0, nL⟩ := X
  exact h
abbrev lnum (n : Nat) : Int32 := Int32.ofNat (n + 1)
theorem lnum_nat {n : Nat} (h : n < 1000000) : (lnum n).toNatClampNeg = n + 1 := by
  show (Int32.ofNat (n + 1)).toInt.toNat = n + 1
  rw [Int32.toInt_ofNat_of_lt (by omega)]
  omega
theorem lnum_ne {n : Nat} (h : n < 1000000) : lnum n ≠ 0 := fun z => by
  have h1 := lnum_nat h
  rw [z] at h1
  exact absurd h1 (by simp)
abbrev lnE (d : LDen) (b : Option Nat) : va_E := .inr (if d.1 = 0 then 13 else 14, [.int d.2.2.1, va_rf b, .int d.2.1])
section
variable {X : JX} {pc : Nat} {lv : List (Nat × Value)} {rest : List Value} {M : Mem} {k n : Nat} {cc : ByteArray} {own : String} {ret : Option FieldType} {fr lc mc ms : Nat}
set_option maxHeartbeats 400000 in
/-- a new line is stored: it is one of the law's from here on -/
theorem j_lineSt {ρ : Type} {Z : ρ → State → Prop} {pr : Option ρ} (hC : JC X cc own ret fr lc mc ms) (hG : dmI dmX (XG X)) {P : va_W} {q : Nat} {i : Int32} {d : LDen} {b : Option Nat} (hd1 : d.1 = 0 ∨ d.1 = 1) (hq : (q, lnE d b) ∈ P) (hb : (b = none ∧ d.2.2.2 = fun _ => true) ∨ ∃ (a : Nat) (N : va_W), b = some a ∧ SemC (XG X) 30 a d.2.2.2 N ∧ ∀ z ∈ N, z ∈ P) (hd : decode cc pc = .ok (.aastore, 1))
    (kk : J (xL (XD X ++ [d]) X) Z pr (pc + 1) lv rest (up M (4, 0, 12) i.toNatClampNeg (lnum (XD X).length)) k n) : J (xwP P X) Z (ifP (okD (XD X) M) (gd i 12 pr)) pc lv (.ref q :: .int i :: .ref (gadr (XG X) (4, 0, 12)) :: rest) M k n := by
  obtain ⟨p, l, e, R, s, m, args, below, meth, co, Γ, D, nL⟩ := X
  intro r hr H locs ls hW hS hl
  obtain ⟨hok, hr⟩ := ifP_some hr
  by_cases hin : i < 0 ∨ 12 ≤ i.toNatClampNeg
  · rw [gd, if_pos hin] at hr; cases hr
  rw [gd, if_neg hin] at hr
  obtain ⟨aL, h1, h2, h3⟩ := Wd_gw.mp hW
  have hdm : gdm Γ (4, 0, 12) = true := dmY hG rfl
  have ha := h1 (4, 0, 12) hdm
  have ha0 : H[gadr Γ (4, 0, 12)]? = some (vp_cell (gA Γ 5) (12, .inr (.inr (.inr (.inr (vq Γ aL (M (4, 0, 12)) (4, 0, 12))))))) := ha
  have hv := h3 _ hq
  have hK := hC.2.2.2.2.2.1.1
  have hqn : q ≠ gadr Γ (4, 0, 12) := fun z => hv.1 _ hdm z.symm
  obtain ⟨r9, hr9, cellV, g1, g2, g3, -⟩ := id hv.2
  obtain ⟨r8, hr8, hcs⟩ : ∃ r8 : vw_C, xcl[if d.1 = 0 then 13 else 14]? = some r8 ∧ (r8.1, RX14) ∈ xcast := by
    rcases hd1 with h | h
    · rw [if_pos h]; exact ⟨_, rfl, by simp [xcast]⟩
    · rw [if_neg (by rw [h]; decide)]; exact ⟨_, rfl, by simp [xcast]⟩
  have hcls := (hK.1 _ r8 hr8).2
  obtain ⟨kA, comp, k1, k2, k3, -⟩ := (hK.2 5 _ rfl).2
  obtain ⟨kE, hkE, -⟩ := Vm.findClass_spec k3
  obtain ⟨c0, t1, f1, f2, f3⟩ := hC.2.2.2.2.2.1.2.1.1.1 _ hcs
  cases hcls.1.symm.trans f1
  cases k3.symm.trans f2
  obtain ⟨kC, hkC, -⟩ := hcls.2
  have hlt : i.toNatClampNeg < 12 := Nat.not_le.mp fun q => hin (Or.inr q)
  have h0 : ¬ i < 0 := fun q => hin (Or.inl q)
  refine W.aast hC.1 hC.2.1 ha0 (fun q h => by cases h) (fun h => by cases h) k1 k2 rfl hkE ⟨h0, by show _ < (arrV _ _ _).slots.size; rw [arrV_size]; exact hlt⟩ g1 (fun q h => by rw [g3] at h; cases h) (by rw [g2]; exact hkC) (by rw [g2]; exact f3) rfl rfl hd fun H1 e1 z1 oq => ?_
  have hcA : AX Γ s.heap.size (gadr Γ (4, 0, 12)) := Or.inl ⟨_, hdm, rfl⟩
  refine kk r hr H1 _ ls ?_ (hS.put z1 oq hcA) hl
  have key : ∀ c, gdm Γ c = true → c ≠ (4, 0, 12) → gadr Γ c ≠ gadr Γ (4, 0, 12) := fun c hc hn h => hn (hC.2.2.2.2.2.2.1 c _ hc hdm h)
  refine Wd_gw.mpr ⟨fun j => if j = D.length then q else aL j, fun c hc => ?_, fun j d' hj => ?_, fun z hz => by cases hz⟩
  · by_cases hcc : c = (4, 0, 12)
    · subst hcc
      have e9 : cellE Γ (fun j => if j = D.length then q else aL j) (up M (4, 0, 12) i.toNatClampNeg (lnum D.length) (4, 0, 12)) (4, 0, 12) = .inl (gA Γ 5, 12, .inr (.inr (.inr (.inr (va_up (vq Γ aL (M (4, 0, 12)) (4, 0, 12)) i.toNatClampNeg (some q)))))) := by
        rw [up_self]
        show (Sum.inl (gA Γ 5, 12, Sum.inr (Sum.inr (Sum.inr (Sum.inr (vq Γ (fun j => if j = D.length then q else aL j) (fun j => if j = i.toNatClampNeg then lnum D.length else M (4, 0, 12) j) (4, 0, 12)))))) : va_E) = _
        have e8 : vq Γ (fun j => if j = D.length then q else aL j) (fun j => if j = i.toNatClampNeg then lnum D.length else M (4, 0, 12) j) (4, 0, 12) = va_up (vq Γ aL (M (4, 0, 12)) (4, 0, 12)) i.toNatClampNeg (some q) := by
          funext j
          show lref (fun j => if j = D.length then q else aL j) (if j = i.toNatClampNeg then lnum D.length else M (4, 0, 12) j) = (if j = i.toNatClampNeg then some q else lref aL (M (4, 0, 12) j))
          by_cases hj : j = i.toNatClampNeg
          · rw [if_pos hj, if_pos hj]
            unfold lref
            rw [if_neg (lnum_ne hok.2.2), lnum_nat hok.2.2]
            show some (if D.length + 1 - 1 = D.length then q else aL (D.length + 1 - 1)) = some q
            rw [if_pos (by omega)]
          · rw [if_neg hj, if_neg hj, lref_ext (hok.2.1 0 j)]
        rw [e8]
      rw [e9]
      show H1[gadr Γ (4, 0, 12)]? = some (vp_cell _ _)
      rw [e1, vp_cell_q, vp_cell_q, arrV_store]
      congr 2
      funext j
      by_cases hj : j = i.toNatClampNeg
      · subst hj
        simp [updV, va_up, va_rf]
      · simp [updV, va_up, hj]
    · rw [up_ne hcc, cellE_ext hok]
      exact (h1 c hc).kept (oq _ (key c hc hcc))
  · have hj : (D ++ [d])[j]? = some d' := hj
    rcases Nat.lt_or_ge j D.length with hl9 | hl9
    · rw [List.getElem?_append_left hl9] at hj
      show LnAt _ (if j = D.length then q else aL j) d' H1
      rw [if_neg (by omega)]
      exact LnAt.carry (Γ := gwP P Γ) (Γ' := gwP [] Γ) rfl rfl (fun q _ hx => ⟨hx.1, fun z hz => by cases hz⟩) (fun q _ hx => oq q (fun z => hx.1 _ hdm z.symm)) (h2 j d' hj)
    · have hj2 : j = D.length := by
        have := (List.getElem?_eq_some_iff.mp hj).1
        simp at this
        omega
      subst hj2
      have hdd : d' = d := by simpa using hj.symm
      subst hdd
      show LnAt _ (if D.length = D.length then q else aL D.length) d' H1
      rw [if_pos rfl]
      refine ⟨⟨hv.1, fun z hz => by cases hz⟩, b, hv.2.kept (oq q hqn), ?_⟩
      rcases hb with hb | ⟨a, N, hb1, hb2, hb3⟩
      · exact Or.inl hb
      · exact Or.inr ⟨a, hb1, hb2 (gwP [] Γ) H1 rfl rfl (fun z hz => ⟨⟨(h3 z (hb3 z hz)).1, fun w hw => by cases hw⟩, (h3 z (hb3 z hz)).2.kept (oq _ (fun y => (h3 z (hb3 z hz)).1 _ hdm y.symm))⟩)⟩
end
/-- such a method's ends: its number, the lines that there are then -/
abbrev LV : Type := Int32 × List LDen
def QL (Γ : xG) (r : PR LV) (A : Nat → Prop) : Array Value → State → Outcome → State → Prop := fun _ st o t => r.1 = 0 ∧ o = .returned (some (.int r.2.1.1)) ∧ Wd Γ r.2.2.2 r.2.1.2 t.heap ∧ va_F A st t
def XLq (Γ : xG) (r : PR LV) (A : Nat → Prop) : String → Addr → State → State → Prop := fun E q st t => r.1 ≠ 0 ∧ E = exN r.1 ∧ (6 ≤ r.1 → q = gadr Γ (4, 0, 13)) ∧ Wd Γ r.2.2.2 r.2.1.2 t.heap ∧ va_F A st t
def CL (l : Launch) (y : MethodName) (ws : List Cond) (fr lc mc ms : Nat) (Γ : xG) (D : List LDen) (av : List Value) (M : Mem) (r : PR LV) : Prop := ∀ sz : Nat, vx_Met l y ws { frames := fr, cells := mc, slots := ms, locals := lc } (Pre Γ D M sz av) (QL Γ r (AX Γ sz)) (XLq Γ r (AX Γ sz)) mc ms (AX Γ sz)
def ZL (X : JX) (mc ms : Nat) : PR LV → State → Prop :=
  match X with
  | (p, l, e, R, s, m, args, below, meth, c, Γ, D, nL) => fun r => vx_MQ below (QL Γ r (AX Γ s.heap.size)) (XLq Γ r (AX Γ s.heap.size)) args s mc ms (AX Γ s.heap.size)
theorem ZL_tick {X : JX} {mc ms c : Nat} {r : PR LV} : ZL X mc ms (r.1, r.2.1, c + r.2.2.1, r.2.2.2) = ZL X mc ms r := by
  obtain ⟨p, l, e, R, s, m, args, below, meth, co, Γ, D, nL⟩ := X
  rfl
section
variable {X : JX} {pc en : Nat} {lv : List (Nat × Value)} {rest : List Value} {M : Mem} {k n : Nat} {cc : ByteArray} {own : String} {ret : Option FieldType} {fr lc mc ms mc0 ms0 : Nat}
theorem jl_iret (hC : JC X cc own (some .int) fr lc mc0 ms0) (hP : gP (XG X) = []) {v : Int32} {c : Nat} {D' : List LDen} (hk : k ≤ mc) (hn : n ≤ ms) (hd : decode cc pc = .ok (.ireturn, 1)) : J (xL D' X) (ZL X mc ms) (some (0, (v, D'), c, M)) pc lv [.int v] M k n := by
  obtain ⟨p, l, e, R, s, m, args, below, meth, co, ⟨g1, g2, g3, g4, g5, g6, g7⟩, D, nL⟩ := X
  have hP : g7 = [] := hP
  subst hP
  intro r hr H locs ls hW hS hl
  cases hr
  exact W.widen hk hn (vx_ret (W.iret hC.1 hC.2.1 hC.2.2.2.2.2.2.2.2.1 (fun t ht _ => ⟨rfl, rfl, by rw [ht]; exact hW, hS.F ht⟩) hS.2.2 hd hC.2.2.2.2.2.2.2.2.2))
theorem jhl_out {P : va_W} (hC : JC X cc own ret fr lc mc0 ms0) (hT : JT X) (hP : gP (XG X) = []) {v : Int32} {c : Nat} {D' : List LDen} (hne : en ≠ 0) (hk : k ≤ mc) (hn : n ≤ ms) : JH (xwP P (xL D' X)) (ZL X mc ms) (some (en, (v, D'), c, M)) en pc lv rest M k n := by
  obtain ⟨p, l, e, R, s, m, args, below, meth, co, ⟨g1, g2, g3, g4, g5, g6, g7⟩, D, nL⟩ := X
  have hP : g7 = [] := hP
  subst hP
  intro r hr H locs ls q ce hW hS hl hce hcv hcl h6
  cases hr
  refine vx_out (E := exN en) (fun x hx => (hT.1 x hx).elim) hC.2.2.2.2.2.2.2.2.2 hce hcv hcl (fun t ht _ => ⟨hne, rfl, h6, ?_, hS.F ht⟩) hS.2.2 hk hn
  rw [ht]
  exact Wd.drop (Γ := (g1, g2, g3, g4, g5, g6, [])) (P' := []) hW (fun z hz => by cases hz)
end
/-- the surroundings where nothing lies beside -/
theorem xL_self {X : JX} (hP : gP (XG X) = []) : xL (XD X) X = X := by
  obtain ⟨p, l, e, R, s, m, args, below, meth, co, ⟨g1, g2, g3, g4, g5, g6, g7⟩, D, nL⟩ := X
  have hP : g7 = [] := hP
  subst hP
  rfl
noncomputable def FX2_law_98 (D : List LDen) (kn : Mem × Int32 × List LDen → Option (PR LV)) (many kind v : Int32) (f : Den) (M : Mem) : Option (PR LV) :=
  if 2 ≤ kind then tick 1 (ifP (okD D M) (gd many 12 (lt (up M (4, 0, 12) many.toNatClampNeg (lnum D.length)) (fun M152 => lt (many + 1) (fun y => kn (M152, y, D ++ [(1, (if kind = 2 then 1 else -1), v, f)])))))) else tick 1 (ifP (okD D M) (gd many 12 (lt (up M (4, 0, 12) many.toNatClampNeg (lnum D.length)) (fun M152 => lt (many + 1) (fun y => kn (M152, y, D ++ [(0, (if kind = 0 then 1 else -1), v, f)]))))))
noncomputable def FX2_law_69 (fu : Nat) (D : List LDen) (kn : Mem × Int32 × List LDen → Option (PR LV)) (many kind : Int32) (M : Mem) : Option (PR LV) :=
  bX (0, D) (FX2_number fu D M 0 9) (fun v73 M73 => bd (FX2_takes fu D 23 M73) (fun v81 M81 => if v81 = 0 then FX2_law_98 D kn many kind v73 (fun _ => true) M81 else bm (0, D) (FX2_ra fu D 30 0 M81) (fun f M89 => FX2_law_98 D kn many kind v73 f M89)))
noncomputable def FX2_law_57 (fu : Nat) (D : List LDen) (kn : Mem × Int32 × List LDen → Option (PR LV)) (many kind : Int32) (M : Mem) : Option (PR LV) :=
  if kind = 3 then bX (0, D) (FX2_expect fu D 19 M) (fun _ M66 => FX2_law_69 fu D kn many kind M66) else FX2_law_69 fu D kn many kind M
noncomputable def GX2_law_7 (fu : Nat) (kn : Mem × Int32 × List LDen → Option (PR LV)) (M : Mem) (many : Int32) (D : List LDen) : Option (PR LV) :=
  bX (0, D) (FX2_more fu D M many 12) (fun v11 M11 => if v11 = 0 then some (0, (many, D), 0, M11) else bd (FX2_takes fu D 21 M11) (fun v20 M20 => if v20 = 0 then bd (FX2_takes fu D 22 M20) (fun v33 M33 => if v33 = 0 then bd (FX2_takes fu D 20 M33) (fun v46 M46 => if v46 = 0 then FX2_law_57 fu D kn many 3 M46 else FX2_law_57 fu D kn many 2 M46) else FX2_law_57 fu D kn many 1 M33) else FX2_law_57 fu D kn many 0 M20))
noncomputable def FX2_law (fu : Nat) (D : List LDen) (M : Mem) (n : Int32) : Option (PR LV) := bd (FX2_begins fu D M n) (fun _ M2 => lp (fun kn z => GX2_law_7 fu kn z.1 z.2.1 z.2.2) fu (M2, 0, D))
section
variable {ρ : Type} {X : JX} {Z : ρ → State → Prop} {pr : Option ρ} {pc : Nat} {lv : List (Nat × Value)} {rest : List Value} {M : Mem} {k n : Nat} {cc : ByteArray} {own : String} {ret : Option FieldType} {fr lc mc ms : Nat}
theorem j_ifneF (hC : JC X cc own ret fr lc mc ms) {x : Int32} {off : Int} {tgt : Nat} (hd : decode cc pc = .ok (.ifCond .ne off, 3)) (ht : (pc : Int) + off = (tgt : Int)) (hx : x = 0) (kk : J X Z pr (pc + 3) lv rest M k n) : J X Z pr pc lv (.int x :: rest) M k n := by
  have h := j_if_ne (A := pr) (B := pr) (x := x) hC hd ht (fun _ => kk) (fun h => absurd hx h)
  rwa [ite_self] at h
theorem j_ifneT (hC : JC X cc own ret fr lc mc ms) {x : Int32} {off : Int} {tgt : Nat} (hd : decode cc pc = .ok (.ifCond .ne off, 3)) (ht : (pc : Int) + off = (tgt : Int)) (hx : ¬ x = 0) (kk : J X Z pr tgt lv rest M k n) : J X Z pr pc lv (.int x :: rest) M k n := by
  have h := j_if_ne (A := pr) (B := pr) (x := x) hC hd ht (fun h => absurd h hx) (fun _ => kk)
  rwa [ite_self] at h
theorem j_icmpneF (hC : JC X cc own ret fr lc mc ms) {x y : Int32} {off : Int} {tgt : Nat} (hd : decode cc pc = .ok (.if_icmp .ne off, 3)) (ht : (pc : Int) + off = (tgt : Int)) (hx : x = y) (kk : J X Z pr (pc + 3) lv rest M k n) : J X Z pr pc lv (.int y :: .int x :: rest) M k n := by
  have h := j_icmp_ne (A := pr) (B := pr) (x := x) (y := y) hC hd ht (fun _ => kk) (fun h => absurd hx h)
  rwa [ite_self] at h
theorem j_icmpneT (hC : JC X cc own ret fr lc mc ms) {x y : Int32} {off : Int} {tgt : Nat} (hd : decode cc pc = .ok (.if_icmp .ne off, 3)) (ht : (pc : Int) + off = (tgt : Int)) (hx : ¬ x = y) (kk : J X Z pr tgt lv rest M k n) : J X Z pr pc lv (.int y :: .int x :: rest) M k n := by
  have h := j_icmp_ne (A := pr) (B := pr) (x := x) (y := y) hC hd ht (fun h => absurd h hx) (fun _ => kk)
  rwa [ite_self] at h
/-- a reference that may be null -/
theorem j_aloadO (hC : JC X cc own ret fr lc mc ms) {i : Nat} {x : Option Nat} (j : Nat) (hd : decode cc pc = .ok (.aload i, 2)) (hj : lv[j]? = some (i, va_rf x)) (kk : J X Z pr (pc + 2) lv (va_rf x :: rest) M k n) : J X Z pr pc lv rest M k n := by
  obtain ⟨p, l, e, R, s, m, args, below, meth, co, Γ, D, nL⟩ := X
  intro r hr H locs ls hW hS hl
  cases x with
  | none => exact lv_aloadN hC.1 hC.2.1 hd (lv_at hl j hj) (kk r hr H locs ls hW hS hl)
  | some x => exact lv_aload hC.1 hC.2.1 hd (lv_at hl j hj) (kk r hr H locs ls hW hS hl)
/-- null is stored -/
theorem j_astoreN (hC : JC X cc own ret fr lc mc ms) {i : Nat} (lv' : List (Nat × Value)) {nl : Nat} (hnl : nLof X = nl) (hd : decode cc pc = .ok (.astore i, 2)) (hi : Nat.ble (i + 1) nl = true) (hl' : (i, Value.null) :: lv.filter (fun z => !(z.1 == i) && !(z.1 + 1 == i && z.2.category == 2)) = lv') (kk : J X Z pr (pc + 2) lv' rest M k n) : J X Z pr pc lv (.null :: rest) M k n := by
  obtain ⟨p, l, e, R, s, m, args, below, meth, co, Γ, D, nL⟩ := X
  intro r hr H locs ls hW hS hl
  exact lv_astoreN hC.1 hC.2.1 hd hl (by have h := Nat.le_of_ble_eq_true hi; rw [← hnl] at h; exact h) hl' (fun ls' hl2 => kk r hr H locs ls' hW hS hl2)
end
theorem wX2_law_98 {X : JX} {c : Nat} (hC : JC X cX2_law RX2 (some .int) 41 980 c (8 * c)) (hG : dmI dmX (XG X)) (hnl : nLof X = 6) {Z : PR LV → State → Prop} (hZ : ∀ (r : PR LV) (c : Nat), Z (r.1, r.2.1, c + r.2.2.1, r.2.2.2) = Z r) (kn : Mem × Int32 × List LDen → Option (PR LV)) (hkn : ∀ (M : Mem) (y : Int32) (D : List LDen) (k n m : Nat), k + m ≤ c → n + 8 * m ≤ 8 * c → J (xL D X) Z (lm m (kn (M, y, D))) 7 [(2, .int y), (0, .ref (gadr (XG X) (4, 0, 8)))] [] M k n) {k n m : Nat} (hk : k + m ≤ c) (hn : n + 8 * m ≤ 8 * c) (many kind v : Int32) (f : Den) (b : Option Nat) (N : va_W) (hb : (b = none ∧ f = fun _ => true) ∨ ∃ a : Nat, b = some a ∧ SemC (XG X) 30 a f N) (M : Mem) : J (xwP N X) Z (lm m (FX2_law_98 (XD X) kn many kind v f M)) 98 [(5, va_rf b), (4, .int v), (3, .int kind), (2, .int many), (0, .ref (gadr (XG X) (4, 0, 8)))] [] M k n := by
  unfold FX2_law_98
  refine j_lm lm_ite ?_
  refine j_aload_n (JC.xw _ hC) 4 dX2_law_98 rfl ?_
  refine j_getR (fk := 3) (JC.xw _ hC) (dmY hG rfl) rfl rfl in_X2 rfl rfl q427 rfl dX2_law_99 ?_
  refine j_iload_n (JC.xw _ hC) 3 dX2_law_102 rfl ?_
  refine j_iload_n (JC.xw _ hC) 2 dX2_law_103 rfl ?_
  refine j_iconst (v := 2) (JC.xw _ hC) dX2_law_104 (by decide) ?_
  refine j_icmp_ge (tgt := 131) (JC.xw _ hC) dX2_law_105 (by decide) (fun h105 => ?_) (fun h105 => ?_)
  · refine jm_tickG hZ (fun h1 => ?_)
    refine j_lm lm_ifP ?_
    show J _ _ (ifP (okD (XD X) M) (lm (m - 1) (gd many 12 _))) _ _ _ _ _ _
    rw [lm_gd]
    refine j_new (JC.xw _ hC) (ci := 14) (fs := [.int 0, .null, .int 0]) rfl in_X16 tyX16 tyX16_ok (fun j hj => by match j, hj with | 0, _ => rfl | 1, _ => rfl | 2, _ => rfl) q1036 q1037 q151 (by omega) (by omega) dX2_law_131 (fun q hqa hqb => ?_)
    refine j_dup (JC.xw _ hC) dX2_law_134 rfl ?_
    refine j_iload (JC.xw _ hC) 1 dX2_law_135 rfl ?_
    refine j_aloadO (JC.xw _ hC) 0 dX2_law_137 rfl ?_
    refine j_iload_n (JC.xw _ hC) 2 dX2_law_139 rfl ?_
    refine j_iconst (v := 2) (JC.xw _ hC) dX2_law_140 (by decide) ?_
    by_cases h0 : kind = 2
    · rw [if_pos h0]
      refine j_icmpneF (tgt := 148) (JC.xw _ hC) dX2_law_141 (by decide) h0 ?_
      refine j_iconst (v := 1) (JC.xw _ hC) dX2_law_144 (by decide) ?_
      refine j_goto (tgt := 149) (JC.xw _ hC) dX2_law_145 (by decide) ?_
      refine j_init (JC.xw _ hC) (P1 := []) (P2 := N) (a := q) (ci := 14) (fs0 := [.int 0, .null, .int 0]) (nA := 3) rfl (fun z hz => hqb z hz) hqa [.int v, va_rf b, .int 1] rfl (fun sz => iX16 (XL X) _ q v b 1 sz) q1038 q1039 q151 q1040 rfl (by decide +kernel) (bk (by decide)) (bk (by decide)) rfl rfl (by omega) (by omega) dX2_law_149 ?_
      rw [show (if (1 : Int32) = 0 then (-1 : Int32) else 1) = 1 from by decide]
      refine j_lineSt (X := X) (P := (q, .inr (14, [.int v, va_rf b, .int 1])) :: N) (d := (1, 1, v, f)) (b := b) hC hG (Or.inr rfl) List.mem_cons_self (hb.imp id (fun ⟨a, h2, h3⟩ => ⟨a, N, h2, h3, fun z hz => List.mem_cons_of_mem _ hz⟩)) dX2_law_152 ?_
      refine j_lm lm_lt ?_
      refine j_lt (fun M152 => ?_)
      refine j_lm lm_lt ?_
      refine j_iincL (JC.xL _ hC) 3 (fun y => [(2, .int y), (5, va_rf b), (4, .int v), (3, .int kind), (0, .ref (gadr (XG X) (4, 0, 8)))]) hnl dX2_law_153 rfl (by decide) rfl (fun _ => rfl) (fun y => ?_)
      refine j_goto (tgt := 7) (JC.xL _ hC) dX2_law_156 (by decide) ?_
      exact j_sub [0, 4] rfl (hkn M152 y _ _ _ _ (by omega) (by omega))
    · rw [if_neg h0]
      refine j_icmpneT (tgt := 148) (JC.xw _ hC) dX2_law_141 (by decide) h0 ?_
      refine j_iconst (v := 0) (JC.xw _ hC) dX2_law_148 (by decide) ?_
      refine j_init (JC.xw _ hC) (P1 := []) (P2 := N) (a := q) (ci := 14) (fs0 := [.int 0, .null, .int 0]) (nA := 3) rfl (fun z hz => hqb z hz) hqa [.int v, va_rf b, .int 0] rfl (fun sz => iX16 (XL X) _ q v b 0 sz) q1038 q1039 q151 q1040 rfl (by decide +kernel) (bk (by decide)) (bk (by decide)) rfl rfl (by omega) (by omega) dX2_law_149 ?_
      rw [show (if (0 : Int32) = 0 then (-1 : Int32) else 1) = -1 from by decide]
      refine j_lineSt (X := X) (P := (q, .inr (14, [.int v, va_rf b, .int (-1)])) :: N) (d := (1, -1, v, f)) (b := b) hC hG (Or.inr rfl) List.mem_cons_self (hb.imp id (fun ⟨a, h2, h3⟩ => ⟨a, N, h2, h3, fun z hz => List.mem_cons_of_mem _ hz⟩)) dX2_law_152 ?_
      refine j_lm lm_lt ?_
      refine j_lt (fun M152 => ?_)
      refine j_lm lm_lt ?_
      refine j_iincL (JC.xL _ hC) 3 (fun y => [(2, .int y), (5, va_rf b), (4, .int v), (3, .int kind), (0, .ref (gadr (XG X) (4, 0, 8)))]) hnl dX2_law_153 rfl (by decide) rfl (fun _ => rfl) (fun y => ?_)
      refine j_goto (tgt := 7) (JC.xL _ hC) dX2_law_156 (by decide) ?_
      exact j_sub [0, 4] rfl (hkn M152 y _ _ _ _ (by omega) (by omega))
  · refine jm_tickG hZ (fun h1 => ?_)
    refine j_lm lm_ifP ?_
    show J _ _ (ifP (okD (XD X) M) (lm (m - 1) (gd many 12 _))) _ _ _ _ _ _
    rw [lm_gd]
    refine j_new (JC.xw _ hC) (ci := 13) (fs := [.int 0, .null, .int 0]) rfl in_X15 tyX15 tyX15_ok (fun j hj => by match j, hj with | 0, _ => rfl | 1, _ => rfl | 2, _ => rfl) q1017 q1018 q150 (by omega) (by omega) dX2_law_108 (fun q hqa hqb => ?_)
    refine j_dup (JC.xw _ hC) dX2_law_111 rfl ?_
    refine j_iload (JC.xw _ hC) 1 dX2_law_112 rfl ?_
    refine j_aloadO (JC.xw _ hC) 0 dX2_law_114 rfl ?_
    refine j_iload_n (JC.xw _ hC) 2 dX2_law_116 rfl ?_
    by_cases h0 : kind = 0
    · rw [if_pos h0]
      refine j_ifneF (tgt := 124) (JC.xw _ hC) dX2_law_117 (by decide) h0 ?_
      refine j_iconst (v := 1) (JC.xw _ hC) dX2_law_120 (by decide) ?_
      refine j_goto (tgt := 125) (JC.xw _ hC) dX2_law_121 (by decide) ?_
      refine j_init (JC.xw _ hC) (P1 := []) (P2 := N) (a := q) (ci := 13) (fs0 := [.int 0, .null, .int 0]) (nA := 3) rfl (fun z hz => hqb z hz) hqa [.int v, va_rf b, .int 1] rfl (fun sz => iX15 (XL X) _ q v b 1 sz) q1019 q1020 q150 q1021 rfl (by decide +kernel) (bk (by decide)) (bk (by decide)) rfl rfl (by omega) (by omega) dX2_law_125 ?_
      rw [show (if (1 : Int32) = 0 then (-1 : Int32) else 1) = 1 from by decide]
      refine j_goto (tgt := 152) (JC.xw _ hC) dX2_law_128 (by decide) ?_
      refine j_lineSt (X := X) (P := (q, .inr (13, [.int v, va_rf b, .int 1])) :: N) (d := (0, 1, v, f)) (b := b) hC hG (Or.inl rfl) List.mem_cons_self (hb.imp id (fun ⟨a, h2, h3⟩ => ⟨a, N, h2, h3, fun z hz => List.mem_cons_of_mem _ hz⟩)) dX2_law_152 ?_
      refine j_lm lm_lt ?_
      refine j_lt (fun M152 => ?_)
      refine j_lm lm_lt ?_
      refine j_iincL (JC.xL _ hC) 3 (fun y => [(2, .int y), (5, va_rf b), (4, .int v), (3, .int kind), (0, .ref (gadr (XG X) (4, 0, 8)))]) hnl dX2_law_153 rfl (by decide) rfl (fun _ => rfl) (fun y => ?_)
      refine j_goto (tgt := 7) (JC.xL _ hC) dX2_law_156 (by decide) ?_
      exact j_sub [0, 4] rfl (hkn M152 y _ _ _ _ (by omega) (by omega))
    · rw [if_neg h0]
      refine j_ifneT (tgt := 124) (JC.xw _ hC) dX2_law_117 (by decide) h0 ?_
      refine j_iconst (v := 0) (JC.xw _ hC) dX2_law_124 (by decide) ?_
      refine j_init (JC.xw _ hC) (P1 := []) (P2 := N) (a := q) (ci := 13) (fs0 := [.int 0, .null, .int 0]) (nA := 3) rfl (fun z hz => hqb z hz) hqa [.int v, va_rf b, .int 0] rfl (fun sz => iX15 (XL X) _ q v b 0 sz) q1019 q1020 q150 q1021 rfl (by decide +kernel) (bk (by decide)) (bk (by decide)) rfl rfl (by omega) (by omega) dX2_law_125 ?_
      rw [show (if (0 : Int32) = 0 then (-1 : Int32) else 1) = -1 from by decide]
      refine j_goto (tgt := 152) (JC.xw _ hC) dX2_law_128 (by decide) ?_
      refine j_lineSt (X := X) (P := (q, .inr (13, [.int v, va_rf b, .int (-1)])) :: N) (d := (0, -1, v, f)) (b := b) hC hG (Or.inl rfl) List.mem_cons_self (hb.imp id (fun ⟨a, h2, h3⟩ => ⟨a, N, h2, h3, fun z hz => List.mem_cons_of_mem _ hz⟩)) dX2_law_152 ?_
      refine j_lm lm_lt ?_
      refine j_lt (fun M152 => ?_)
      refine j_lm lm_lt ?_
      refine j_iincL (JC.xL _ hC) 3 (fun y => [(2, .int y), (5, va_rf b), (4, .int v), (3, .int kind), (0, .ref (gadr (XG X) (4, 0, 8)))]) hnl dX2_law_153 rfl (by decide) rfl (fun _ => rfl) (fun y => ?_)
      refine j_goto (tgt := 7) (JC.xL _ hC) dX2_law_156 (by decide) ?_
      exact j_sub [0, 4] rfl (hkn M152 y _ _ _ _ (by omega) (by omega))
theorem wX2_law_69 {X : JX} {c : Nat} (hC : JC X cX2_law RX2 (some .int) 41 980 c (8 * c)) (hT : JT X) (hP : gP (XG X) = []) (hG : dmI dmX (XG X)) (h80 : gdm (XG X) (8, 0, 0) = false) (h81 : gdm (XG X) (8, 0, 1) = false) (hnl : nLof X = 6) (fu : Nat) (kn : Mem × Int32 × List LDen → Option (PR LV)) (hkn : ∀ (M : Mem) (y : Int32) (D : List LDen) (k n m : Nat), k + m ≤ c → n + 8 * m ≤ 8 * c → J (xL D X) (ZL X c (8 * c)) (lm m (kn (M, y, D))) 7 [(2, .int y), (0, .ref (gadr (XG X) (4, 0, 8)))] [] M k n) (D : List LDen) {k n m : Nat} (hk : k + m ≤ c) (hn : n + 8 * m ≤ 8 * c) (many kind : Int32) (M : Mem) : J (xL D X) (ZL X c (8 * c)) (lm m (FX2_law_69 fu D kn many kind M)) 69 [(3, .int kind), (2, .int many), (0, .ref (gadr (XG X) (4, 0, 8)))] [] M k n := by
  unfold FX2_law_69
  refine j_aload_n (JC.xL D hC) 2 dX2_law_69 rfl ?_
  refine j_iconst (v := 0) (JC.xL D hC) dX2_law_70 (by decide) ?_
  refine j_bipush (v := 9) (JC.xL D hC) dX2_law_71 (by decide) ?_
  refine j_lm lm_bX ?_
  refine j_callVH (nA := 2) (rest := []) (JC.xL D hC) [.int 0, .int 9] rfl (fun r hr => mX2_number (XL X) (JT.st (JT.xL D hT)) (XG (xL D X)) hG fu D  M 0 9 r hr) q836 q838 qs18 q127 q839 (dmY hG rfl) rfl rfl (by decide +kernel) (bk (by omega)) (bk (by omega)) rfl rfl (bk (by omega)) (bk (by omega)) dX2_law_73 (fun v73 => [.int v73]) (fun _ => rfl) (fun v73 M73 => ?_) (fun e M73 => jhl_out (P := []) hC hT hP (by omega) (by omega) (by omega))
  refine j_istore (JC.xL D hC) [(4, .int v73), (3, .int kind), (2, .int many), (0, .ref (gadr (XG X) (4, 0, 8)))] hnl dX2_law_76 rfl rfl ?_
  refine j_aload_n (JC.xL D hC) 3 dX2_law_78 rfl ?_
  refine j_ldcS (i := 23) (tx := "if") (JC.xL D hC) (by simp [strR, RX2]) dX2_law_79 ?_
  refine j_lm lm_bd ?_
  refine j_callV (nA := 1) (rest := []) (JC.xL D hC) [.ref (gadr (XG X) (6, 0, 23))] rfl (fun r hr => mX2_takes (XL X) (XG (xL D X)) hG fu D 23 (by decide) M73 r hr) q771 q773 qs14 q127 q774 (dmY hG rfl) rfl rfl (by decide +kernel) (bk (by omega)) (bk (by omega)) rfl rfl (bk (by omega)) (bk (by omega)) dX2_law_81 (fun v81 => [.int v81]) (fun _ => rfl) (fun v81 M81 => ?_)
  refine j_lm lm_ite ?_
  refine j_if_eq (tgt := 95) (JC.xL D hC) dX2_law_84 (by decide) (fun h84 => ?_) (fun h84 => ?_)
  · refine j_null (JC.xL D hC) dX2_law_95 ?_
    refine j_astoreN (JC.xL D hC) [(5, .null), (4, .int v73), (3, .int kind), (2, .int many), (0, .ref (gadr (XG X) (4, 0, 8)))] hnl dX2_law_96 rfl rfl ?_
    exact wX2_law_98 (X := xL D X) (JC.xL D hC) hG hnl (fun _ _ => ZL_tick) kn hkn (by omega) (by omega) many kind v73 (fun _ => true) none [] (Or.inl ⟨rfl, rfl⟩) M81
  · refine j_aload_n (JC.xL D hC) 3 dX2_law_87 rfl ?_
    refine j_iconst (v := 0) (JC.xL D hC) dX2_law_88 (by decide) ?_
    show J (xwP [] (xL D X)) _ _ _ _ _ _ _ _
    refine jm_callG (X := xL D X) (P := []) (rest := []) (fun _ _ => ZL_tick) (JC.xL D hC) [.int 0] rfl (fun r hr => (RA_all (XL X) (JT.st hT) fu 30 (gwP [] (XG X)) hG h80 h81 D M81 r).1 hr) q925 q927 qs24 q127 q928 (dmY hG rfl) rfl rfl (by decide +kernel) (by omega) (by omega) rfl rfl (by omega) (by omega) dX2_law_89 (fun e c9 M9 hc9 => jhl_out hC hT hP (by omega) (by omega) (by omega)) (fun q f N c9 M89 hS hN hc9 => ?_)
    refine j_goto (tgt := 96) (JC.xw _ (JC.xL D hC)) dX2_law_92 (by decide) ?_
    refine j_astore (JC.xw _ (JC.xL D hC)) [(5, .ref q), (4, .int v73), (3, .int kind), (2, .int many), (0, .ref (gadr (XG X) (4, 0, 8)))] hnl dX2_law_96 rfl rfl ?_
    have e1 : N ++ [] = N := List.append_nil N
    show J (xwP (N ++ []) (xL D X)) _ _ _ _ _ _ _ _
    rw [e1]
    exact wX2_law_98 (X := xL D X) (JC.xL D hC) hG hnl (fun _ _ => ZL_tick) kn hkn (by omega) (by omega) many kind v73 f (some q) N (Or.inr ⟨q, rfl, hS⟩) M89
theorem wX2_law_57 {X : JX} {c : Nat} (hC : JC X cX2_law RX2 (some .int) 41 980 c (8 * c)) (hT : JT X) (hP : gP (XG X) = []) (hG : dmI dmX (XG X)) (h80 : gdm (XG X) (8, 0, 0) = false) (h81 : gdm (XG X) (8, 0, 1) = false) (hnl : nLof X = 6) (fu : Nat) (kn : Mem × Int32 × List LDen → Option (PR LV)) (hkn : ∀ (M : Mem) (y : Int32) (D : List LDen) (k n m : Nat), k + m ≤ c → n + 8 * m ≤ 8 * c → J (xL D X) (ZL X c (8 * c)) (lm m (kn (M, y, D))) 7 [(2, .int y), (0, .ref (gadr (XG X) (4, 0, 8)))] [] M k n) (D : List LDen) {k n m : Nat} (hk : k + m ≤ c) (hn : n + 8 * m ≤ 8 * c) (many kind : Int32) (M : Mem) : J (xL D X) (ZL X c (8 * c)) (lm m (FX2_law_57 fu D kn many kind M)) 57 [(2, .int many), (0, .ref (gadr (XG X) (4, 0, 8)))] [.int kind] M k n := by
  unfold FX2_law_57
  refine j_istore_n (JC.xL D hC) [(3, .int kind), (2, .int many), (0, .ref (gadr (XG X) (4, 0, 8)))] hnl dX2_law_57 rfl rfl ?_
  refine j_lm lm_ite ?_
  refine j_iload_n (JC.xL D hC) 0 dX2_law_58 rfl ?_
  refine j_iconst (v := 3) (JC.xL D hC) dX2_law_59 (by decide) ?_
  refine j_icmp_ne (tgt := 69) (JC.xL D hC) dX2_law_60 (by decide) (fun h60 => ?_) (fun h60 => ?_)
  · refine j_aload_n (JC.xL D hC) 2 dX2_law_63 rfl ?_
    refine j_ldcS (i := 19) (tx := "west") (JC.xL D hC) (by simp [strR, RX2]) dX2_law_64 ?_
    refine j_lm lm_bX ?_
    refine j_callVH (nA := 1) (rest := []) (JC.xL D hC) [.ref (gadr (XG X) (6, 0, 19))] rfl (fun r hr => mX2_expect (XL X) (JT.st (JT.xL D hT)) (XG (xL D X)) hG fu D 19 (by decide) M r hr) q832 q834 qs17 q127 q835 (dmY hG rfl) rfl rfl (by decide +kernel) (bk (by omega)) (bk (by omega)) rfl rfl (bk (by omega)) (bk (by omega)) dX2_law_66 (fun v66 => []) (fun _ => rfl) (fun v66 M66 => ?_) (fun e M66 => jhl_out (P := []) hC hT hP (by omega) (by omega) (by omega))
    exact wX2_law_69 hC hT hP hG h80 h81 hnl fu kn hkn D hk hn many kind M66
  · exact wX2_law_69 hC hT hP hG h80 h81 hnl fu kn hkn D hk hn many kind M
theorem wX2_law_7 {X : JX} {c : Nat} (hC : JC X cX2_law RX2 (some .int) 41 980 c (8 * c)) (hT : JT X) (hP : gP (XG X) = []) (hG : dmI dmX (XG X)) (h80 : gdm (XG X) (8, 0, 0) = false) (h81 : gdm (XG X) (8, 0, 1) = false) (hnl : nLof X = 6) (fu : Nat) (kn : Mem × Int32 × List LDen → Option (PR LV)) (hkn : ∀ (M : Mem) (y : Int32) (D : List LDen) (k n m : Nat), k + m ≤ c → n + 8 * m ≤ 8 * c → J (xL D X) (ZL X c (8 * c)) (lm m (kn (M, y, D))) 7 [(2, .int y), (0, .ref (gadr (XG X) (4, 0, 8)))] [] M k n) (D : List LDen) {k n m : Nat} (hk : k + m ≤ c) (hn : n + 8 * m ≤ 8 * c) (many : Int32) (M : Mem) : J (xL D X) (ZL X c (8 * c)) (lm m (GX2_law_7 fu kn M many D)) 7 [(2, .int many), (0, .ref (gadr (XG X) (4, 0, 8)))] [] M k n := by
  unfold GX2_law_7
  refine j_aload_n (JC.xL D hC) 1 dX2_law_7 rfl ?_
  refine j_iload_n (JC.xL D hC) 0 dX2_law_8 rfl ?_
  refine j_bipush (v := 12) (JC.xL D hC) dX2_law_9 (by decide) ?_
  refine j_lm lm_bX ?_
  refine j_callVH (nA := 2) (rest := []) (JC.xL D hC) [.int many, .int 12] rfl (fun r hr => mX2_more (XL X) (JT.st (JT.xL D hT)) (XG (xL D X)) hG fu D  M many 12 r hr) q755 q757 qs10 q127 q758 (dmY hG rfl) rfl rfl (by decide +kernel) (bk (by omega)) (bk (by omega)) rfl rfl (bk (by omega)) (bk (by omega)) dX2_law_11 (fun v11 => [.int v11]) (fun _ => rfl) (fun v11 M11 => ?_) (fun e M11 => jhl_out (P := []) hC hT hP (by omega) (by omega) (by omega))
  refine j_lm lm_ite ?_
  refine j_if_eq (tgt := 159) (JC.xL D hC) dX2_law_14 (by decide) (fun h14 => ?_) (fun h14 => ?_)
  · refine j_lm lm_some ?_
    refine j_iload_n (JC.xL D hC) 0 dX2_law_159 rfl ?_
    exact jl_iret hC hP (by omega) (by omega) dX2_law_160
  · refine j_aload_n (JC.xL D hC) 1 dX2_law_17 rfl ?_
    refine j_ldcS (i := 21) (tx := "drop") (JC.xL D hC) (by simp [strR, RX2]) dX2_law_18 ?_
    refine j_lm lm_bd ?_
    refine j_callV (nA := 1) (rest := []) (JC.xL D hC) [.ref (gadr (XG X) (6, 0, 21))] rfl (fun r hr => mX2_takes (XL X) (XG (xL D X)) hG fu D 21 (by decide) M11 r hr) q771 q773 qs14 q127 q774 (dmY hG rfl) rfl rfl (by decide +kernel) (bk (by omega)) (bk (by omega)) rfl rfl (bk (by omega)) (bk (by omega)) dX2_law_20 (fun v20 => [.int v20]) (fun _ => rfl) (fun v20 M20 => ?_)
    refine j_lm lm_ite ?_
    refine j_if_eq (tgt := 30) (JC.xL D hC) dX2_law_23 (by decide) (fun h => ?_) (fun h => ?_)
    · refine j_aload_n (JC.xL D hC) 1 dX2_law_30 rfl ?_
      refine j_ldcS (i := 22) (tx := "lift") (JC.xL D hC) (by simp [strR, RX2]) dX2_law_31 ?_
      refine j_lm lm_bd ?_
      refine j_callV (nA := 1) (rest := []) (JC.xL D hC) [.ref (gadr (XG X) (6, 0, 22))] rfl (fun r hr => mX2_takes (XL X) (XG (xL D X)) hG fu D 22 (by decide) M20 r hr) q771 q773 qs14 q127 q774 (dmY hG rfl) rfl rfl (by decide +kernel) (bk (by omega)) (bk (by omega)) rfl rfl (bk (by omega)) (bk (by omega)) dX2_law_33 (fun v33 => [.int v33]) (fun _ => rfl) (fun v33 M33 => ?_)
      refine j_lm lm_ite ?_
      refine j_if_eq (tgt := 43) (JC.xL D hC) dX2_law_36 (by decide) (fun h => ?_) (fun h => ?_)
      · refine j_aload_n (JC.xL D hC) 1 dX2_law_43 rfl ?_
        refine j_ldcS (i := 20) (tx := "east") (JC.xL D hC) (by simp [strR, RX2]) dX2_law_44 ?_
        refine j_lm lm_bd ?_
        refine j_callV (nA := 1) (rest := []) (JC.xL D hC) [.ref (gadr (XG X) (6, 0, 20))] rfl (fun r hr => mX2_takes (XL X) (XG (xL D X)) hG fu D 20 (by decide) M33 r hr) q771 q773 qs14 q127 q774 (dmY hG rfl) rfl rfl (by decide +kernel) (bk (by omega)) (bk (by omega)) rfl rfl (bk (by omega)) (bk (by omega)) dX2_law_46 (fun v46 => [.int v46]) (fun _ => rfl) (fun v46 M46 => ?_)
        refine j_lm lm_ite ?_
        refine j_if_eq (tgt := 56) (JC.xL D hC) dX2_law_49 (by decide) (fun h => ?_) (fun h => ?_)
        · refine j_iconst (v := 3) (JC.xL D hC) dX2_law_56 (by decide) ?_
          exact wX2_law_57 hC hT hP hG h80 h81 hnl fu kn hkn D hk hn many 3 M46
        · refine j_iconst (v := 2) (JC.xL D hC) dX2_law_52 (by decide) ?_
          refine j_goto (tgt := 57) (JC.xL D hC) dX2_law_53 (by decide) ?_
          exact wX2_law_57 hC hT hP hG h80 h81 hnl fu kn hkn D hk hn many 2 M46
      · refine j_iconst (v := 1) (JC.xL D hC) dX2_law_39 (by decide) ?_
        refine j_goto (tgt := 57) (JC.xL D hC) dX2_law_40 (by decide) ?_
        exact wX2_law_57 hC hT hP hG h80 h81 hnl fu kn hkn D hk hn many 1 M33
    · refine j_iconst (v := 0) (JC.xL D hC) dX2_law_26 (by decide) ?_
      refine j_goto (tgt := 57) (JC.xL D hC) dX2_law_27 (by decide) ?_
      exact wX2_law_57 hC hT hP hG h80 h81 hnl fu kn hkn D hk hn many 0 M20
theorem wX2_law {X : JX} {c : Nat} (hC : JC X cX2_law RX2 (some .int) 41 980 c (8 * c)) (hT : JT X) (hP : gP (XG X) = []) (hG : dmI dmX (XG X)) (h80 : gdm (XG X) (8, 0, 0) = false) (h81 : gdm (XG X) (8, 0, 1) = false) (hnl : nLof X = 6) (fu : Nat) (M : Mem) (x : Int32) : J X (ZL X c (8 * c)) (lm c (FX2_law fu (XD X) M x)) 0 [(0, .ref (gadr (XG X) (4, 0, 8))), (1, .int x)] [] M 0 0 := by
  have loop : ∀ (fu' : Nat) (M : Mem) (y : Int32) (D : List LDen) (k n m : Nat), k + m ≤ c → n + 8 * m ≤ 8 * c → J (xL D X) (ZL X c (8 * c)) (lm m (lp (fun kn z => GX2_law_7 fu kn z.1 z.2.1 z.2.2) fu' (M, y, D))) 7 [(2, .int y), (0, .ref (gadr (XG X) (4, 0, 8)))] [] M k n := by
    intro fu'
    induction fu' with
    | zero => intro M y D k n m hk hn; exact j_none
    | succ fu' ih => intro M y D k n m hk hn; exact wX2_law_7 hC hT hP hG h80 h81 hnl fu _ (fun M y D k n m => ih M y D k n m) D hk hn y M
  unfold FX2_law
  refine j_lm lm_bd ?_
  refine j_aload_n hC 0 dX2_law_0 rfl ?_
  refine j_iload_n hC 1 dX2_law_1 rfl ?_
  refine j_callV (nA := 1) (rest := []) hC [.int x] rfl (fun r hr => mX2_begins (XL X) (XG X) hG fu (XD X) M x r hr) q750 q752 qs9 q127 q753 (dmY hG rfl) rfl rfl (by decide +kernel) (bk (by omega)) (bk (by omega)) rfl rfl (bk (by omega)) (bk (by omega)) dX2_law_2 (fun _ => []) (fun _ => rfl) (fun v2 M2 => ?_)
  refine j_iconst (v := 0) hC dX2_law_5 (by decide) ?_
  refine j_istore_n hC [(2, .int 0), (0, .ref (gadr (XG X) (4, 0, 8))), (1, .int x)] hnl dX2_law_6 rfl rfl ?_
  have h := loop fu M2 0 (XD X) 0 0 c (by omega) (by omega)
  rw [xL_self hP] at h
  exact j_sub [0, 1] rfl h
theorem CL.of {l : Launch} (hst : l.stackTraces = false) {y : MethodName} {own : String} {cc : ByteArray} {maxL : Nat} {ret : Option FieldType} {fr lc : Nat} {Γ : xG} {D : List LDen} {av : List Value} {M : Mem} {pr : Option (PR LV)} {lv0 : List (Nat × Value)}
    (hy : plainName y.cls = true) (ho : y.cls = own) (hlen : (lg_sl av).length ≤ maxL) (hlv : lv_args 0 av = lv0) (r : PR LV) (hr : pr = some r)
    (body : ∀ X : JX, XG X = Γ → XD X = D → XL X = l → nLof X = maxL → JC X cc own ret fr lc r.2.2.1 (8 * r.2.2.1) → JT X → J X (ZL X r.2.2.1 (8 * r.2.2.1)) (lm r.2.2.1 pr) 0 lv0 [] M 0 0) : CL l y (ws_ y cc maxL ret) fr lc r.2.2.1 (8 * r.2.2.1) Γ D av M r := by
  intro sz
  refine vx_ofW (cc := cc) (maxL := maxL) (ret := ret) hy rfl ?_
  intro p e s m args below meth c s₁ B hml htab hv
  obtain ⟨rfl, hsz, hW, hE, hG⟩ := hv
  have hts := atoms_spec (ws := ws_ y cc maxL ret) B.pre
  have hts : ∀ w ∈ lw_all, w.before _ s = true := fun w h => hts w (List.mem_cons_of_mem _ h)
  subst hsz
  have hl := lv_entry av (n := maxL) hlen
  rw [lg_entry_eq]
  rw [hlv] at hl
  exact body (p, l, e, (headSpec (ws_ y cc maxL ret) { frames := fr, cells := r.2.2.1, slots := 8 * r.2.2.1, locals := lc }).room, s, m, av.toArray, below, meth, c, Γ, D, maxL) rfl rfl rfl rfl ⟨B.exec, B.bytes, hml, by rw [← ho]; exact findClass_of_methodNamed B.named, hts, hE, hG, rfl, B.returns, B.notSynchronized⟩ ⟨htab, hst⟩ r (lm_self hr) _ _ _ hW va_S.rf hl
theorem mX2_law (l : Launch) (hst : l.stackTraces = false) (Γ : xG) (hP : gP Γ = []) (hG : dmI dmX Γ) (h80 : gdm Γ (8, 0, 0) = false) (h81 : gdm Γ (8, 0, 1) = false) (fu : Nat) (D : List LDen) (M : Mem) (x : Int32) (r : PR LV) (hr : FX2_law fu D M x = some r) : CL l yX2_law (ws_ yX2_law cX2_law 6 (some .int)) 41 980 r.2.2.1 (8 * r.2.2.1) Γ D [.ref (gadr Γ (4, 0, 8)), .int x] M r := by
  refine CL.of hst (own := RX2) (lv0 := lv_args 0 [.ref (gadr Γ (4, 0, 8)), .int x]) (by decide +kernel) rfl (Nat.le_of_ble_eq_true rfl) rfl r hr (fun X e1 e2 e3 e4 hC hT => ?_)
  subst e1
  subst e2
  exact wX2_law hC hT hP hG h80 h81 e4 fu M x
