set_option maxRecDepth 100000
/-! the Sum in the making: from beside the world into it, and back -/
abbrev sE (b : Nat) (n : Int32) : va_E := .inr (10, [.ref b, .int n])
abbrev tE (Γ : xG) (t : Nat → Int32) : va_E := .inl (gA Γ 0, 6, .inl t)
/-- the memory with the Sum in the making: its number n, its times t -/
def mS (n : Int32) (t : Nat → Int32) (M : Mem) : Mem := fun c => if c = (8, 0, 0) then (fun _ => n) else if c = (8, 0, 1) then t else M c
section
set_option maxHeartbeats 200000
variable {Γ : xG} {P : va_W} {a b : Nat}
theorem gS_dm {c : CId} : gdm (gS a b (gwP P Γ)) c = true ↔ gdm Γ c = true ∨ dm8 c = true := by
  show (gdm Γ c || dm8 c) = true ↔ _
  rw [Bool.or_eq_true]
theorem gS_ne (h80 : gdm Γ (8, 0, 0) = false) (h81 : gdm Γ (8, 0, 1) = false) {c : CId} (hc : gdm Γ c = true) : c ≠ (8, 0, 0) ∧ c ≠ (8, 0, 1) :=
  ⟨fun z => (by rw [z, h80] at hc; cases hc), fun z => (by rw [z, h81] at hc; cases hc)⟩
theorem gS_a0 : gadr (gS a b (gwP P Γ)) (8, 0, 0) = a := by
  show (if ((8, 0, 0) : CId) = (8, 0, 0) then a else if ((8, 0, 0) : CId) = (8, 0, 1) then b else gadr (gwP P Γ) (8, 0, 0)) = a
  rw [if_pos rfl]
theorem gS_a1 : gadr (gS a b (gwP P Γ)) (8, 0, 1) = b := by
  show (if ((8, 0, 1) : CId) = (8, 0, 0) then a else if ((8, 0, 1) : CId) = (8, 0, 1) then b else gadr (gwP P Γ) (8, 0, 1)) = b
  rw [if_neg (by decide), if_pos rfl]
theorem nX_gS (h80 : gdm Γ (8, 0, 0) = false) (h81 : gdm Γ (8, 0, 1) = false) (E1 E2 : va_E) (q : Nat) : nX (gS a b (gwP P Γ)) q ↔ nX (gwP ((a, E1) :: (b, E2) :: P) Γ) q := by
  constructor
  · intro h
    refine ⟨fun c hc => ?_, fun z hz => ?_⟩
    · have h9 := h.1 c (gS_dm.mpr (Or.inl hc))
      obtain ⟨e1, e2⟩ := gS_ne (Γ := Γ) h80 h81 hc
      rw [gS_adr e1 e2] at h9
      exact h9
    · rcases List.mem_cons.mp hz with rfl | hz
      · have h9 := h.1 (8, 0, 0) (gS_dm.mpr (Or.inr rfl))
        rw [gS_a0] at h9
        exact h9
      · rcases List.mem_cons.mp hz with rfl | hz
        · have h9 := h.1 (8, 0, 1) (gS_dm.mpr (Or.inr rfl))
          rw [gS_a1] at h9
          exact h9
        · exact h.2 z hz
  · intro h
    refine ⟨fun c hc => ?_, fun z hz => h.2 z (List.mem_cons_of_mem _ (List.mem_cons_of_mem _ hz))⟩
    by_cases e1 : c = (8, 0, 0)
    · subst e1
      rw [gS_a0]
      exact h.2 (a, E1) List.mem_cons_self
    · by_cases e2 : c = (8, 0, 1)
      · subst e2
        rw [gS_a1]
        exact h.2 (b, E2) (List.mem_cons_of_mem _ List.mem_cons_self)
      · rw [gS_adr e1 e2]
        rcases gS_dm.mp hc with h9 | h9
        · exact h.1 c h9
        · exact absurd (dm8_iff.mp h9) (fun z => z.elim e1 e2)
theorem Wd.openS {M : Mem} {D : List LDen} {H : Heap} {n : Int32} {t : Nat → Int32} (h80 : gdm Γ (8, 0, 0) = false) (h81 : gdm Γ (8, 0, 1) = false) (h : Wd (gwP ((a, sE b n) :: (b, tE Γ t) :: P) Γ) M D H) (hP : ∀ z ∈ P, z.1 ≠ a ∧ z.1 ≠ b) : Wd (gS a b (gwP P Γ)) (mS n t M) D H := by
  obtain ⟨aL, h1, h2, h3⟩ := Wd_gw.mp h
  have ha := h3 _ List.mem_cons_self
  have hb := h3 _ (List.mem_cons_of_mem _ List.mem_cons_self)
  refine ⟨aL, fun c hc => ?_, fun i d hd => LnAt.carry (Γ := gwP ((a, sE b n) :: (b, tE Γ t) :: P) Γ) (Γ' := gS a b (gwP P Γ)) rfl rfl (fun q _ hq => (nX_gS h80 h81 _ _ q).mpr hq) (fun q _ _ => rfl) (h2 i d hd), fun z hz => ?_⟩
  · by_cases e1 : c = (8, 0, 0)
    · subst e1
      rw [gS_a0]
      have e9 : cellE (gS a b (gwP P Γ)) aL (mS n t M (8, 0, 0)) (8, 0, 0) = sE b n := by
        rw [kd_obj (ci := 10) rfl]
        show Sum.inr (10, [Value.ref (gadr (gS a b (gwP P Γ)) (8, 0, 1)), Value.int n]) = _
        rw [gS_a1]
      rw [e9]
      exact ha.2
    · by_cases e2 : c = (8, 0, 1)
      · subst e2
        rw [gS_a1]
        exact hb.2
      · rcases gS_dm.mp hc with h9 | h9
        · have h8 := h1 c h9
          rw [cellE_gS aL _ e1, cellE_gw, gS_adr e1 e2]
          have hm : mS n t M c = M c := by unfold mS; rw [if_neg e1, if_neg e2]
          rw [hm]
          exact h8
        · exact absurd (dm8_iff.mp h9) (fun z => z.elim e1 e2)
  · have hz : z ∈ P := hz
    have h9 := h3 z (List.mem_cons_of_mem _ (List.mem_cons_of_mem _ hz))
    refine ⟨fun c hc => ?_, h9.2⟩
    by_cases e1 : c = (8, 0, 0)
    · subst e1
      rw [gS_a0]
      exact (hP z hz).1.symm
    · by_cases e2 : c = (8, 0, 1)
      · subst e2
        rw [gS_a1]
        exact (hP z hz).2.symm
      · rw [gS_adr e1 e2]
        rcases gS_dm.mp hc with h9' | h9'
        · exact h9.1 c h9'
        · exact absurd (dm8_iff.mp h9') (fun z => z.elim e1 e2)
theorem Wd.closeS {M : Mem} {D : List LDen} {H : Heap} (h80 : gdm Γ (8, 0, 0) = false) (h81 : gdm Γ (8, 0, 1) = false) (na : nW Γ a) (nb : nW Γ b) (h : Wd (gS a b (gwP P Γ)) M D H) : Wd (gwP ((a, sE b (M (8, 0, 0) 1)) :: (b, tE Γ (M (8, 0, 1))) :: P) Γ) M D H := by
  obtain ⟨aL, h1, h2, h3⟩ := h
  refine Wd_gw.mpr ⟨aL, fun c hc => ?_, fun i d hd => LnAt.carry (Γ := gS a b (gwP P Γ)) (Γ' := gwP ((a, sE b (M (8, 0, 0) 1)) :: (b, tE Γ (M (8, 0, 1))) :: P) Γ) rfl rfl (fun q _ hq => (nX_gS h80 h81 _ _ q).mp hq) (fun q _ _ => rfl) (h2 i d hd), fun z hz => ?_⟩
  · have h9 := h1 c (gS_dm.mpr (Or.inl hc))
    obtain ⟨e1, e2⟩ := gS_ne (Γ := Γ) h80 h81 hc
    rw [cellE_gS aL _ e1, cellE_gw, gS_adr e1 e2] at h9
    exact h9
  · rcases List.mem_cons.mp hz with rfl | hz
    · refine ⟨na, ?_⟩
      have h9 := h1 (8, 0, 0) (gS_dm.mpr (Or.inr rfl))
      rw [gS_a0] at h9
      have e9 : cellE (gS a b (gwP P Γ)) aL (M (8, 0, 0)) (8, 0, 0) = sE b (M (8, 0, 0) 1) := by
        rw [kd_obj (ci := 10) rfl]
        show Sum.inr (10, [Value.ref (gadr (gS a b (gwP P Γ)) (8, 0, 1)), Value.int (M (8, 0, 0) 1)]) = _
        rw [gS_a1]
      rw [e9] at h9
      exact h9
    · rcases List.mem_cons.mp hz with rfl | hz
      · refine ⟨nb, ?_⟩
        have h9 := h1 (8, 0, 1) (gS_dm.mpr (Or.inr rfl))
        rw [gS_a1] at h9
        exact h9
      · have h9 := h3 z hz
        refine ⟨fun c hc => ?_, h9.2⟩
        have h8 := h9.1 c (gS_dm.mpr (Or.inl hc))
        obtain ⟨e1, e2⟩ := gS_ne (Γ := Γ) h80 h81 hc
        rw [gS_adr e1 e2] at h8
        exact h8
theorem GOK_gS (hG : GOK Γ) (na : nW Γ a) (nb : nW Γ b) (hab : a ≠ b) : GOK (gS a b (gwP P Γ)) := by
  have key : ∀ c, gdm (gS a b (gwP P Γ)) c = true → (c = (8, 0, 0) ∧ gadr (gS a b (gwP P Γ)) c = a) ∨ (c = (8, 0, 1) ∧ gadr (gS a b (gwP P Γ)) c = b) ∨ (c ≠ (8, 0, 0) ∧ c ≠ (8, 0, 1) ∧ gdm Γ c = true ∧ gadr (gS a b (gwP P Γ)) c = gadr Γ c) := by
    intro c hc
    by_cases e1 : c = (8, 0, 0)
    · exact Or.inl ⟨e1, by rw [e1, gS_a0]⟩
    · by_cases e2 : c = (8, 0, 1)
      · exact Or.inr (Or.inl ⟨e2, by rw [e2, gS_a1]⟩)
      · refine Or.inr (Or.inr ⟨e1, e2, ?_, gS_adr e1 e2⟩)
        rcases gS_dm.mp hc with h9 | h9
        · exact h9
        · exact absurd (dm8_iff.mp h9) (fun z => z.elim e1 e2)
  intro c d hc hd he
  rcases key c hc with ⟨c1, c2⟩ | ⟨c1, c2⟩ | ⟨c1, c2, c3, c4⟩ <;> rcases key d hd with ⟨d1, d2⟩ | ⟨d1, d2⟩ | ⟨d1, d2, d3, d4⟩
  · rw [c1, d1]
  · rw [c2, d2] at he; exact absurd he hab
  · rw [c2, d4] at he; exact absurd he.symm (na d d3)
  · rw [c2, d2] at he; exact absurd he.symm hab
  · rw [c1, d1]
  · rw [c2, d4] at he; exact absurd he.symm (nb d d3)
  · rw [c4, d2] at he; exact absurd he (na c c3)
  · rw [c4, d2] at he; exact absurd he (nb c c3)
  · rw [c4, d4] at he; exact hG c d c3 d3 he
theorem AX_gS (h80 : gdm Γ (8, 0, 0) = false) (h81 : gdm Γ (8, 0, 1) = false) {sz : Nat} (ha : sz ≤ a) (hb : sz ≤ b) : AX (gS a b (gwP P Γ)) sz = AX Γ sz := by
  funext q
  apply propext
  constructor
  · rintro (⟨c, hc, rfl⟩ | h)
    · by_cases e1 : c = (8, 0, 0)
      · rw [e1, gS_a0]; exact Or.inr ha
      · by_cases e2 : c = (8, 0, 1)
        · rw [e2, gS_a1]; exact Or.inr hb
        · rcases gS_dm.mp hc with h9 | h9
          · rw [gS_adr e1 e2]; exact Or.inl ⟨c, h9, rfl⟩
          · exact absurd (dm8_iff.mp h9) (fun z => z.elim e1 e2)
    · exact Or.inr h
  · rintro (⟨c, hc, rfl⟩ | h)
    · obtain ⟨e1, e2⟩ := gS_ne (Γ := Γ) h80 h81 hc
      exact Or.inl ⟨c, gS_dm.mpr (Or.inl hc), gS_adr e1 e2⟩
    · exact Or.inr h
end
abbrev xS (a b : Nat) (P : va_W) (X : JX) : JX := (X.1, X.2.1, X.2.2.1, X.2.2.2.1, X.2.2.2.2.1, X.2.2.2.2.2.1, X.2.2.2.2.2.2.1, X.2.2.2.2.2.2.2.1, X.2.2.2.2.2.2.2.2.1, X.2.2.2.2.2.2.2.2.2.1, gS a b (gwP P (XG X)), XD X, nLof X)
/-- the two cells that are opened: new, apart from the world and from each other -/
def OpS (X : JX) (a b : Nat) : Prop := (XS X).heap.size ≤ a ∧ (XS X).heap.size ≤ b ∧ a ≠ b ∧ nW (XG X) a ∧ nW (XG X) b ∧ gdm (XG X) (8, 0, 0) = false ∧ gdm (XG X) (8, 0, 1) = false
section
set_option maxHeartbeats 200000
variable {ρ : Type} {X : JX} {Z : ρ → State → Prop} {pr : Option ρ} {pc en : Nat} {lv : List (Nat × Value)} {rest st : List Value} {M : Mem} {k n : Nat} {cc : ByteArray} {own : String} {ret : Option FieldType} {fr lc mc ms : Nat} {a b : Nat} {P : va_W}
theorem JC.xS (h : JC X cc own ret fr lc mc ms) (ho : OpS X a b) : JC (xS a b P X) cc own ret fr lc mc ms := by
  obtain ⟨p, l, e, R, s, m, args, below, meth, co, Γ, D, nL⟩ := X
  obtain ⟨o1, o2, o3, o4, o5, o6, o7⟩ := ho
  obtain ⟨c1, c2, c3, c4, c5, ⟨e1, e2, e3, e4, e5⟩, c7, c8, c9, c10⟩ := h
  refine ⟨c1, c2, c3, c4, c5, ⟨e1, e2, fun q hq => ?_, ?_, ?_⟩, GOK_gS c7 o4 o5 o3, c8, c9, c10⟩
  · have h9 : gadr (gS a b (gwP P Γ)) (6, 0, q.2.2.2) = gadr Γ (6, 0, q.2.2.2) := gS_adr (fun z => by cases z) (fun z => by cases z)
    show vk_R q.1 q.2.1 q.2.2.1 (gadr (gS a b (gwP P Γ)) (6, 0, q.2.2.2)) s
    rw [h9]
    exact e3 q hq
  · show StO (gS a b (gwP P Γ)) (AX (gS a b (gwP P Γ)) s.heap.size) s s.heap
    rw [AX_gS o6 o7 o1 o2]
    intro i hi
    have h9 : gadr (gS a b (gwP P Γ)) (6, 0, i) = gadr Γ (6, 0, i) := gS_adr (fun z => by cases z) (fun z => by cases z)
    rw [h9]
    exact e4 i hi
  · show ZZ (AX (gS a b (gwP P Γ)) s.heap.size) s s.heap
    rw [AX_gS o6 o7 o1 o2]
    exact e5
theorem JT.xS (h : JT X) : JT (xS a b P X) := by
  obtain ⟨p, l, e, R, s, m, args, below, meth, co, Γ, D, nL⟩ := X
  exact h
theorem j_openS (ho : OpS X a b) {nn : Int32} {t : Nat → Int32} (hP : ∀ z ∈ P, z.1 ≠ a ∧ z.1 ≠ b) (kk : J (xS a b P X) Z pr pc lv st (mS nn t M) k n) : J (xwP ((a, sE b nn) :: (b, tE (XG X) t) :: P) X) Z pr pc lv st M k n := by
  obtain ⟨p, l, e, R, s, m, args, below, meth, co, Γ, D, nL⟩ := X
  obtain ⟨o1, o2, o3, o4, o5, o6, o7⟩ := ho
  intro r hr H locs ls hW hS hl
  refine kk r hr H locs ls (Wd.openS o6 o7 hW hP) ?_ hl
  show va_S (AX (gS a b (gwP P Γ)) s.heap.size) s.heap H locs
  rw [AX_gS o6 o7 o1 o2]
  exact hS
theorem j_closeS (ho : OpS X a b) (kk : J (xwP ((a, sE b (M (8, 0, 0) 1)) :: (b, tE (XG X) (M (8, 0, 1))) :: P) X) Z pr pc lv st M k n) : J (xS a b P X) Z pr pc lv st M k n := by
  obtain ⟨p, l, e, R, s, m, args, below, meth, co, Γ, D, nL⟩ := X
  obtain ⟨o1, o2, o3, o4, o5, o6, o7⟩ := ho
  intro r hr H locs ls hW hS hl
  refine kk r hr H locs ls (Wd.closeS o6 o7 o4 o5 hW) ?_ hl
  have hS : va_S (AX (gS a b (gwP P Γ)) s.heap.size) s.heap H locs := hS
  rw [AX_gS o6 o7 o1 o2] at hS
  exact hS
theorem jh_closeS (ho : OpS X a b) (kk : JH (xwP ((a, sE b (M (8, 0, 0) 1)) :: (b, tE (XG X) (M (8, 0, 1))) :: P) X) Z pr en pc lv rest M k n) : JH (xS a b P X) Z pr en pc lv rest M k n := by
  obtain ⟨p, l, e, R, s, m, args, below, meth, co, Γ, D, nL⟩ := X
  obtain ⟨o1, o2, o3, o4, o5, o6, o7⟩ := ho
  intro r hr H locs ls q ce hW hS hl hce hcv hcl h6
  have hS : va_S (AX (gS a b (gwP P Γ)) s.heap.size) s.heap H locs := hS
  rw [AX_gS o6 o7 o1 o2] at hS
  refine kk r hr H locs ls q ce (Wd.closeS o6 o7 o4 o5 hW) hS hl hce hcv hcl (fun h => (h6 h).trans ?_)
  exact gS_adr (fun z => by cases z) (fun z => by cases z)
end
