set_option maxRecDepth 100000
/-! how much a feather sinks and is carried: the model's side -/
/-- nothing but the stack of values was written -/
def VX (M M' : Mem) : Prop := ∀ c, c ≠ (5, 0, 8) → M' c = M c
theorem VX.refl {M : Mem} : VX M M := fun _ _ => rfl
theorem VX.trans {M M' M'' : Mem} (h : VX M M') (h' : VX M' M'') : VX M M'' := fun c hc => (h' c hc).trans (h c hc)
theorem VX_up {M M' : Mem} {k : Nat} {v : Int32} (h : VX M M') : VX M (up M' (5, 0, 8) k v) := fun c hc => (upc hc).trans (h c hc)
theorem VX.sm {M M' : Mem} (h : VX M M') : SM M M' := by
  refine ⟨fun c hc => h c (fun e => hc (by rw [e])), fun k _ => ?_, h _ (by decide), h _ (by decide), h _ (by decide), ?_, ?_, ?_, ?_⟩
  · rw [h (5, 0, 1) (by decide)]
  · rw [h (5, 0, 0) (by decide)]
  · rw [h (5, 0, 0) (by decide)]
  · rw [h (5, 0, 0) (by decide)]
  · rw [h (5, 0, 0) (by decide)]
/-- the feather that is looked at -/
def Lk (M : Mem) (b l c t : Int32) : Prop := M (5, 0, 0) 18 = b ∧ M (5, 0, 0) 19 = l ∧ M (5, 0, 0) 20 = c ∧ M (5, 0, 0) 21 = t
theorem Lk.vx {M M' : Mem} {b l c t : Int32} (h : Lk M b l c t) (hv : VX M M') : Lk M' b l c t := by
  unfold Lk
  rw [hv (5, 0, 0) (by decide)]
  exact h
theorem nI_m1 (n : Nat) : nI (n + 1) + (-1) = nI n := by
  rw [← nI_pred n, Int32.sub_eq_add_neg]
def stk (M : Mem) (st : List Int32) : Prop := ∀ j, j < st.length → some (M (5, 0, 8) j) = st[st.length - 1 - j]?
theorem stk_push {M : Mem} {st : List Int32} {v : Int32} (h : stk M st) : stk (up M (5, 0, 8) st.length v) (v :: st) := by
  intro j hj
  rw [up_at]
  rw [List.length_cons] at hj
  by_cases hj2 : j = st.length
  · subst hj2
    rw [if_pos rfl, show (v :: st).length - 1 - st.length = 0 by rw [List.length_cons]; omega]
    rfl
  · rw [if_neg hj2, h j (by omega), show (v :: st).length - 1 - j = (st.length - 1 - j) + 1 by rw [List.length_cons]; omega, List.getElem?_cons_succ]
theorem stk_pop {M : Mem} {st : List Int32} {v : Int32} (h : stk M (v :: st)) : M (5, 0, 8) st.length = v ∧ stk M st := by
  constructor
  · have := h st.length (by rw [List.length_cons]; omega)
    rw [show (v :: st).length - 1 - st.length = 0 by rw [List.length_cons]; omega] at this
    exact Option.some.inj this
  · intro j hj
    have := h j (by rw [List.length_cons]; omega)
    rwa [show (v :: st).length - 1 - j = (st.length - 1 - j) + 1 by rw [List.length_cons]; omega, List.getElem?_cons_succ] at this
section
variable {fu : Nat} {D : List LDen} {M : Mem} {b l c t : Int32}
theorem m_isOver : FX8_isOver fu D M c = some (isI c (M (5, 0, 1) 9) (M (5, 0, 1) 10), M) := by
  unfold FX8_isOver
  rw [gd_lit (by decide), gd_lit (by decide), m_in, bd_some, isI_and]
theorem m_factOf (hLk : Lk M b l c t) (hb : ∃ b', b' < 6 ∧ b = nI b') (s n : Int32) : FX8_factOf fu D M s n = some ((if s.toInt < 0 ∨ 8 ≤ s.toInt then n else FF (M (5, 0, 1)) b l c t s.toNatClampNeg), M) := by
  obtain ⟨h18, h19, h20, h21⟩ := hLk
  by_cases hs : isN s 8
  · obtain ⟨k, hk, rfl⟩ := hs
    rw [if_neg (by rw [nI_toInt (by omega)]; omega), nI_clamp (by omega)]
    obtain ⟨b', hb', rfl⟩ := hb
    unfold FX8_factOf
    rw [h18, h19, h20, h21, swt_k hk (by omega)]
    match k, hk with
    | 0, _ => rfl
    | 1, _ => rfl
    | 2, _ => rfl
    | 3, _ =>
      show bd (FX8_ofBird fu D M (nI b') (nI 1)) (fun v69 M69 => some (v69, M69)) = _
      rw [m_ofBird hb' (by decide), bd_some]
      show some (M (5, 0, 1) (26 + 4 * b' + 1), M) = some (M (5, 0, 1) (27 + 4 * (nI b').toNatClampNeg), M)
      rw [nI_clamp (by omega), show 26 + 4 * b' + 1 = 27 + 4 * b' by omega]
    | 4, _ => exact gd_lit (by decide)
    | 5, _ => rfl
    | 6, _ =>
      show gd 8 2180 (if l ≤ M (5, 0, 1) 8 / 2 then FX8_factOf_107 fu D M 0 else FX8_factOf_107 fu D M 1) = some ((if l ≤ M (5, 0, 1) 8 / 2 then 0 else 1), M)
      rw [gd_lit (by decide)]
      by_cases h : l ≤ M (5, 0, 1) 8 / 2
      · rw [if_pos h, if_pos h]; rfl
      · rw [if_neg h, if_neg h]; rfl
    | 7, _ =>
      show bd (FX8_isOver fu D M c) (fun v113 M113 => if v113 = 0 then FX8_factOf_124 fu D M113 0 else FX8_factOf_124 fu D M113 1) = some (isI c (M (5, 0, 1) 9) (M (5, 0, 1) 10), M)
      rw [m_isOver, bd_some]
      rcases isI_01 c (M (5, 0, 1) 9) (M (5, 0, 1) 10) with h | h
      · rw [h]; rfl
      · rw [h]; rfl
  · rw [if_pos]
    · unfold FX8_factOf
      rw [swt_d hs]
    · by_cases h0 : s < 0
      · exact Or.inl (Int32.lt_iff_toInt_lt.mp h0)
      · obtain ⟨j, hj, rfl⟩ := nI_of h0
        right
        rw [nI_toInt hj]
        have : 8 ≤ j := Nat.le_of_not_lt fun h1 => hs ⟨j, h1, rfl⟩
        omega
theorem ix2 (a b : Nat) : nI a + 2 * nI b = nI (a + 2 * b) := by
  rw [show (2 : Int32) = nI 2 from rfl, nI_mul, nI_add]
theorem ix4' (a b : Nat) : nI a + 4 * nI b = nI (a + 4 * b) := by
  rw [show (4 : Int32) = nI 4 from rfl, nI_mul, nI_add]
/-- one line's steps -/
theorem m_steps (hLk : Lk M b l c t) (hb : ∃ b', b' < 6 ∧ b = nI b') {k e : Nat} (hk : k < 12) (he : e ≤ 400) (hW : M (5, 0, 1) (486 + 4 * k) = nI e) (res : List Int32) (hres : res.length ≤ 1) :
    ∀ {a : Nat} (st : List Int32) (M0 : Mem), a ≤ e → st.length ≤ a → runS (M (5, 0, 1)) (FF (M (5, 0, 1)) b l c t) a (e - a) st = some res → VX M M0 → stk M0 st → ∀ {fu' : Nat}, e - a < fu' → Wp (lp (fun kn z => GX8_holdsLine_20 fu D kn z.1 z.2.1 z.2.2.1 z.2.2.2) fu' (M0, nI st.length, nI (483 + 4 * k), nI a)) (fun r => r.1 = (if res = [] ∨ res = [1] then 1 else 0) ∧ VX M r.2) := by
  intro a st M0 ha hst hrun hv hs fu' hfu'
  refine wp_lp (fun m z => ∃ a st M0, a ≤ e ∧ m = e - a ∧ st.length ≤ a ∧ runS (M (5, 0, 1)) (FF (M (5, 0, 1)) b l c t) a (e - a) st = some res ∧ VX M M0 ∧ stk M0 st ∧ z = (M0, nI st.length, nI (483 + 4 * k), nI a)) ?_ (m := e - a) hfu' ⟨a, st, M0, ha, rfl, hst, hrun, hv, hs, rfl⟩
  rintro m z kn ⟨a, st, M0, ha, rfl, hst, hrun, hv, hs, rfl⟩ ih
  have e1 : M0 (5, 0, 1) = M (5, 0, 1) := hv _ (by decide)
  show Wp (GX8_holdsLine_20 fu D kn M0 (nI st.length) (nI (483 + 4 * k)) (nI a)) _
  unfold GX8_holdsLine_20
  rw [show nI (483 + 4 * k) + 3 = nI (486 + 4 * k) by rw [show (3 : Int32) = nI 3 from rfl, nI_add]; congr 1; omega, gd_k (by omega) (by decide), nI_clamp (by omega), e1, hW]
  rcases Nat.lt_or_ge a e with h | h
  · rw [ile_f h (by omega), show (531 : Int32) + 2 * nI a = nI (531 + 2 * a) from ix2 531 a, gd_k (by omega) (by decide)]
    refine wp_lt ?_
    rw [nI_clamp (by omega)]
    obtain ⟨n, hn⟩ : ∃ n, e - a = n + 1 := ⟨e - a - 1, by omega⟩
    rw [hn] at hrun
    unfold runS at hrun
    generalize hsv : M (5, 0, 1) (531 + 2 * a) = s at hrun ⊢
    have hn2 : n = e - (a + 1) := by omega
    have next : ∀ st' M', st'.length ≤ a + 1 → runS (M (5, 0, 1)) (FF (M (5, 0, 1)) b l c t) (a + 1) n st' = some res → VX M M' → stk M' st' → Wp (FX8_holdsLine_253 fu D kn M' (nI st'.length) (nI (483 + 4 * k)) (nI a)) (fun r => r.1 = (if res = [] ∨ res = [1] then 1 else 0) ∧ VX M r.2) := by
      intro st' M' h1 h2 h3 h4
      unfold FX8_holdsLine_253
      refine wp_lt ?_
      rw [nI_1]
      exact ih (e - (a + 1)) _ (by omega) ⟨a + 1, st', M', by omega, rfl, h1, by rw [← hn2]; exact h2, h3, h4, rfl⟩
    by_cases h8 : 8 < s
    · rw [if_pos h8]
      by_cases h12 : s = 12
      · rw [if_pos h12]
        unfold step1 at hrun
        rw [if_pos h8, if_pos h12] at hrun
        match st, hst, hs, hrun with
        | [], _, _, hrun => simp at hrun
        | v :: r, hst, hs, hrun =>
          rw [List.length_cons] at hst ⊢
          have hp := stk_pop hs
          rw [nI_pred, gd_k (by omega) (by decide), gd_k (by omega) (by decide), nI_clamp (by omega), hp.1]
          refine wp_lt ?_
          have := next ((1 - v) :: r) (up M0 (5, 0, 8) r.length (1 - v)) (by rw [List.length_cons]; omega) hrun (VX_up hv) (stk_push hp.2)
          rwa [List.length_cons] at this
      · rw [if_neg h12]
        unfold step1 at hrun
        rw [if_pos h8, if_neg h12] at hrun
        match st, hst, hs, hrun with
        | [], _, _, hrun => simp at hrun
        | [_], _, _, hrun => simp at hrun
        | y :: x :: r, hst, hs, hrun =>
          rw [List.length_cons, List.length_cons] at hst ⊢
          have hp := stk_pop hs
          have hq := stk_pop hp.2
          refine wp_lt ?_
          rw [nI_m1, nI_pred, gd_k (by omega) (by decide)]
          refine wp_lt ?_
          rw [gd_k (by omega) (by decide)]
          refine wp_lt ?_
          rw [nI_clamp (by omega), nI_clamp (by omega), hq.1, show r.length + 1 = (x :: r).length from rfl, hp.1]
          have fin : ∀ v, op1 s x y = v → Wp (FX8_holdsLine_252 fu D kn M0 (nI (x :: r).length) (nI (483 + 4 * k)) (nI a) v (nI (x :: r).length - 1)) (fun r => r.1 = (if res = [] ∨ res = [1] then 1 else 0) ∧ VX M r.2) := by
            intro v hv9
            unfold FX8_holdsLine_252
            rw [show nI (x :: r).length - 1 = nI r.length from nI_pred _, gd_k (by omega) (by decide), nI_clamp (by omega)]
            refine wp_lt ?_
            have := next (v :: r) (up M0 (5, 0, 8) r.length v) (by rw [List.length_cons]; omega) (by rw [← hv9]; exact hrun) (VX_up hv) (stk_push hq.2)
            rwa [List.length_cons] at this
          have pick : ∀ v, (s ≠ 9 → op1 s x y = v) → (v = 0 ∨ v = 1) → Wp (FX8_holdsLine_218 fu D kn M0 (nI (x :: r).length) (nI (483 + 4 * k)) (nI a) s x y v) (fun r => r.1 = (if res = [] ∨ res = [1] then 1 else 0) ∧ VX M r.2) := by
            intro v hv9 h01
            unfold FX8_holdsLine_218
            by_cases h9 : s = 9
            · rw [if_pos h9]
              exact fin _ (by unfold op1; rw [if_pos h9])
            · rw [if_neg h9]
              rcases h01 with h0 | h0
              · rw [if_pos h0]; exact fin 0 (by rw [hv9 h9, h0])
              · rw [if_neg (by rw [h0]; decide)]; exact fin 1 (by rw [hv9 h9, h0])
          by_cases h10 : s = 10
          · rw [if_pos h10]
            have eo : op1 s x y = if x < y then 1 else 0 := by unfold op1; rw [if_neg (by rw [h10]; decide), if_pos h10]
            by_cases g : y ≤ x
            · rw [if_pos g]; exact pick 0 (fun _ => by rw [eo, if_neg (Int32.not_lt.mpr g)]) (Or.inl rfl)
            · rw [if_neg g]; exact pick 1 (fun _ => by rw [eo, if_pos (Int32.not_le.mp g)]) (Or.inr rfl)
          · rw [if_neg h10]
            by_cases h11 : s = 11
            · rw [if_pos h11]
              have eo : op1 s x y = if y < x then 1 else 0 := by unfold op1; rw [if_neg (by rw [h11]; decide), if_neg h10, if_pos h11]
              by_cases g : x ≤ y
              · rw [if_pos g]; exact pick 0 (fun _ => by rw [eo, if_neg (Int32.not_lt.mpr g)]) (Or.inl rfl)
              · rw [if_neg g]; exact pick 1 (fun _ => by rw [eo, if_pos (Int32.not_le.mp g)]) (Or.inr rfl)
            · rw [if_neg h11]
              by_cases h13 : s = 13
              · rw [if_pos h13]
                have eo : op1 s x y = if x + y = 2 then 1 else 0 := by unfold op1; rw [if_neg (by rw [h13]; decide), if_neg h10, if_neg h11, if_pos h13]
                by_cases g : x + y = 2
                · rw [if_pos g]; exact pick 1 (fun _ => by rw [eo, if_pos g]) (Or.inr rfl)
                · rw [if_neg g]; exact pick 0 (fun _ => by rw [eo, if_neg g]) (Or.inl rfl)
              · rw [if_neg h13]
                have eo : s ≠ 9 → op1 s x y = if 0 < x + y then 1 else 0 := fun h9 => by unfold op1; rw [if_neg h9, if_neg h10, if_neg h11, if_neg h13]
                by_cases g : x + y ≤ 0
                · rw [if_pos g]; exact pick 0 (fun h9 => by rw [eo h9, if_neg (Int32.not_lt.mpr g)]) (Or.inl rfl)
                · rw [if_neg g]; exact pick 1 (fun h9 => by rw [eo h9, if_pos (Int32.not_le.mp g)]) (Or.inr rfl)
    · rw [if_neg h8, show nI (531 + 2 * a) + 1 = nI (532 + 2 * a) by rw [nI_1]; congr 1; omega, gd_k (by omega) (by decide), nI_clamp (by omega), m_factOf (hLk.vx hv) hb, bd_some, gd_k (by omega) (by decide)]
      refine wp_lt (wp_lt ?_)
      unfold step1 at hrun
      rw [if_neg h8] at hrun
      rw [nI_clamp (by omega), nI_1, e1]
      have := next (_ :: st) (up M0 (5, 0, 8) st.length _) (by rw [List.length_cons]; omega) hrun (VX_up hv) (stk_push hs)
      rwa [List.length_cons] at this
  · obtain rfl : a = e := by omega
    rw [ile_t (Nat.le_refl _) (by omega)]
    rw [Nat.sub_self] at hrun
    have hrs : st = res := Option.some.inj hrun
    subst hrs
    match st, hres, hs with
    | [], _, _ =>
      rw [if_pos (by rfl)]
      exact wp_ok ⟨(if_pos (Or.inl rfl)).symm, hv⟩
    | [v], _, hs =>
      have hp := (stk_pop hs).1
      rw [if_neg (show ¬ nI [v].length = 0 from (by decide : ¬ nI 1 = 0)), gd_lit (by decide), show M0 (5, 0, 8) 0 = v from hp]
      by_cases g : v = 1
      · rw [if_pos g]
        exact wp_ok ⟨(if_pos (Or.inr (by rw [g]))).symm, hv⟩
      · rw [if_neg g]
        exact wp_ok ⟨(if_neg (fun q => q.elim (fun q => by cases q) (fun q => g (by cases q; rfl)))).symm, hv⟩
theorem m_holdsLine (hLk : Lk M b l c t) (hb : ∃ b', b' < 6 ∧ b = nI b') {k : Nat} (hk : k < 12) (hL : LineW (M (5, 0, 1)) k) (hfu : 400 < fu) : Wp (FX8_holdsLine fu D M (nI k)) (fun r => r.1 = (if wN (M (5, 0, 1)) (485 + 4 * k) = wN (M (5, 0, 1)) (486 + 4 * k) ∨ runS (M (5, 0, 1)) (FF (M (5, 0, 1)) b l c t) (wN (M (5, 0, 1)) (485 + 4 * k)) (wN (M (5, 0, 1)) (486 + 4 * k) - wN (M (5, 0, 1)) (485 + 4 * k)) [] = some [1] then 1 else 0) ∧ VX M r.2) := by
  obtain ⟨a, e, h1, h2, h3, h4, h5⟩ := hL
  have e1 : wN (M (5, 0, 1)) (485 + 4 * k) = a := by unfold wN; rw [h3, nI_clamp (by omega)]
  have e2 : wN (M (5, 0, 1)) (486 + 4 * k) = e := by unfold wN; rw [h4, nI_clamp (by omega)]
  rw [e1, e2]
  unfold FX8_holdsLine
  rw [show (483 : Int32) + 4 * nI k = nI (483 + 4 * k) from ix4' 483 k]
  refine wp_lt ?_
  rw [show nI (483 + 4 * k) + 2 = nI (485 + 4 * k) by rw [show (2 : Int32) = nI 2 from rfl, nI_add]; congr 1; omega, gd_k (by omega) (by decide)]
  refine wp_lt ?_
  rw [nI_clamp (by omega), h3]
  unfold FX8_holdsLine_20
  have hs0 : stk M [] := fun j hj => absurd hj (Nat.not_lt_zero j)
  have run : ∀ res : List Int32, res.length ≤ 1 → runS (M (5, 0, 1)) (FF (M (5, 0, 1)) b l c t) a (e - a) [] = some res → Wp (lp (fun kn z => GX8_holdsLine_20 fu D kn z.1 z.2.1 z.2.2.1 z.2.2.2) fu (M, 0, nI (483 + 4 * k), nI a)) (fun r => r.1 = (if res = [] ∨ res = [1] then 1 else 0) ∧ VX M r.2) := fun res hres hrun => m_steps hLk hb hk h2 h4 res hres [] M h1 (Nat.zero_le _) hrun VX.refl hs0 (by omega)
  rcases h5 with h5 | h5
  · refine wp_mono (run [] (Nat.zero_le _) (by rw [h5, Nat.sub_self]; rfl)) (fun r hr => ⟨?_, hr.2⟩)
    rw [hr.1, if_pos (Or.inl rfl), if_pos (Or.inl h5)]
  · by_cases hae : a = e
    · refine wp_mono (run [] (Nat.zero_le _) (by rw [hae, Nat.sub_self]; rfl)) (fun r hr => ⟨?_, hr.2⟩)
      rw [hr.1, if_pos (Or.inl rfl), if_pos (Or.inl hae)]
    · rcases h5 _ okF_FF with h6 | h6
      · refine wp_mono (run [1] (Nat.le_refl _) h6) (fun r hr => ⟨?_, hr.2⟩)
        rw [hr.1, if_pos (Or.inr rfl), if_pos (Or.inr h6)]
      · refine wp_mono (run [0] (Nat.le_refl _) h6) (fun r hr => ⟨?_, hr.2⟩)
        rw [hr.1, if_neg (by decide), if_neg (fun q => q.elim hae (fun q => by rw [h6] at q; simp at q))]
theorem m_sumOf (hLk : Lk M b l c t) (hb : ∃ b', b' < 6 ∧ b = nI b') (hL : LawW (M (5, 0, 1))) (hfu : 400 < fu) (kind : Int32) : Wp (FX8_sumOf fu D M kind) (fun r => r.1 = sumW (M (5, 0, 1)) (FF (M (5, 0, 1)) b l c t) kind ∧ VX M r.2) := by
  unfold FX8_sumOf FX8_sumOf_4
  rcases hL with h4 | ⟨h4, n, hn, h482, hl⟩
  · obtain ⟨fu', rfl⟩ : ∃ f, fu = f + 1 := ⟨fu - 1, by omega⟩
    show Wp (GX8_sumOf_4 _ D _ M kind 0 0) _
    unfold GX8_sumOf_4
    rw [gd_lit (by decide), if_neg h4]
    refine wp_ok ⟨?_, VX.refl⟩
    unfold sumW lnN
    rw [if_neg h4]
    rfl
  · have hN : lnN (M (5, 0, 1)) = n := by
      unfold lnN wN
      rw [if_pos h4, h482, nI_clamp (by omega)]
    refine wp_for (fun M' a k => (M', kind, a, nI k)) (sumF (M (5, 0, 1)) (FF (M (5, 0, 1)) b l c t) kind) 0 n (fun _ M' => VX M M') (fun k M' kn hk hv h => ?_) (fun M' kn hv => ?_) (by omega) VX.refl
    · have e1 : M' (5, 0, 1) = M (5, 0, 1) := hv _ (by decide)
      show Wp (GX8_sumOf_4 fu D kn M' kind _ (nI k)) _
      unfold GX8_sumOf_4
      rw [gd_lit (by decide), e1, if_pos h4, gd_lit (by decide), h482, ile_f hk (by omega), show (483 : Int32) + 4 * nI k = nI (483 + 4 * k) from ix4' 483 k, gd_k (by omega) (by decide), nI_clamp (by omega)]
      have next : ∀ M'' v, sumF (M (5, 0, 1)) (FF (M (5, 0, 1)) b l c t) kind k (it (sumF (M (5, 0, 1)) (FF (M (5, 0, 1)) b l c t) kind) 0 k) = v → VX M M'' → Wp (FX8_sumOf_67 fu D kn M'' kind v (nI k)) (fun r => r.1 = sumW (M (5, 0, 1)) (FF (M (5, 0, 1)) b l c t) kind ∧ VX M r.2) := by
        intro M'' v hv9 hv2
        subst hv9
        unfold FX8_sumOf_67
        refine wp_lt ?_
        rw [nI_1]
        exact h M'' hv2
      by_cases hk1 : M (5, 0, 1) (483 + 4 * k) = kind
      · rw [if_pos hk1]
        refine wp_bd (m_holdsLine (hLk.vx hv) hb (show k < 12 by omega) (by rw [e1]; exact hl k hk) hfu) (fun v M2 h2 => ?_)
        obtain ⟨h2, h3⟩ := h2
        rw [e1] at h2
        by_cases g : wN (M (5, 0, 1)) (485 + 4 * k) = wN (M (5, 0, 1)) (486 + 4 * k) ∨ runS (M (5, 0, 1)) (FF (M (5, 0, 1)) b l c t) (wN (M (5, 0, 1)) (485 + 4 * k)) (wN (M (5, 0, 1)) (486 + 4 * k) - wN (M (5, 0, 1)) (485 + 4 * k)) [] = some [1]
        · rw [if_pos g] at h2
          have h2 : v = 1 := h2
          rw [h2, if_neg (by decide), show nI (483 + 4 * k) + 1 = nI (484 + 4 * k) by rw [nI_1]; congr 1; omega, gd_k (by omega) (by decide)]
          refine wp_lt ?_
          rw [nI_clamp (by omega), show M2 (5, 0, 1) = M (5, 0, 1) from (h3 _ (by decide)).trans e1]
          exact next M2 _ (sumF_t hk1 g) (hv.trans h3)
        · rw [if_neg g] at h2
          have h2 : v = 0 := h2
          rw [h2, if_pos rfl]
          exact next M2 _ (sumF_n g) (hv.trans h3)
      · rw [if_neg hk1]
        exact next M' _ (sumF_k hk1) hv
    · have e1 : M' (5, 0, 1) = M (5, 0, 1) := hv _ (by decide)
      show Wp (GX8_sumOf_4 fu D kn M' kind _ (nI n)) _
      unfold GX8_sumOf_4
      rw [gd_lit (by decide), e1, if_pos h4, gd_lit (by decide), h482, ile_t (Nat.le_refl _) (by omega)]
      refine wp_ok ⟨?_, hv⟩
      unfold sumW
      rw [hN]
theorem m_sinks (hLk : Lk M b l c t) (hb : ∃ b', b' < 6 ∧ b = nI b') (hL : LawW (M (5, 0, 1))) (hfu : 400 < fu) : Wp (FX8_sinks fu D M) (fun r => r.1 = sinksW (M (5, 0, 1)) b l c t ∧ VX M r.2) := by
  obtain ⟨b', hb6, hbe⟩ := hb
  unfold FX8_sinks
  rw [hLk.1, hbe, show (0 : Int32) = nI 0 from rfl, m_ofBird hb6 (by decide), bd_some]
  refine wp_bd (m_sumOf hLk ⟨b', hb6, hbe⟩ hL hfu _) (fun v M1 h1 => ?_)
  dsimp only at h1
  have e1 : M1 (5, 0, 1) = M (5, 0, 1) := h1.2 _ (by decide)
  refine wp_bd (m_sumOf (hLk.vx h1.2) ⟨b', hb6, hbe⟩ (by rw [e1]; exact hL) hfu _) (fun v2 M2 h2 => ?_)
  dsimp only at h2
  refine wp_lt (wp_ok ⟨?_, h1.2.trans h2.2⟩)
  have g1 := h1.1
  have g2 := h2.1
  rw [e1] at g2
  show mx 0 (mn 12 (_ + v - v2)) = _
  rw [show v = _ from g1, show v2 = _ from g2]
  unfold sinksW
  rw [hbe, nI_clamp (by omega)]
  rfl
theorem m_carries (hLk : Lk M b l c t) (hb : ∃ b', b' < 6 ∧ b = nI b') (hl : ∃ l', l' < 13 ∧ l = nI l') (hL : LawW (M (5, 0, 1))) (hfu : 400 < fu) : Wp (FX8_carries fu D M) (fun r => r.1 = carW (M (5, 0, 1)) b l c t ∧ VX M r.2) := by
  obtain ⟨b', hb6, hbe⟩ := hb
  obtain ⟨l', hl6, hle⟩ := hl
  unfold FX8_carries
  rw [hLk.1, hLk.2.1, hbe, hle, show (13 : Int32) + nI l' = nI (13 + l') from nI_add 13 l', gd_k (by omega) (by decide), show (1 : Int32) = nI 1 from rfl, m_ofBird hb6 (by decide), bd_some, nI_clamp (by omega)]
  refine wp_bd (m_sumOf hLk ⟨b', hb6, hbe⟩ hL hfu _) (fun v M1 h1 => ?_)
  dsimp only at h1
  have e1 : M1 (5, 0, 1) = M (5, 0, 1) := h1.2 _ (by decide)
  refine wp_bd (m_sumOf (hLk.vx h1.2) ⟨b', hb6, hbe⟩ (by rw [e1]; exact hL) hfu _) (fun v2 M2 h2 => ?_)
  dsimp only at h2
  refine wp_ok ⟨?_, h1.2.trans h2.2⟩
  have g1 := h1.1
  have g2 := h2.1
  rw [e1] at g2
  show M (5, 0, 1) (13 + l') * _ + v - v2 = _
  rw [show v = _ from g1, show v2 = _ from g2]
  unfold carW
  rw [hbe, hle, nI_clamp (by omega), nI_clamp (by omega), show 26 + 4 * b' + 1 = 27 + 4 * b' by omega]
theorem m_looks : FX8_looks fu D M b l c t = some (0, up (up (up (up M (5, 0, 0) 18 b) (5, 0, 0) 19 l) (5, 0, 0) 20 c) (5, 0, 0) 21 t) := rfl
theorem Lk_looks : Lk (up (up (up (up M (5, 0, 0) 18 b) (5, 0, 0) 19 l) (5, 0, 0) 20 c) (5, 0, 0) 21 t) b l c t := by
  unfold Lk
  simp [up_at]
end
