set_option maxRecDepth 100000
/-! all ways of a feather: the model's side -/
/-- the model's scratch but the goods -/
def TN (M M' : Mem) : Prop := TM M M' ∧ M' (5, 0, 14) = M (5, 0, 14)
theorem TN.refl {M : Mem} : TN M M := ⟨TM.refl, rfl⟩
theorem TN.trans {M M' M'' : Mem} (h : TN M M') (h' : TN M' M'') : TN M M'' := ⟨h.1.trans h'.1, h'.2.trans h.2⟩
theorem mne {i j : Nat} (h : i ≠ j) : ((5, 0, i) : CId) ≠ (5, 0, j) := fun e => h (congrArg (fun c : CId => c.2.2) e)
theorem TN_up {M M' : Mem} {i k : Nat} {v : Int32} (h : TN M M') (hi : 8 ≤ i) (h14 : i ≠ 14) : TN M (up M' (5, 0, i) k v) := ⟨TM_up h.1 hi, (upc (mne (fun e => h14 e.symm))).trans h.2⟩
theorem TN_up0 {M M' : Mem} {k : Nat} {v : Int32} (h : TN M M') (hk : 18 ≤ k) : TN M (up M' (5, 0, 0) k v) := ⟨TM_up0 h.1 hk, (upc (by decide)).trans h.2⟩
theorem VX.tn {M M' : Mem} (h : VX M M') : TN M M' := ⟨h.tm, h _ (by decide)⟩
theorem TN_clr {M M' : Mem} {i n : Nat} (h : TN M M') (hi : 8 ≤ i) (h14 : i ≠ 14) : TN M (clr M' (5, 0, i) n) := by
  refine ⟨⟨fun c hc => (clr_c (fun e => hc (by rw [e]))).trans (h.1.1 c hc), fun j h1 h2 => (clr_c (mne (by omega))).trans (h.1.2.1 j h1 h2), fun j hj => ?_⟩, (clr_c (mne (fun e => h14 e.symm))).trans h.2⟩
  rw [clr_c (mne (by omega))]
  exact h.1.2.2 j hj
def MX (M0 : Mem) (b : Nat) (here : Nat → Int32) (S : WS) (M : Mem) : Prop :=
  TN M0 M ∧ M (5, 0, 0) 18 = nI b ∧ (∀ j, j < 208 → M (5, 0, 9) j = here j) ∧ (∀ j, j < 208 → M (5, 0, 10) j = S.1 j) ∧ (∀ j, j < 128 → M (5, 0, 11) (16 + j) = S.2.1 j) ∧ (M (5, 0, 0) 25 = S.2.2 ∧ M (5, 0, 0) 26 = 0)
def MR (M0 : Mem) (W : Wd0) (b : Nat) (M : Mem) : Prop :=
  TN M0 M ∧ M (5, 0, 0) 25 = (waysW W b 8).2.2 ∧ M (5, 0, 0) 26 = airW (waysW W b 8).1 ∧ (∀ j, j < 128 → M (5, 0, 11) (16 + j) = (waysW W b 8).2.1 j)
/-- nothing ever lies at the ground -/
def lowS (f : Nat → Int32) : Prop := ∀ j, j < 16 → f j = 0
theorem gust_low {W : Wd0} {b l c t : Nat} {left h g : Int32} {S : WS} (hl : l ≤ 12) (hS : lowS S.1) : lowS (gustW W b l c t left h g S).1 := by
  unfold gustW
  by_cases h0 : isI (atW W b l c t g) 0 15 = 0
  · rw [if_pos h0]; exact hS
  · rw [if_neg h0]
    by_cases h1 : 0 < toW W b l c t
    · rw [if_pos h1]
      intro j hj
      obtain ⟨l1, q1, q2, q3⟩ := to_pos hl h1
      show addAt S.1 _ h j = 0
      rw [q3, nI_clamp (by omega)]
      unfold addAt
      rw [if_neg (by omega)]
      exact hS j hj
    · rw [if_neg h1]; exact hS
theorem cell_low {W : Wd0} {b t k : Nat} {left : Int32} {here : Nat → Int32} {S : WS} (hk : k < 208) (hS : lowS S.1) : lowS (cellW W b t left here k S).1 := by
  unfold cellW
  by_cases h : here k ≤ 0
  · rw [if_pos h]; exact hS
  · rw [if_neg h]
    unfold goesW
    exact gust_low (by omega) (gust_low (by omega) (gust_low (by omega) hS))
theorem ways_low {W : Wd0} {b : Nat} (hI : Inv W) : ∀ n, lowS (waysW W b n).1
  | 0 => fun j hj => by
    obtain ⟨t1, -⟩ := top_in hI
    show here0 W j = 0
    unfold here0
    exact if_neg (by omega)
  | n + 1 => by
    show lowS (breathW W b n (waysW W b n)).1
    generalize waysW W b n = S
    unfold breathW
    have key : ∀ m, m ≤ 192 → lowS (it (fun j => cellW W b n (leftW n) S.1 (16 + j)) (fun _ => 0, S.2.1, S.2.2) m).1 := by
      intro m
      induction m with
      | zero => intro _ j hj; rfl
      | succ m ih => intro hm; exact cell_low (by omega) (ih (by omega))
    exact key 192 (Nat.le_refl _)
theorem sumI_split (f : Nat → Int32) (a : Nat) : ∀ n, sumI f (a + n) = sumI f a + sumI (fun j => f (a + j)) n
  | 0 => by show sumI f a = sumI f a + 0; grind
  | n + 1 => by
    show sumI f (a + n) + f (a + n) = sumI f a + (sumI (fun j => f (a + j)) n + f (a + n))
    rw [sumI_split f a n]
    grind
theorem air_eq {here : Nat → Int32} (h : lowS here) : sumI here 208 = airW here := by
  rw [show 208 = 16 + 192 from rfl, sumI_split, sumI_congr (g := fun _ => 0) (n := 16) h, sumI_0]
  unfold airW
  grind
section
variable {fu : Nat} {D : List LDen} {M M0 : Mem} {b : Nat} {here : Nat → Int32}
theorem m_waysLeft (hfu : 8 < fu) {k : Nat} (hk : k ≤ 8) : FX8_waysLeft fu D M (nI k) = some (nI (3 ^ (8 - k)), M) := by
  unfold FX8_waysLeft FX8_waysLeft_4
  have key : ∀ n k f1, k + n = 8 → n < f1 → ∀ p, lp (fun kn z => GX8_waysLeft_4 fu D kn z.1 z.2.1 z.2.2) f1 (M, nI p, nI k) = some (nI (p * 3 ^ n), M) := by
    intro n
    induction n with
    | zero =>
      intro k f1 h1 h2 p
      obtain ⟨f, rfl⟩ : ∃ f, f1 = f + 1 := ⟨f1 - 1, by omega⟩
      obtain rfl : k = 8 := h1
      show GX8_waysLeft_4 fu D _ M (nI p) (nI 8) = _
      unfold GX8_waysLeft_4
      rw [if_pos (by decide), Nat.pow_zero, Nat.mul_one]
    | succ n ih =>
      intro k f1 h1 h2 p
      obtain ⟨f, rfl⟩ : ∃ f, f1 = f + 1 := ⟨f1 - 1, by omega⟩
      show GX8_waysLeft_4 fu D _ M (nI p) (nI k) = _
      unfold GX8_waysLeft_4
      rw [show (8 : Int32) = nI 8 from rfl, ile_f (by omega) (by decide)]
      show lp (fun kn z => GX8_waysLeft_4 fu D kn z.1 z.2.1 z.2.2) f (M, nI p * 3, nI k + 1) = _
      rw [nI_1, show nI p * 3 = nI (p * 3) from nI_mul p 3]
      have := ih (k + 1) f (by omega) (by omega) (p * 3)
      rw [Nat.pow_succ, show p * (3 ^ n * 3) = p * 3 * 3 ^ n by rw [Nat.mul_comm (3 ^ n) 3, Nat.mul_assoc]]
      exact this
  have := key (8 - k) k fu (by omega) (by omega) 1
  rw [Nat.one_mul] at this
  exact this
theorem m_gust {S : WS} {l c t : Nat} {h g : Int32} {Q : Int32 × Mem → Prop} {kn : Mem × Int32 × Int32 × Int32 × Int32 × Int32 × Int32 → Option (Int32 × Mem)} (hfu : 8 < fu) (hb : b < 6) (hX : MX M0 b here S M) (hl : l ≤ 12) (hc : c < 16) (ht : t < 8) (hg : ¬ 1 < g)
    (hk : ∀ M', MX M0 b here (gustW (M0 (5, 0, 1)) b l c t (leftW t) h g S) M' → Wp (kn (M', nI c, nI t, h, toW (M0 (5, 0, 1)) b l c t, carW (M0 (5, 0, 1)) (nI b) (nI l) (nI c) (nI t), g + 1)) Q) :
    Wp (GX8_goesOn_40 fu D kn M (nI c) (nI t) h (toW (M0 (5, 0, 1)) b l c t) (carW (M0 (5, 0, 1)) (nI b) (nI l) (nI c) (nI t)) g) Q := by
  have hw : M (5, 0, 1) = M0 (5, 0, 1) := hX.1.1.w
  unfold GX8_goesOn_40
  rw [if_neg hg, hX.2.1, m_drift hb, bd_some, hw]
  refine wp_lt ?_
  rw [show nI c + carW (M0 (5, 0, 1)) (nI b) (nI l) (nI c) (nI t) + driftW (M0 (5, 0, 1)) b g = atW (M0 (5, 0, 1)) b l c t g from rfl, m_noCol, bd_some, nI_1]
  have next : ∀ M', MX M0 b here (gustW (M0 (5, 0, 1)) b l c t (leftW t) h g S) M' → Wp (FX8_goesOn_143 fu D kn M' (nI c) (nI t) h (toW (M0 (5, 0, 1)) b l c t) (carW (M0 (5, 0, 1)) (nI b) (nI l) (nI c) (nI t)) g) Q := fun M' hM' => hk M' hM'
  have hleft : nI (3 ^ (8 - (t + 1))) = leftW t := by unfold leftW; rw [show 8 - (t + 1) = 7 - t by omega]
  obtain ⟨w1, w2, w3, w4, w5, w6⟩ := hX
  rcases at_cases (atW (M0 (5, 0, 1)) b l c t g) with ⟨h0, h1⟩ | ⟨h0, h1, h2, a, ha, ea⟩
  · rw [h0, if_neg (by decide), m_waysLeft hfu (by omega), bd_some, hleft]
    refine wp_lt (next _ ?_)
    unfold gustW
    rw [if_pos h0]
    refine ⟨TN_up0 w1 (by decide), (upn (by decide)).trans w2, fun j hj => ?_, fun j hj => ?_, fun j hj => ?_, ?_, (upn (by decide)).trans w6.2⟩
    · rw [upc (by decide)]; exact w3 j hj
    · rw [upc (by decide)]; exact w4 j hj
    · rw [upc (by decide)]; exact w5 j hj
    · rw [up_at, if_pos rfl, w6.1]
  · rw [h0, if_pos (by decide)]
    by_cases hto : 0 < toW (M0 (5, 0, 1)) b l c t
    · rw [if_pos hto]
      obtain ⟨l1, q1, q2, q3⟩ := to_pos hl hto
      unfold FX8_at
      rw [q3, ea, ix16, bd_some, gd_k (by omega) (by decide), gd_k (by omega) (by decide), ← q3]
      refine wp_lt (next _ ?_)
      unfold gustW
      rw [if_neg (by rw [h0]; decide), if_pos hto, q3, ea, nI_clamp (by omega), nI_clamp (by omega), nI_clamp (by omega)]
      refine ⟨TN_up w1 (by decide) (by decide), ?_, fun j hj => ?_, fun j hj => ?_, fun j hj => ?_, ?_⟩
      · rw [upc (by decide)]; exact w2
      · rw [upc (by decide)]; exact w3 j hj
      · rw [up_at]
        dsimp only [addAt]
        by_cases h : j = 16 * l1 + a
        · rw [if_pos h, if_pos h, h, w4 _ (by omega)]
        · rw [if_neg h, if_neg h]; exact w4 j hj
      · rw [upc (by decide)]; exact w5 j hj
      · rw [upc (by decide)]; exact w6
    · rw [if_neg hto, ea, ix16, gd_k (by omega) (by decide), m_waysLeft hfu (by omega), bd_some, hleft, gd_k (by omega) (by decide)]
      refine wp_lt (next _ ?_)
      unfold gustW
      rw [if_neg (by rw [h0]; decide), if_neg hto, ea, nI_clamp (by omega), nI_clamp (by omega)]
      refine ⟨TN_up w1 (by decide) (by decide), ?_, fun j hj => ?_, fun j hj => ?_, fun j hj => ?_, ?_⟩
      · rw [upc (by decide)]; exact w2
      · rw [upc (by decide)]; exact w3 j hj
      · rw [upc (by decide)]; exact w4 j hj
      · rw [up_at]
        dsimp only [addAt]
        by_cases h : j = 16 * t + a
        · rw [if_pos (by omega), if_pos h, h, ← w5 _ (by omega), show 16 * (t + 1) + a = 16 + (16 * t + a) by omega]
        · rw [if_neg (by omega), if_neg h]; exact w5 j hj
      · rw [upc (by decide)]; exact w6
theorem m_goes {S : WS} {l c t : Nat} (hfu : 400 < fu) (hb : b < 6) (hL : LawW (M0 (5, 0, 1))) (hX : MX M0 b here S M) (hl : l ≤ 12) (hc : c < 16) (ht : t < 8) : Wp (FX8_goesOn fu D M (nI l) (nI c) (nI t)) (fun r => MX M0 b here (goesW (M0 (5, 0, 1)) b l c t (leftW t) (here (16 * l + c)) S) r.2) := by
  have hw : M (5, 0, 1) = M0 (5, 0, 1) := hX.1.1.w
  unfold FX8_goesOn FX8_at
  rw [ix16, bd_some, gd_k (by omega) (by decide), nI_clamp (by omega), hX.2.2.1 _ (by omega)]
  refine wp_lt ?_
  rw [hX.2.1, m_looks, bd_some]
  have h1 : MX M0 b here S (up (up (up (up M (5, 0, 0) 18 (nI b)) (5, 0, 0) 19 (nI l)) (5, 0, 0) 20 (nI c)) (5, 0, 0) 21 (nI t)) := by
    obtain ⟨w1, w2, w3, w4, w5, w6⟩ := hX
    have e : ∀ i, i ≠ 0 → up (up (up (up M (5, 0, 0) 18 (nI b)) (5, 0, 0) 19 (nI l)) (5, 0, 0) 20 (nI c)) (5, 0, 0) 21 (nI t) (5, 0, i) = M (5, 0, i) := fun i hi => by rw [upc (mne hi), upc (mne hi), upc (mne hi), upc (mne hi)]
    have e0 : ∀ j, 22 ≤ j → up (up (up (up M (5, 0, 0) 18 (nI b)) (5, 0, 0) 19 (nI l)) (5, 0, 0) 20 (nI c)) (5, 0, 0) 21 (nI t) (5, 0, 0) j = M (5, 0, 0) j := fun j hj => by rw [upn (by omega), upn (by omega), upn (by omega), upn (by omega)]
    refine ⟨TN_up0 (TN_up0 (TN_up0 (TN_up0 w1 (by decide)) (by decide)) (by decide)) (by decide), Lk_looks.1, fun j hj => ?_, fun j hj => ?_, fun j hj => ?_, (e0 25 (by decide)).trans w6.1, (e0 26 (by decide)).trans w6.2⟩
    · rw [e 9 (by decide)]; exact w3 j hj
    · rw [e 10 (by decide)]; exact w4 j hj
    · rw [e 11 (by decide)]; exact w5 j hj
  have hLk : Lk (up (up (up (up M (5, 0, 0) 18 (nI b)) (5, 0, 0) 19 (nI l)) (5, 0, 0) 20 (nI c)) (5, 0, 0) 21 (nI t)) (nI b) (nI l) (nI c) (nI t) := Lk_looks
  generalize up (up (up (up M (5, 0, 0) 18 (nI b)) (5, 0, 0) 19 (nI l)) (5, 0, 0) 20 (nI c)) (5, 0, 0) 21 (nI t) = M1 at h1 hLk ⊢
  have step : ∀ {M1 M2 : Mem}, MX M0 b here S M1 → VX M1 M2 → MX M0 b here S M2 := fun {M1 M2} h hs => by
    obtain ⟨w1, w2, w3, w4, w5, w6⟩ := h
    unfold MX
    rw [hs (5, 0, 0) (by decide), hs (5, 0, 9) (by decide), hs (5, 0, 10) (by decide), hs (5, 0, 11) (by decide)]
    exact ⟨w1.trans hs.tn, w2, w3, w4, w5, w6⟩
  refine wp_bd (m_sinks hLk ⟨b, hb, rfl⟩ (by rw [h1.1.1.w]; exact hL) hfu) (fun v1 M2 g1 => ?_)
  dsimp only at g1
  rw [h1.1.1.w] at g1
  have h2 := step h1 g1.2
  rw [g1.1]
  refine wp_lt ?_
  refine wp_bd (m_carries (hLk.vx g1.2) ⟨b, hb, rfl⟩ ⟨l, by omega, rfl⟩ (by rw [h2.1.1.w]; exact hL) hfu) (fun v2 M3 g2 => ?_)
  dsimp only at g2
  rw [h2.1.1.w] at g2
  have h3 := step h2 g2.2
  rw [g2.1, show nI l - sinksW (M0 (5, 0, 1)) (nI b) (nI l) (nI c) (nI t) = toW (M0 (5, 0, 1)) b l c t from rfl]
  obtain ⟨f, hf⟩ : ∃ f, fu = f + 4 := ⟨fu - 4, by omega⟩
  unfold FX8_goesOn_40
  have un : ∀ (n : Nat) (M' : Mem) (g : Int32) (Q : Int32 × Mem → Prop), Wp (GX8_goesOn_40 fu D (lp (fun kn z => GX8_goesOn_40 fu D kn z.1 z.2.1 z.2.2.1 z.2.2.2.1 z.2.2.2.2.1 z.2.2.2.2.2.1 z.2.2.2.2.2.2) n) M' (nI c) (nI t) (here (16 * l + c)) (toW (M0 (5, 0, 1)) b l c t) (carW (M0 (5, 0, 1)) (nI b) (nI l) (nI c) (nI t)) g) Q → Wp (lp (fun kn z => GX8_goesOn_40 fu D kn z.1 z.2.1 z.2.2.1 z.2.2.2.1 z.2.2.2.2.1 z.2.2.2.2.2.1 z.2.2.2.2.2.2) (n + 1) (M', nI c, nI t, here (16 * l + c), toW (M0 (5, 0, 1)) b l c t, carW (M0 (5, 0, 1)) (nI b) (nI l) (nI c) (nI t), g)) Q := fun n M' g Q h => h
  rw [show lp (fun kn z => GX8_goesOn_40 fu D kn z.1 z.2.1 z.2.2.1 z.2.2.2.1 z.2.2.2.2.1 z.2.2.2.2.2.1 z.2.2.2.2.2.2) fu = lp (fun kn z => GX8_goesOn_40 fu D kn z.1 z.2.1 z.2.2.1 z.2.2.2.1 z.2.2.2.2.1 z.2.2.2.2.2.1 z.2.2.2.2.2.2) (f + 4) by rw [← hf]]
  refine un _ _ _ _ (m_gust (by omega) hb h3 hl hc ht (by decide) (fun M4 h4 => ?_))
  rw [show (-1 : Int32) + 1 = 0 by decide]
  refine un _ _ _ _ (m_gust (by omega) hb h4 hl hc ht (by decide) (fun M5 h5 => ?_))
  rw [show (0 : Int32) + 1 = 1 by decide]
  refine un _ _ _ _ (m_gust (by omega) hb h5 hl hc ht (by decide) (fun M6 h6 => ?_))
  rw [show (1 : Int32) + 1 = 2 by decide]
  refine un _ _ _ _ ?_
  unfold GX8_goesOn_40
  rw [if_pos (by decide)]
  exact wp_ok h6
/-- one cell -/
theorem m_cell {S : WS} {l c t : Nat} (hfu : 400 < fu) (hb : b < 6) (hL : LawW (M0 (5, 0, 1))) (hX : MX M0 b here S M) (hl : l ≤ 12) (hc : c < 16) (ht : t < 8) {kn123 : Mem × Int32 × Int32 × Int32 → Option (Int32 × Mem)} {kn114 : Mem × Int32 × Int32 → Option (Int32 × Mem)} {Q : Int32 × Mem → Prop}
    (hn : ∀ M', MX M0 b here (cellW (M0 (5, 0, 1)) b t (leftW t) here (16 * l + c) S) M' → Wp (kn123 (M', nI t, nI l, nI (c + 1))) Q) : Wp (GX8_laysWays_123 fu D kn123 kn114 M (nI t) (nI l) (nI c)) Q := by
  unfold GX8_laysWays_123
  have next : ∀ M', MX M0 b here (cellW (M0 (5, 0, 1)) b t (leftW t) here (16 * l + c) S) M' → Wp (FX8_laysWays_152 fu D kn123 M' (nI t) (nI l) (nI c)) Q := fun M' h => by
    unfold FX8_laysWays_152
    refine wp_lt ?_
    rw [nI_1]
    exact hn M' h
  unfold FX8_at
  rw [show (16 : Int32) = nI 16 from rfl, ile_f hc (by decide), show nI 16 * nI l + nI c = nI (16 * l + c) from ix16 l c, bd_some, gd_k (by omega) (by decide), nI_clamp (by omega), hX.2.2.1 _ (by omega)]
  unfold cellW at next
  by_cases h : here (16 * l + c) ≤ 0
  · rw [if_pos h] at next
    rw [if_pos (show here (16 * l + c) ≤ 0 from h)]
    exact next M hX
  · rw [if_neg h] at next
    rw [if_neg (show ¬ here (16 * l + c) ≤ 0 from h)]
    refine wp_bd (m_goes hfu hb hL hX hl hc ht) (fun v M1 h1 => next M1 ?_)
    dsimp only at h1
    rwa [show (16 * l + c) / 16 = l by omega, show (16 * l + c) % 16 = c by omega]
/-- all cells of a breath -/
theorem m_cells {S : WS} {t : Nat} (hfu : 400 < fu) (hb : b < 6) (hL : LawW (M0 (5, 0, 1))) (hX : MX M0 b here S M) (ht : t < 8) {kn84 : Mem × Int32 → Option (Int32 × Mem)} {Q : Int32 × Mem → Prop}
    (hn : ∀ M', MX M0 b here (it (fun j => cellW (M0 (5, 0, 1)) b t (leftW t) here (16 + j)) S 192) M' → Wp (FX8_laysWays_166 fu D kn84 M' (nI t) 0) Q) : Wp (FX8_laysWays_114 fu D kn84 M (nI t) 1) Q := by
  unfold FX8_laysWays_114
  refine wp_for (fun M' (_ : Unit) k => (M', nI t, nI (1 + k))) (fun _ u => u) () 12 (fun k M' => MX M0 b here (it (fun j => cellW (M0 (5, 0, 1)) b t (leftW t) here (16 + j)) S (16 * k)) M') (fun k M' kn hk hH hk2 => ?_) (fun M' kn hH => ?_) (show 12 < fu by omega) hX
  · show Wp (GX8_laysWays_114 fu D kn kn84 M' (nI t) (nI (1 + k))) _
    unfold GX8_laysWays_114
    rw [show (13 : Int32) = nI 13 from rfl, ile_f (by omega) (by decide)]
    unfold FX8_laysWays_123
    refine wp_for (fun M' (_ : Unit) c => (M', nI t, nI (1 + k), nI c)) (fun _ u => u) () 16 (fun c M' => MX M0 b here (it (fun j => cellW (M0 (5, 0, 1)) b t (leftW t) here (16 + j)) S (16 * k + c)) M') (fun c M2 kn2 hc hH2 hn2 => ?_) (fun M2 kn2 hH2 => ?_) (show 16 < fu by omega) hH
    · show Wp (GX8_laysWays_123 fu D kn2 kn M2 (nI t) (nI (1 + k)) (nI c)) _
      refine m_cell hfu hb hL hH2 (by omega) hc ht (fun M3 h3 => hn2 M3 ?_)
      rw [show 16 * (1 + k) + c = 16 + (16 * k + c) by omega] at h3
      exact h3
    · show Wp (GX8_laysWays_123 fu D kn2 kn M2 (nI t) (nI (1 + k)) (nI 16)) _
      unfold GX8_laysWays_123
      rw [if_pos (by decide)]
      refine wp_lt ?_
      rw [nI_1]
      exact hk2 M2 hH2
  · show Wp (GX8_laysWays_114 fu D kn kn84 M' (nI t) (nI (1 + 12))) _
    unfold GX8_laysWays_114
    rw [if_pos (by decide)]
    exact hn M' hH
theorem m_air {Q : Int32 × Mem → Prop} (hfu : 400 < fu) (h9 : ∀ j, j < 208 → M (5, 0, 9) j = here j) (h26 : M (5, 0, 0) 26 = 0) (hQ : ∀ M', (∀ c, c ≠ (5, 0, 0) → M' c = M c) → (∀ k, k ≠ 26 → M' (5, 0, 0) k = M (5, 0, 0) k) → M' (5, 0, 0) 26 = sumI here 208 → Q (0, M')) : Wp (FX8_laysWays_199 fu D M 0) Q := by
  unfold FX8_laysWays_199
  refine wp_for (fun M' (_ : Unit) k => (M', nI k)) (fun _ u => u) () 208 (fun k M' => (∀ c, c ≠ (5, 0, 0) → M' c = M c) ∧ (∀ k, k ≠ 26 → M' (5, 0, 0) k = M (5, 0, 0) k) ∧ M' (5, 0, 0) 26 = sumI here k) (fun k M' kn hk hH hn => ?_) (fun M' kn hH => ?_) (show 208 < fu by omega) ⟨fun _ _ => rfl, fun _ _ => rfl, h26⟩
  · show Wp (GX8_laysWays_199 fu D kn M' (nI k)) _
    unfold GX8_laysWays_199
    rw [show (208 : Int32) = nI 208 from rfl, ile_f (by omega) (by decide), gd_k (by omega) (by decide), nI_clamp (by omega)]
    refine wp_lt (wp_lt ?_)
    rw [nI_1]
    refine hn _ ⟨fun c hc => (upc hc).trans (hH.1 c hc), fun j hj => (upn hj).trans (hH.2.1 j hj), ?_⟩
    rw [up_at, if_pos rfl, hH.2.2, hH.1 _ (by decide), h9 _ (by omega)]
    rfl
  · show Wp (GX8_laysWays_199 fu D kn M' (nI 208)) _
    unfold GX8_laysWays_199
    rw [if_pos (by decide)]
    exact wp_ok (hQ M' hH.1 hH.2.1 hH.2.2)
/-- behind a breath: what comes next is what is here -/
theorem m_copy {S : WS} {t : Nat} (hfu : 400 < fu) (hX : MX M0 b here S M) {kn84 : Mem × Int32 → Option (Int32 × Mem)} {Q : Int32 × Mem → Prop}
    (hn : ∀ M', MX M0 b S.1 (M' (5, 0, 10), S.2.1, S.2.2) M' → Wp (kn84 (M', nI (t + 1))) Q) : Wp (FX8_laysWays_166 fu D kn84 M (nI t) 0) Q := by
  unfold FX8_laysWays_166
  refine wp_for (fun M' (_ : Unit) k => (M', nI t, nI k)) (fun _ u => u) () 208 (fun k M' => TN M0 M' ∧ (∀ c, c ≠ (5, 0, 9) → M' c = M c) ∧ (∀ j, j < k → M' (5, 0, 9) j = S.1 j)) (fun k M' kn hk hH hn => ?_) (fun M' kn hH => ?_) (show 208 < fu by omega) ⟨hX.1, fun _ _ => rfl, fun j hj => absurd hj (Nat.not_lt_zero j)⟩
  · show Wp (GX8_laysWays_166 fu D kn kn84 M' (nI t) (nI k)) _
    unfold GX8_laysWays_166
    rw [show (208 : Int32) = nI 208 from rfl, ile_f (by omega) (by decide), gd_k (by omega) (by decide), gd_k (by omega) (by decide), nI_clamp (by omega)]
    refine wp_lt (wp_lt ?_)
    rw [nI_1]
    refine hn _ ⟨TN_up hH.1 (by decide) (by decide), fun c hc => (upc hc).trans (hH.2.1 c hc), fun j hj => ?_⟩
    rw [up_at]
    by_cases h : j = k
    · rw [if_pos h, hH.2.1 _ (by decide), hX.2.2.2.1 k (by omega), h]
    · rw [if_neg h]; exact hH.2.2 j (by omega)
  · show Wp (GX8_laysWays_166 fu D kn kn84 M' (nI t) (nI 208)) _
    unfold GX8_laysWays_166
    rw [if_pos (by decide)]
    refine wp_lt ?_
    rw [nI_1]
    refine hn M' ⟨hH.1, ?_, hH.2.2, fun j hj => rfl, fun j hj => ?_, ?_⟩
    · rw [hH.2.1 _ (by decide)]; exact hX.2.1
    · rw [hH.2.1 _ (by decide)]; exact hX.2.2.2.2.1 j hj
    · rw [hH.2.1 _ (by decide)]; exact hX.2.2.2.2.2
theorem m_breaths (hfu : 400 < fu) (hb : b < 6) (hI : Inv (M0 (5, 0, 1))) (hL : LawW (M0 (5, 0, 1))) (hM : MX M0 b (waysW (M0 (5, 0, 1)) b 0).1 (M (5, 0, 10), (waysW (M0 (5, 0, 1)) b 0).2.1, (waysW (M0 (5, 0, 1)) b 0).2.2) M) : Wp (FX8_laysWays_84 fu D M 0) (fun r => MR M0 (M0 (5, 0, 1)) b r.2) := by
  unfold FX8_laysWays_84
  refine wp_lp (fun m z => ∃ t M, t ≤ 8 ∧ m = 8 - t ∧ MX M0 b (waysW (M0 (5, 0, 1)) b t).1 (M (5, 0, 10), (waysW (M0 (5, 0, 1)) b t).2.1, (waysW (M0 (5, 0, 1)) b t).2.2) M ∧ z = (M, nI t)) ?_ (m := 8) (by omega) ⟨0, M, by omega, rfl, hM, rfl⟩
  rintro m z kn ⟨t, M, ht, rfl, hM, rfl⟩ ih
  show Wp (GX8_laysWays_84 fu D kn M (nI t)) _
  unfold GX8_laysWays_84
  rcases Nat.lt_or_ge t 8 with h | h
  · rw [show (8 : Int32) = nI 8 from rfl, ile_f h (by decide)]
    unfold FX8_laysWays_92
    rw [show ((M, nI t, 0) : Mem × Int32 × Int32) = (fun M k => (M, nI t, nI k)) M 0 from rfl]
    rw [clr_loop (fun M k => (M, nI t, nI k)) (c := (5, 0, 10)) (N := 208) (E := fun M => FX8_laysWays_114 fu D kn M (nI t) 1) (fun kn' M' k hk => ?_) (fun kn' M' => ?_) (show 208 < fu by omega) M]
    rotate_left
    · show GX8_laysWays_92 fu D kn' kn M' (nI t) (nI k) = _
      unfold GX8_laysWays_92
      rw [show (208 : Int32) = nI 208 from rfl, ile_f hk (by decide), gd_k hk (by decide), nI_clamp (by omega), ← nI_1 k]
      rfl
    · show GX8_laysWays_92 fu D kn' kn M' (nI t) (nI 208) = _
      unfold GX8_laysWays_92
      rw [if_pos (by decide)]
    have hW1 : MX M0 b (waysW (M0 (5, 0, 1)) b t).1 (fun _ => 0, (waysW (M0 (5, 0, 1)) b t).2.1, (waysW (M0 (5, 0, 1)) b t).2.2) (clr M (5, 0, 10) 208) := by
      obtain ⟨w1, w2, w3, w4, w5, w6⟩ := hM
      refine ⟨TN_clr w1 (by decide) (by decide), ?_, fun j hj => ?_, fun j hj => clr_in hj, fun j hj => ?_, ?_⟩
      · rw [clr_c (by decide)]; exact w2
      · rw [clr_c (by decide)]; exact w3 j hj
      · rw [clr_c (by decide)]; exact w5 j hj
      · rw [clr_c (by decide)]; exact w6
    generalize clr M (5, 0, 10) 208 = M1 at hW1
    show Wp (FX8_laysWays_114 fu D kn M1 (nI t) 1) _
    have hstep : (waysW (M0 (5, 0, 1)) b (t + 1)) = it (fun j => cellW (M0 (5, 0, 1)) b t (leftW t) (waysW (M0 (5, 0, 1)) b t).1 (16 + j)) (fun _ => 0, (waysW (M0 (5, 0, 1)) b t).2.1, (waysW (M0 (5, 0, 1)) b t).2.2) 192 := rfl
    generalize waysW (M0 (5, 0, 1)) b t = S at hW1 hstep
    generalize hgS : waysW (M0 (5, 0, 1)) b (t + 1) = S' at hstep ih
    refine m_cells hfu hb hL hW1 h (fun M2 h2 => ?_)
    rw [← hstep] at h2
    refine m_copy hfu h2 (fun M3 h3 => ih (8 - (t + 1)) _ (by omega) ⟨t + 1, M3, by omega, rfl, ?_, rfl⟩)
    rw [hgS]
    exact h3
  · obtain rfl : t = 8 := by omega
    rw [show (8 : Int32) = nI 8 from rfl, ile_t (Nat.le_refl _) (by decide)]
    have hlow := ways_low (b := b) hI 8
    unfold MR
    generalize waysW (M0 (5, 0, 1)) b 8 = S8 at hM hlow ⊢
    obtain ⟨w1, w2, w3, w4, w5, w6⟩ := hM
    refine m_air hfu w3 w6.2 (fun M' g1 g2 g3 => ⟨⟨⟨fun c hc => (g1 c (fun e => hc (by rw [e]))).trans (w1.1.1 c hc), fun j h1 h2 => (g1 _ (mne (by omega))).trans (w1.1.2.1 j h1 h2), fun j hj => (g2 j (by omega)).trans (w1.1.2.2 j hj)⟩, (g1 _ (by decide)).trans w1.2⟩, (g2 25 (by decide)).trans w6.1, g3.trans (air_eq hlow), fun j hj => ?_⟩)
    show M' (5, 0, 11) (16 + j) = _
    rw [g1 _ (by decide)]
    exact w5 j hj
theorem m_lays {b : Nat} (hfu : 400 < fu) (hb : b < 6) (hI : Inv (M0 (5, 0, 1))) (hL : LawW (M0 (5, 0, 1))) (hM : TN M0 M) : Wp (FX8_laysWays fu D M (nI b)) (fun r => MR M0 (M0 (5, 0, 1)) b r.2) := by
  obtain ⟨t1, t2, t3, t4, t5⟩ := top_in hI
  unfold FX8_laysWays
  refine wp_lt (wp_lt (wp_lt ?_))
  have hs0 : TN M0 (up (up (up M (5, 0, 0) 18 (nI b)) (5, 0, 0) 25 0) (5, 0, 0) 26 0) := TN_up0 (TN_up0 (TN_up0 hM (by decide)) (by decide)) (by decide)
  have f18 : (up (up (up M (5, 0, 0) 18 (nI b)) (5, 0, 0) 25 0) (5, 0, 0) 26 0) (5, 0, 0) 18 = nI b := by simp [up_at]
  have f25 : (up (up (up M (5, 0, 0) 18 (nI b)) (5, 0, 0) 25 0) (5, 0, 0) 26 0) (5, 0, 0) 25 = 0 := by simp [up_at]
  have f26 : (up (up (up M (5, 0, 0) 18 (nI b)) (5, 0, 0) 25 0) (5, 0, 0) 26 0) (5, 0, 0) 26 = 0 := by simp [up_at]
  generalize up (up (up M (5, 0, 0) 18 (nI b)) (5, 0, 0) 25 0) (5, 0, 0) 26 0 = M1 at hs0 f18 f25 f26 ⊢
  unfold FX8_laysWays_17
  rw [show ((M1, 0) : Mem × Int32) = (fun M k => (M, nI k)) M1 0 from rfl]
  rw [clr_loop (fun M k => (M, nI k)) (c := (5, 0, 9)) (N := 208) (E := fun M => FX8_laysWays_39 fu D M 0) (fun kn' M' k hk => ?_) (fun kn' M' => ?_) (show 208 < fu by omega) M1]
  rotate_left
  · show GX8_laysWays_17 fu D kn' M' (nI k) = _
    unfold GX8_laysWays_17
    rw [show (208 : Int32) = nI 208 from rfl, ile_f hk (by decide), gd_k hk (by decide), nI_clamp (by omega), ← nI_1 k]
    rfl
  · show GX8_laysWays_17 fu D kn' M' (nI 208) = _
    unfold GX8_laysWays_17
    rw [if_pos (by decide)]
  have hs1 : TN M0 (clr M1 (5, 0, 9) 208) := TN_clr hs0 (by decide) (by decide)
  have e0 : clr M1 (5, 0, 9) 208 (5, 0, 0) = M1 (5, 0, 0) := clr_c (by decide)
  rw [← e0] at f18 f25 f26
  have g9 : ∀ j, j < 208 → clr M1 (5, 0, 9) 208 (5, 0, 9) j = 0 := fun j hj => clr_in hj
  generalize clr M1 (5, 0, 9) 208 = M2 at hs1 f18 f25 f26 g9
  show Wp (FX8_laysWays_39 fu D M2 0) _
  unfold FX8_laysWays_39
  rw [show ((M2, 0) : Mem × Int32) = (fun M k => (M, nI k)) M2 0 from rfl]
  rw [clr_loop (fun M k => (M, nI k)) (c := (5, 0, 11)) (N := 144) (E := fun M => gd 8 2180 (gd 7 2180 (bd (FX8_at fu D M (M (5, 0, 1) 8) (M (5, 0, 1) 7)) (fun v77 M77 => gd v77 208 (lt (up M77 (5, 0, 9) v77.toNatClampNeg 1) (fun M81 => FX8_laysWays_84 fu D M81 0)))))) (fun kn' M' k hk => ?_) (fun kn' M' => ?_) (show 144 < fu by omega) M2]
  rotate_left
  · show GX8_laysWays_39 fu D kn' M' (nI k) = _
    unfold GX8_laysWays_39
    rw [show (144 : Int32) = nI 144 from rfl, ile_f hk (by decide), gd_k hk (by decide), nI_clamp (by omega), ← nI_1 k]
    rfl
  · show GX8_laysWays_39 fu D kn' M' (nI 144) = _
    unfold GX8_laysWays_39
    rw [if_pos (by decide)]
  have hs2 : TN M0 (clr M2 (5, 0, 11) 144) := TN_clr hs1 (by decide) (by decide)
  have e1 : clr M2 (5, 0, 11) 144 (5, 0, 0) = M2 (5, 0, 0) := clr_c (by decide)
  rw [← e1] at f18 f25 f26
  have g92 : ∀ j, j < 208 → clr M2 (5, 0, 11) 144 (5, 0, 9) j = 0 := fun j hj => by rw [clr_c (by decide)]; exact g9 j hj
  have g11 : ∀ j, j < 144 → clr M2 (5, 0, 11) 144 (5, 0, 11) j = 0 := fun j hj => clr_in hj
  generalize clr M2 (5, 0, 11) 144 = M3 at hs2 f18 f25 f26 g92 g11
  show Wp (gd 8 2180 _) _
  unfold FX8_at
  rw [gd_lit (by decide), gd_lit (by decide), hs2.1.w, t4, t5, ix16, bd_some, gd_k (by omega) (by decide), nI_clamp (by omega)]
  refine wp_lt ?_
  refine m_breaths hfu hb hI hL ⟨TN_up hs2 (by decide) (by decide), ?_, fun j hj => ?_, fun j hj => rfl, fun j hj => ?_, ?_, ?_⟩
  · rw [upc (by decide)]; exact f18
  · rw [up_at, g92 j hj]; rfl
  · rw [upc (by decide)]; exact g11 _ (by omega)
  · rw [upc (by decide)]; exact f25
  · rw [upc (by decide)]; exact f26
end
