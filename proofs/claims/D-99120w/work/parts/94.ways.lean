set_option maxRecDepth 100000
/-! all ways of a feather: what is counted, and x's side -/
def sumI (f : Nat → Int32) (n : Nat) : Int32 := it (fun j a => a + f j) 0 n
def addAt (f : Nat → Int32) (i : Nat) (v : Int32) : Nat → Int32 := fun j => if j = i then f j + v else f j
theorem sumI_at {f g : Nat → Int32} {i : Nat} {v : Int32} (h : ∀ j, g j = if j = i then f j + v else f j) : ∀ n, sumI g n = if i < n then sumI f n + v else sumI f n
  | 0 => rfl
  | n + 1 => by
    show sumI g n + g n = if i < n + 1 then (sumI f n + f n) + v else sumI f n + f n
    rw [sumI_at h n, h n]
    by_cases h1 : i < n
    · rw [if_pos h1, if_pos (show i < n + 1 by omega), if_neg (show ¬ n = i by omega)]; grind
    · rw [if_neg h1]
      by_cases h2 : n = i
      · rw [if_pos h2, if_pos (by omega)]; grind
      · rw [if_neg h2, if_neg (by omega)]
theorem sumI_congr {f g : Nat → Int32} : ∀ {n : Nat}, (∀ j, j < n → f j = g j) → sumI f n = sumI g n
  | 0, _ => rfl
  | n + 1, h => by
    show sumI f n + f n = sumI g n + g n
    rw [sumI_congr (fun j hj => h j (by omega)), h n (by omega)]
/-- next places, landed by breath and column, blown off -/
abbrev WS : Type := (Nat → Int32) × (Nat → Int32) × Int32
def atW (W : Wd0) (b l c t : Nat) (g : Int32) : Int32 := nI c + carW W (nI b) (nI l) (nI c) (nI t) + driftW W b g
def toW (W : Wd0) (b l c t : Nat) : Int32 := nI l - sinksW W (nI b) (nI l) (nI c) (nI t)
def gustW (W : Wd0) (b l c t : Nat) (left h g : Int32) (S : WS) : WS :=
  if isI (atW W b l c t g) 0 15 = 0 then (S.1, S.2.1, S.2.2 + h * left)
  else if 0 < toW W b l c t then (addAt S.1 (16 * (toW W b l c t).toNatClampNeg + (atW W b l c t g).toNatClampNeg) h, S.2.1, S.2.2)
  else (S.1, addAt S.2.1 (16 * t + (atW W b l c t g).toNatClampNeg) (h * left), S.2.2)
def goesW (W : Wd0) (b l c t : Nat) (left h : Int32) (S : WS) : WS := gustW W b l c t left h 1 (gustW W b l c t left h 0 (gustW W b l c t left h (-1) S))
def cellW (W : Wd0) (b t : Nat) (left : Int32) (here : Nat → Int32) (k : Nat) (S : WS) : WS := if here k ≤ 0 then S else goesW W b (k / 16) (k % 16) t left (here k) S
def leftW (t : Nat) : Int32 := nI (3 ^ (7 - t))
def breathW (W : Wd0) (b t : Nat) (S : WS) : WS := it (fun j => cellW W b t (leftW t) S.1 (16 + j)) (fun _ => 0, S.2.1, S.2.2) 192
/-- where it begins -/
def here0 (W : Wd0) : Nat → Int32 := fun k => if k = 16 * wN W 8 + wN W 7 then 1 else 0
def waysW (W : Wd0) (b n : Nat) : WS := it (breathW W b) (here0 W, fun _ => 0, 0) n
/-- good ones of breath t + 1 -/
def goodW (W : Wd0) (la : Nat → Int32) (t : Nat) : Int32 := sumI (fun j => la (16 * t + wN W 9 + j)) (wN W 10 + 1 - wN W 9)
def landW (la : Nat → Int32) (c : Nat) : Int32 := sumI (fun t => la (16 * t + c)) 8
theorem landW_at {la : Nat → Int32} {t a c : Nat} {v : Int32} (ht : t < 8) (ha : a < 16) (hc : c < 16) : landW (addAt la (16 * t + a) v) c = if c = a then landW la c + v else landW la c := by
  unfold landW
  by_cases h : c = a
  · subst h
    rw [if_pos rfl, sumI_at (f := fun t => la (16 * t + c)) (i := t) (v := v) (fun j => ?_), if_pos ht]
    unfold addAt
    by_cases h2 : j = t
    · rw [if_pos h2, if_pos (by omega)]
    · rw [if_neg h2, if_neg (by omega)]
  · rw [if_neg h]
    refine sumI_congr fun j hj => ?_
    unfold addAt
    rw [if_neg (by omega)]
theorem goodW_at {W : Wd0} {la : Nat → Int32} {t a t' : Nat} {v : Int32} (hlo : wN W 9 ≤ wN W 10) (hhi : wN W 10 ≤ 15) (ha : a < 16) : goodW W (addAt la (16 * t + a) v) t' = if t' = t ∧ wN W 9 ≤ a ∧ a ≤ wN W 10 then goodW W la t' + v else goodW W la t' := by
  unfold goodW
  by_cases h : t' = t ∧ wN W 9 ≤ a ∧ a ≤ wN W 10
  · obtain ⟨rfl, h1, h2⟩ := h
    rw [if_pos ⟨rfl, h1, h2⟩, sumI_at (f := fun j => la (16 * t' + wN W 9 + j)) (i := a - wN W 9) (v := v) (fun j => ?_), if_pos (by omega)]
    unfold addAt
    by_cases h3 : j = a - wN W 9
    · rw [if_pos h3, if_pos (by omega)]
    · rw [if_neg h3, if_neg (by omega)]
  · rw [if_neg h]
    refine sumI_congr fun j hj => ?_
    unfold addAt
    rw [if_neg (by omega)]
/-- nothing but the facts and Ways w was written -/
def SW (w : Nat) (M M' : Mem) : Prop := ∀ c : CId, c ≠ (0, 0, 6) → (c.1 ≠ 3 ∨ c.2.1 ≠ w) → M' c = M c
theorem SW.refl {w : Nat} {M : Mem} : SW w M M := fun _ _ _ => rfl
theorem SW.trans {w : Nat} {M M' M'' : Mem} (h : SW w M M') (h' : SW w M' M'') : SW w M M'' := fun c h1 h2 => (h' c h1 h2).trans (h c h1 h2)
theorem SW_up {w : Nat} {M M' : Mem} {i k : Nat} {v : Int32} (h : SW w M M') : SW w M (up M' (3, w, i) k v) := fun c h1 h2 => (upc (fun e => by rw [e] at h2; exact h2.elim (fun q => q rfl) (fun q => q rfl))).trans (h c h1 h2)
theorem SW.sx {w : Nat} {M M' : Mem} (h : SW w M M') : SX M M' := fun c hc => h c (fun e => by rw [e] at hc; cases hc) (Or.inl (fun e => by
  obtain ⟨a, b, d⟩ := c
  have e : a = 3 := e
  subst e
  cases hc))
/-- Ways w holds what is counted -/
def WX (M0 : Mem) (w : Nat) (W : Wd0) (here : Nat → Int32) (S : WS) (M : Mem) : Prop :=
  SW w M0 M ∧ (∀ j, j < 208 → M (3, w, 4) j = here j) ∧ (∀ j, j < 208 → M (3, w, 5) j = S.1 j) ∧ (∀ j, j < 128 → M (3, w, 3) j = S.2.1 j) ∧ (M (3, w, 0) 5 = S.2.2 ∧ M (3, w, 0) 6 = 0) ∧ (∀ c, c < 16 → M (3, w, 2) c = landW S.2.1 c) ∧ (∀ t, t < 8 → M (3, w, 1) (t + 1) = goodW W S.2.1 t)
theorem cne {w i j : Nat} (h : i ≠ j) : ((3, w, i) : CId) ≠ (3, w, j) := fun e => h (congrArg (fun c : CId => c.2.2) e)
theorem isI_yard {W : Wd0} {a : Nat} (hlo : wN W 9 ≤ wN W 10) (hhi : wN W 10 ≤ 15) (ha : a < 16) : isI (nI a) (nI (wN W 9)) (nI (wN W 10)) = if wN W 9 ≤ a ∧ a ≤ wN W 10 then 1 else 0 := by
  unfold isI
  by_cases h1 : wN W 9 ≤ a
  · rw [ilt_f h1 (by omega)]
    by_cases h2 : a ≤ wN W 10
    · rw [ilt_f h2 (by omega), if_pos ⟨h1, h2⟩]
    · rw [ilt_t (by omega) (by omega), if_neg (fun h => h2 h.2)]
  · rw [ilt_t (by omega) (by omega), if_neg (fun h => h1 h.1)]
theorem yard_in {W : Wd0} (hI : Inv W) : wN W 9 ≤ wN W 10 ∧ wN W 10 ≤ 15 ∧ W 9 = nI (wN W 9) ∧ W 10 = nI (wN W 10) := by
  obtain ⟨a, b, h1, h2, h3, h4⟩ := hI.2.2.1
  have e1 : wN W 9 = a := by unfold wN; rw [h3, nI_clamp (by omega)]
  have e2 : wN W 10 = b := by unfold wN; rw [h4, nI_clamp (by omega)]
  rw [e1, e2]
  exact ⟨h1, h2, h3, h4⟩
theorem at_cases (a : Int32) : (isI a 0 15 = 0 ∧ (a < 0 ∨ ¬ a < 16)) ∨ (isI a 0 15 = 1 ∧ ¬ a < 0 ∧ a < 16 ∧ ∃ k, k < 16 ∧ a = nI k) := by
  by_cases h : isN a 16
  · obtain ⟨k, hk, rfl⟩ := h
    exact Or.inr ⟨isI_t' (n := 15) 15 rfl hk (by decide), nI_pos (by omega), nI_lt (b := 16) hk (by decide), k, hk, rfl⟩
  · refine Or.inl ⟨isI_f' (n := 15) 15 rfl h (by decide), ?_⟩
    by_cases h0 : a < 0
    · exact Or.inl h0
    · obtain ⟨j, hj, rfl⟩ := nI_of h0
      exact Or.inr (nI_nlt (b := 16) (Nat.le_of_not_lt fun g => h ⟨j, g, rfl⟩) hj)
theorem to_pos {W : Wd0} {b l c t : Nat} (hl : l ≤ 12) (h : 0 < toW W b l c t) : ∃ l1, 1 ≤ l1 ∧ l1 ≤ 12 ∧ toW W b l c t = nI l1 := by
  unfold toW at h ⊢
  obtain ⟨s, hs, es⟩ := sinksW_rng W (nI b) (nI l) (nI c) (nI t)
  rw [es] at h ⊢
  rcases lev_cases hl hs with ⟨g, -⟩ | ⟨-, -, g1, g2⟩
  · exact absurd h g
  · exact ⟨l - s, by omega, by omega, g2⟩
theorem ix16 (a f : Nat) : (16 : Int32) * nI a + nI f = nI (16 * a + f) := by
  rw [show (16 : Int32) = nI 16 from rfl, nI_mul, nI_add]
section
variable {R : Nat} {fu : Nat} {D : List LDen} {M M0 : Mem} {W : Wd0} {w : Nat} {here : Nat → Int32}
theorem WX.cx {S : WS} (h : WX M0 w W here S M) (hX : CX R D M0 0 W) : CX R D M 0 W := CX_congr (fun c hc _ _ => h.1.sx c hc) hX
theorem x_ends {S : WS} {a t : Nat} {v : Int32} (hI : Inv W) (hX : CX R D M0 0 W) (hW : WX M0 w W here S M) (ha : a < 16) (ht : t < 8) : Wp (FX7_ends fu D w M (nI a) (nI t) v) (fun r => WX M0 w W here (S.1, addAt S.2.1 (16 * t + a) v, S.2.2) r.2) := by
  obtain ⟨hlo, hhi, h9, h10⟩ := yard_in hI
  have hCX := hW.cx hX
  obtain ⟨w1, w2, w3, w4, w5, w6, w7⟩ := hW
  unfold FX7_ends
  rw [gd_k ha (by decide), gd_k ha (by decide)]
  refine wp_lt ?_
  rw [ix16, gd_k (by omega) (by decide), gd_k (by omega) (by decide)]
  refine wp_lt ?_
  rw [x_isYard, bd_some, nI_clamp (by omega), nI_clamp (by omega), upc (c' := (3, w, 3)) (cne (by decide)), upc (c' := (0, 0, 0)) (fun e => by cases e), upc (c' := (0, 0, 0)) (fun e => by cases e), hCX.1.2.2.2.2.2.2.1, hCX.1.2.2.2.2.2.2.2.1, h9, h10, isI_yard hlo hhi ha]
  have base : ∀ M1 : Mem, (∀ t', t' < 8 → M1 (3, w, 1) (t' + 1) = goodW W (addAt S.2.1 (16 * t + a) v) t') → (∀ i, i ≠ 1 → M1 (3, w, i) = up (up M (3, w, 2) a (M (3, w, 2) a + v)) (3, w, 3) (16 * t + a) (M (3, w, 3) (16 * t + a) + v) (3, w, i)) → SW w M0 M1 → WX M0 w W here (S.1, addAt S.2.1 (16 * t + a) v, S.2.2) M1 := by
    intro M1 g1 g2 g3
    refine ⟨g3, fun j hj => ?_, fun j hj => ?_, fun j hj => ?_, ?_, fun c hc => ?_, g1⟩
    · rw [g2 4 (by decide), upc (cne (by decide)), upc (cne (by decide))]; exact w2 j hj
    · rw [g2 5 (by decide), upc (cne (by decide)), upc (cne (by decide))]; exact w3 j hj
    · rw [g2 3 (by decide), up_at]
      dsimp only [addAt]
      by_cases h : j = 16 * t + a
      · rw [if_pos h, if_pos h, h, w4 _ (by omega)]
      · rw [if_neg h, if_neg h, upc (cne (by decide))]; exact w4 j hj
    · rw [g2 0 (by decide), upc (cne (by decide)), upc (cne (by decide))]; exact w5
    · rw [g2 2 (by decide), upc (cne (by decide)), up_at]
      dsimp only
      rw [landW_at ht ha hc]
      by_cases h : c = a
      · rw [if_pos h, if_pos h, w6 a ha, h]
      · rw [if_neg h, if_neg h]; exact w6 c hc
  by_cases hy : wN W 9 ≤ a ∧ a ≤ wN W 10
  · rw [if_pos hy, if_neg (by decide), nI_1, gd_k (by omega) (by decide), gd_k (by omega) (by decide)]
    refine wp_lt ?_
    rw [nI_clamp (by omega)]
    refine wp_ok (base _ (fun t' ht' => ?_) (fun i hi => upc (cne hi)) (SW_up (SW_up (SW_up w1))))
    dsimp only
    rw [up_at, upc (cne (by decide)), upc (cne (by decide)), goodW_at hlo hhi ha]
    by_cases h : t' = t
    · rw [if_pos (by omega), if_pos ⟨h, hy⟩, w7 t ht, h]
    · rw [if_neg (by omega), if_neg (fun q => h q.1)]; exact w7 t' ht'
  · rw [if_neg hy, if_pos rfl]
    refine wp_ok (base _ (fun t' ht' => ?_) (fun i hi => rfl) (SW_up (SW_up w1)))
    dsimp only
    rw [upc (cne (by decide)), upc (cne (by decide)), goodW_at hlo hhi ha, if_neg (fun q => hy q.2)]
    exact w7 t' ht'
theorem x_gust {S : WS} {b l c t : Nat} {left h g : Int32} {Q : Int32 × Mem → Prop} {kn : Mem × Int32 × Int32 × Int32 × Int32 × Int32 × Int32 × Int32 × Int32 → Option (Int32 × Mem)} (hI : Inv W) (hX : CX R D M0 0 W) (hW : WX M0 w W here S M) (hb : b < wN W 0) (hl : l ≤ 12) (hc : c < 16) (ht : t < 8) (hg : ¬ 1 < g)
    (hk : ∀ M', WX M0 w W here (gustW W b l c t left h g S) M' → Wp (kn (M', nI b, nI c, nI t, left, h, toW W b l c t, carW W (nI b) (nI l) (nI c) (nI t), g + 1)) Q) :
    Wp (GX7_goes_52 fu D w kn M (nI b) (nI c) (nI t) left h (toW W b l c t) (carW W (nI b) (nI l) (nI c) (nI t)) g) Q := by
  have hb6 := nb_le hI
  have hCX := hW.cx hX
  have e1 : M (1, 0, b) 1 = W (27 + 4 * b) := by rw [hCX.2.2.1 b 1 hb (by decide)]; congr 1; omega
  unfold GX7_goes_52
  rw [if_neg hg, gd_k (by omega) (by decide), nI_clamp (by omega), e1]
  have next : ∀ M', WX M0 w W here (gustW W b l c t left h g S) M' → Wp (FX7_goes_157 fu D w kn M' (nI b) (nI c) (nI t) left h (toW W b l c t) (carW W (nI b) (nI l) (nI c) (nI t)) g) Q := fun M' hM' => hk M' hM'
  have key : ∀ t0, driftW W b g = t0 → Wp (FX7_goes_86 fu D w kn M (nI b) (nI c) (nI t) left h (toW W b l c t) (carW W (nI b) (nI l) (nI c) (nI t)) g t0 (nI c + carW W (nI b) (nI l) (nI c) (nI t))) Q := by
    intro t0 e0
    unfold FX7_goes_86
    refine wp_lt ?_
    rw [← e0, show nI c + carW W (nI b) (nI l) (nI c) (nI t) + driftW W b g = atW W b l c t g from rfl]
    have off : isI (atW W b l c t g) 0 15 = 0 → Wp (FX7_goes_101 fu D w kn M (nI b) (nI c) (nI t) left h (toW W b l c t) (carW W (nI b) (nI l) (nI c) (nI t)) g) Q := by
      intro h0
      unfold FX7_goes_101
      refine wp_lt (next _ ?_)
      unfold gustW
      rw [if_pos h0]
      obtain ⟨w1, w2, w3, w4, w5, w6, w7⟩ := hW
      refine ⟨SW_up w1, fun j hj => ?_, fun j hj => ?_, fun j hj => ?_, ?_, fun c hc => ?_, fun t ht => ?_⟩
      · rw [upc (cne (by decide))]; exact w2 j hj
      · rw [upc (cne (by decide))]; exact w3 j hj
      · rw [upc (cne (by decide))]; exact w4 j hj
      · exact ⟨by rw [up_at, if_pos rfl, w5.1], (upn (by decide)).trans w5.2⟩
      · rw [upc (cne (by decide))]; exact w6 c hc
      · rw [upc (cne (by decide))]; exact w7 t ht
    rcases at_cases (atW W b l c t g) with ⟨h0, h1⟩ | ⟨h0, h1, h2, a, ha, ea⟩
    · by_cases h2 : atW W b l c t g < 0
      · rw [if_pos h2]; exact off h0
      · rw [if_neg h2, if_neg (h1.resolve_left h2)]; exact off h0
    · rw [if_neg h1, if_pos h2]
      by_cases hto : 0 < toW W b l c t
      · rw [if_neg (Int32.not_le.mpr hto)]
        obtain ⟨l1, q1, q2, q3⟩ := to_pos hl hto
        rw [q3, ea, ix16, gd_k (by omega) (by decide), gd_k (by omega) (by decide), ← q3]
        refine wp_lt (next _ ?_)
        unfold gustW
        rw [if_neg (by rw [h0]; decide), if_pos hto, q3, ea, nI_clamp (by omega), nI_clamp (by omega), nI_clamp (by omega)]
        obtain ⟨w1, w2, w3, w4, w5, w6, w7⟩ := hW
        refine ⟨SW_up w1, fun j hj => ?_, fun j hj => ?_, fun j hj => ?_, ?_, fun c hc => ?_, fun t ht => ?_⟩
        · rw [upc (cne (by decide))]; exact w2 j hj
        · rw [up_at]
          dsimp only [addAt]
          by_cases h : j = 16 * l1 + a
          · rw [if_pos h, if_pos h, h, w3 _ (by omega)]
          · rw [if_neg h, if_neg h]; exact w3 j hj
        · rw [upc (cne (by decide))]; exact w4 j hj
        · rw [upc (cne (by decide))]; exact w5
        · rw [upc (cne (by decide))]; exact w6 c hc
        · rw [upc (cne (by decide))]; exact w7 t ht
      · rw [if_pos (Int32.not_lt.mp hto), ea]
        refine wp_bd (x_ends hI hX hW ha ht) (fun v M1 h1 => next M1 ?_)
        dsimp only at h1
        unfold gustW
        rw [if_neg (by rw [h0]; decide), if_neg hto, ea, nI_clamp (by omega)]
        exact h1
  unfold driftW at key
  by_cases hd : W (27 + 4 * b) ≤ 0
  · rw [if_pos hd]; exact key 0 (if_pos hd)
  · rw [if_neg hd]; exact key g (if_neg hd)
theorem x_goes {S : WS} {b l c t : Nat} {left : Int32} (hfu : 12 < fu) (hI : Inv W) (hX : CX R D M0 0 W) (hW : WX M0 w W here S M) (hb : b < wN W 0) (hl : l ≤ 12) (hc : c < 16) (ht : t < 8) : Wp (FX7_goes fu D w M (nI b) (nI l) (nI c) (nI t) left) (fun r => WX M0 w W here (goesW W b l c t left (here (16 * l + c)) S) r.2) := by
  have hb6 := nb_le hI
  unfold FX7_goes
  rw [ix16, gd_k (by omega) (by decide), nI_clamp (by omega), hW.2.1 _ (by omega)]
  refine wp_lt ?_
  have step : ∀ {M1 M2 : Mem}, WX M0 w W here S M1 → SFa M1 M2 → WX M0 w W here S M2 := fun {M1 M2} h hs => by
    obtain ⟨w1, w2, w3, w4, w5, w6, w7⟩ := h
    have e : ∀ i, M2 (3, w, i) = M1 (3, w, i) := fun i => hs _ (fun e => by cases e)
    unfold WX
    simp only [e]
    exact ⟨fun c h1 h2 => (hs c h1).trans (w1 c h1 h2), w2, w3, w4, w5, w6, w7⟩
  refine wp_bd (x_sinks (hW.cx hX) hb6 hb hfu _ _ _) (fun v1 M1 h1 => ?_)
  dsimp only at h1
  have hW1 := step hW h1.2
  rw [h1.1]
  refine wp_lt ?_
  refine wp_bd (x_carried (hW1.cx hX) hb6 hb (by omega) hfu _ _) (fun v2 M2 h2 => ?_)
  dsimp only at h2
  have hW2 := step hW1 h2.2
  rw [h2.1, show nI l - sinksW W (nI b) (nI l) (nI c) (nI t) = toW W b l c t from rfl]
  obtain ⟨f, hf⟩ : ∃ f, fu = f + 4 := ⟨fu - 4, by omega⟩
  unfold FX7_goes_52
  have un : ∀ (n : Nat) (M' : Mem) (g : Int32) (Q : Int32 × Mem → Prop), Wp (GX7_goes_52 fu D w (lp (fun kn z => GX7_goes_52 fu D w kn z.1 z.2.1 z.2.2.1 z.2.2.2.1 z.2.2.2.2.1 z.2.2.2.2.2.1 z.2.2.2.2.2.2.1 z.2.2.2.2.2.2.2.1 z.2.2.2.2.2.2.2.2) n) M' (nI b) (nI c) (nI t) left (here (16 * l + c)) (toW W b l c t) (carW W (nI b) (nI l) (nI c) (nI t)) g) Q → Wp (lp (fun kn z => GX7_goes_52 fu D w kn z.1 z.2.1 z.2.2.1 z.2.2.2.1 z.2.2.2.2.1 z.2.2.2.2.2.1 z.2.2.2.2.2.2.1 z.2.2.2.2.2.2.2.1 z.2.2.2.2.2.2.2.2) (n + 1) (M', nI b, nI c, nI t, left, here (16 * l + c), toW W b l c t, carW W (nI b) (nI l) (nI c) (nI t), g)) Q := fun n M' g Q h => h
  rw [show lp (fun kn z => GX7_goes_52 fu D w kn z.1 z.2.1 z.2.2.1 z.2.2.2.1 z.2.2.2.2.1 z.2.2.2.2.2.1 z.2.2.2.2.2.2.1 z.2.2.2.2.2.2.2.1 z.2.2.2.2.2.2.2.2) fu = lp (fun kn z => GX7_goes_52 fu D w kn z.1 z.2.1 z.2.2.1 z.2.2.2.1 z.2.2.2.2.1 z.2.2.2.2.2.1 z.2.2.2.2.2.2.1 z.2.2.2.2.2.2.2.1 z.2.2.2.2.2.2.2.2) (f + 4) by rw [← hf]]
  refine un _ _ _ _ (x_gust hI hX hW2 hb hl hc ht (by decide) (fun M3 h3 => ?_))
  rw [show (-1 : Int32) + 1 = 0 by decide]
  refine un _ _ _ _ (x_gust hI hX h3 hb hl hc ht (by decide) (fun M4 h4 => ?_))
  rw [show (0 : Int32) + 1 = 1 by decide]
  refine un _ _ _ _ (x_gust hI hX h4 hb hl hc ht (by decide) (fun M5 h5 => ?_))
  rw [show (1 : Int32) + 1 = 2 by decide]
  refine un _ _ _ _ ?_
  unfold GX7_goes_52
  rw [if_pos (by decide)]
  exact wp_ok h5
end
