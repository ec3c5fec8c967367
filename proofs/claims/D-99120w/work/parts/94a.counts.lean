set_option maxRecDepth 100000
/-! all ways of a feather: x counts them -/
/-- cell c's first k places are 0 -/
def clr (M : Mem) (c : CId) (k : Nat) : Mem := fun c' => if c' = c then (fun j => if j < k then 0 else M c j) else M c'
theorem clr_0 {M : Mem} {c : CId} : clr M c 0 = M := by
  funext c' j
  unfold clr
  by_cases h : c' = c
  · rw [if_pos h, if_neg (Nat.not_lt_zero j), h]
  · rw [if_neg h]
theorem clr_s {M : Mem} {c : CId} {k : Nat} : up (clr M c k) c k 0 = clr M c (k + 1) := by
  funext c' j
  unfold up
  by_cases h : c' = c
  · rw [if_pos h]
    unfold clr
    rw [if_pos rfl, if_pos h]
    by_cases h2 : j = k
    · rw [if_pos h2, if_pos (by omega)]
    · rw [if_neg h2]
      by_cases h3 : j < k
      · rw [if_pos h3, if_pos (by omega)]
      · rw [if_neg h3, if_neg (by omega)]
  · rw [if_neg h]
    unfold clr
    rw [if_neg h, if_neg h]
theorem clr_c {M : Mem} {c c' : CId} {k : Nat} (h : c' ≠ c) : clr M c k c' = M c' := if_neg h
theorem clr_in {M : Mem} {c : CId} {k j : Nat} (h : j < k) : clr M c k c j = 0 := by
  unfold clr
  rw [if_pos rfl, if_pos h]
theorem clr_loop {σ ρ : Type} (mk : Mem → Nat → σ) {body : (σ → Option ρ) → σ → Option ρ} {c : CId} {N : Nat} {E : Mem → Option ρ} (hb : ∀ kn M k, k < N → body kn (mk M k) = kn (mk (up M c k 0) (k + 1))) (he : ∀ kn M, body kn (mk M N) = E M) {fu : Nat} (hfu : N < fu) (M : Mem) : lp body fu (mk M 0) = E (clr M c N) := by
  have key : ∀ n k fu, k + n = N → n < fu → lp body fu (mk (clr M c k) k) = E (clr M c N) := by
    intro n
    induction n with
    | zero =>
      intro k fu h1 h2
      obtain ⟨f, rfl⟩ : ∃ f, fu = f + 1 := ⟨fu - 1, by omega⟩
      obtain rfl : k = N := h1
      exact he _ _
    | succ n ih =>
      intro k fu h1 h2
      obtain ⟨f, rfl⟩ : ∃ f, fu = f + 1 := ⟨fu - 1, by omega⟩
      show body (lp body f) _ = _
      rw [hb _ _ k (by omega), clr_s]
      exact ih (k + 1) f (by omega) (by omega)
  have := key N 0 fu (by omega) hfu
  rwa [clr_0] at this
theorem SW_clr {w : Nat} {M M' : Mem} {i n : Nat} (h : SW w M M') : SW w M (clr M' (3, w, i) n) := fun c h1 h2 => (clr_c (fun e => by rw [e] at h2; exact h2.elim (fun q => q rfl) (fun q => q rfl))).trans (h c h1 h2)
theorem div16 : ∀ k, k < 208 → nI k / 16 = nI (k / 16) ∧ rm (nI k) 16 = nI (k % 16) := by decide +kernel
theorem left3 : ∀ t, t < 7 → leftW t / 3 = leftW (t + 1) := by decide +kernel
/-- how many are in the air at the end -/
def airW (here : Nat → Int32) : Int32 := sumI (fun j => here (16 + j)) 192
/-- what is left of counting in Ways w -/
def WR (M0 : Mem) (w : Nat) (W : Wd0) (b : Nat) (M : Mem) : Prop :=
  SW w M0 M ∧ M (3, w, 0) 5 = (waysW W b 8).2.2 ∧ M (3, w, 0) 6 = airW (waysW W b 8).1 ∧ (∀ j, j < 128 → M (3, w, 3) j = (waysW W b 8).2.1 j) ∧ (∀ c, c < 16 → M (3, w, 2) c = landW (waysW W b 8).2.1 c) ∧ (∀ t, t < 8 → M (3, w, 1) (t + 1) = goodW W (waysW W b 8).2.1 t)
section
variable {R : Nat} {fu : Nat} {D : List LDen} {M M0 : Mem} {W : Wd0} {w : Nat} {here : Nat → Int32}
/-- one cell -/
theorem x_cell {S : WS} {b t k : Nat} {left : Int32} (hfu : 12 < fu) (hI : Inv W) (hX : CX R D M0 0 W) (hW : WX M0 w W here S M) (hb : b < wN W 0) (ht : t < 8) (hk : k < 208) {kn136 : Mem × Int32 × Int32 × Int32 → Option (Int32 × Mem)} {kn : Mem × Int32 × Int32 × Int32 × Int32 → Option (Int32 × Mem)} {Q : Int32 × Mem → Prop}
    (hn : ∀ M', WX M0 w W here (cellW W b t left here k S) M' → Wp (kn (M', nI b, left, nI t, nI (k + 1))) Q) : Wp (GX7_counts_173 fu D w kn kn136 M (nI b) left (nI t) (nI k)) Q := by
  unfold GX7_counts_173
  have next : ∀ M', WX M0 w W here (cellW W b t left here k S) M' → Wp (FX7_counts_210 fu D w kn M' (nI b) left (nI t) (nI k)) Q := fun M' h => by
    unfold FX7_counts_210
    refine wp_lt ?_
    rw [nI_1]
    exact hn M' h
  rw [show (208 : Int32) = nI 208 from rfl, ile_f hk (by decide), gd_k hk (by decide), nI_clamp (by omega), hW.2.1 k hk]
  unfold cellW at next
  by_cases h : here k ≤ 0
  · rw [if_pos h] at next ⊢
    exact next M hW
  · rw [if_neg h] at next ⊢
    rw [(div16 k hk).1, (div16 k hk).2]
    refine wp_bd (x_goes hfu hI hX hW hb (by omega) (by omega) ht) (fun v M1 h1 => next M1 ?_)
    dsimp only at h1
    rwa [show 16 * (k / 16) + k % 16 = k by omega] at h1
theorem x_air {Q : Int32 × Mem → Prop} (hfu : 300 < fu) (h4 : ∀ j, j < 208 → M (3, w, 4) j = here j) (h6 : M (3, w, 0) 6 = 0) (hQ : ∀ M', (∀ c, c ≠ (3, w, 0) → M' c = M c) → M' (3, w, 0) 5 = M (3, w, 0) 5 → M' (3, w, 0) 6 = airW here → Q (0, M')) : Wp (FX7_counts_247 fu D w M 16) Q := by
  unfold FX7_counts_247
  refine wp_for (fun M' (_ : Unit) k => (M', nI (16 + k))) (fun _ u => u) () 192 (fun k M' => (∀ c, c ≠ (3, w, 0) → M' c = M c) ∧ M' (3, w, 0) 5 = M (3, w, 0) 5 ∧ M' (3, w, 0) 6 = sumI (fun j => here (16 + j)) k) (fun k M' kn hk hH hn => ?_) (fun M' kn hH => ?_) (show 192 < fu by omega) ⟨fun _ _ => rfl, rfl, h6⟩
  · show Wp (GX7_counts_247 fu D w kn M' (nI (16 + k))) _
    unfold GX7_counts_247
    rw [show (208 : Int32) = nI 208 from rfl, ile_f (by omega) (by decide), gd_k (by omega) (by decide), nI_clamp (by omega)]
    refine wp_lt (wp_lt ?_)
    rw [nI_1]
    refine hn _ ⟨fun c hc => (upc hc).trans (hH.1 c hc), (upn (by decide)).trans hH.2.1, ?_⟩
    rw [up_at, if_pos rfl, hH.2.2, hH.1 _ (cne (by decide)), h4 _ (by omega)]
    rfl
  · show Wp (GX7_counts_247 fu D w kn M' (nI (16 + 192))) _
    unfold GX7_counts_247
    rw [show (208 : Int32) = nI 208 from rfl, ile_t (by omega) (by decide)]
    exact wp_ok (hQ M' hH.1 hH.2.1 hH.2.2)
theorem x_breaths {b : Nat} (hfu : 300 < fu) (hI : Inv W) (hX : CX R D M0 0 W) (hb : b < wN W 0) {left : Int32} (hl : left = leftW 0) (hM : WX M0 w W (waysW W b 0).1 (M (3, w, 5), (waysW W b 0).2.1, (waysW W b 0).2.2) M) : Wp (FX7_counts_136 fu D w M (nI b) left 0) (fun r => WR M0 w W b r.2) := by
  unfold FX7_counts_136
  refine wp_lp (fun m z => ∃ t left M, t ≤ 8 ∧ m = 8 - t ∧ (t < 8 → left = leftW t) ∧ WX M0 w W (waysW W b t).1 (M (3, w, 5), (waysW W b t).2.1, (waysW W b t).2.2) M ∧ z = (M, nI b, left, nI t)) ?_ (m := 8) (by omega) ⟨0, left, M, by omega, rfl, fun _ => hl, hM, rfl⟩
  rintro m z kn ⟨t, left, M, ht, rfl, hl, hM, rfl⟩ ih
  show Wp (GX7_counts_136 fu D w kn M (nI b) left (nI t)) _
  unfold GX7_counts_136
  rcases Nat.lt_or_ge t 8 with h | h
  · rw [show (8 : Int32) = nI 8 from rfl, ile_f h (by decide), hl h]
    unfold FX7_counts_145
    rw [show ((M, nI b, leftW t, nI t, 0) : Mem × Int32 × Int32 × Int32 × Int32) = (fun M k => (M, nI b, leftW t, nI t, nI k)) M 0 from rfl]
    rw [clr_loop (fun M k => (M, nI b, leftW t, nI t, nI k)) (c := (3, w, 5)) (N := 208) (E := fun M => FX7_counts_173 fu D w kn M (nI b) (leftW t) (nI t) 16) (fun kn' M' k hk => ?_) (fun kn' M' => ?_) (show 208 < fu by omega) M]
    · have hW1 : WX M0 w W (waysW W b t).1 (fun _ => 0, (waysW W b t).2.1, (waysW W b t).2.2) (clr M (3, w, 5) 208) := by
        obtain ⟨w1, w2, w3, w4, w5, w6, w7⟩ := hM
        refine ⟨SW_clr w1, fun j hj => ?_, fun j hj => clr_in hj, fun j hj => ?_, ?_, fun c hc => ?_, fun t ht => ?_⟩
        · rw [clr_c (cne (by decide))]; exact w2 j hj
        · rw [clr_c (cne (by decide))]; exact w4 j hj
        · rw [clr_c (cne (by decide))]; exact w5
        · rw [clr_c (cne (by decide))]; exact w6 c hc
        · rw [clr_c (cne (by decide))]; exact w7 t ht
      generalize clr M (3, w, 5) 208 = M1 at hW1
      show Wp (FX7_counts_173 fu D w kn M1 (nI b) (leftW t) (nI t) 16) _
      unfold FX7_counts_173
      have hstep : (waysW W b (t + 1)) = it (fun j => cellW W b t (leftW t) (waysW W b t).1 (16 + j)) (fun _ => 0, (waysW W b t).2.1, (waysW W b t).2.2) 192 := rfl
      generalize waysW W b t = S at hW1 hstep
      generalize hgS : waysW W b (t + 1) = S' at hstep ih
      refine wp_for (fun M' (_ : Unit) k => (M', nI b, leftW t, nI t, nI (16 + k))) (fun _ u => u) () 192 (fun k M' => WX M0 w W S.1 (it (fun j => cellW W b t (leftW t) S.1 (16 + j)) (fun _ => 0, S.2.1, S.2.2) k) M') (fun k M' kn' hk hH hn => ?_) (fun M' kn' hH => ?_) (show 192 < fu by omega) hW1
      · show Wp (GX7_counts_173 fu D w kn' kn M' (nI b) (leftW t) (nI t) (nI (16 + k))) _
        exact x_cell (by omega) hI hX hH hb h (by omega) (fun M2 h2 => hn M2 h2)
      · show Wp (GX7_counts_173 fu D w kn' kn M' (nI b) (leftW t) (nI t) (nI (16 + 192))) _
        unfold GX7_counts_173
        rw [show (208 : Int32) = nI 208 from rfl, ile_t (by omega) (by decide)]
        refine wp_lt (wp_lt (wp_lt ?_))
        rw [← hstep] at hH
        rw [nI_1]
        refine ih (8 - (t + 1)) _ (by omega) ⟨t + 1, _, _, by omega, rfl, fun h9 => left3 t (by omega), ?_, rfl⟩
        rw [hgS]
        obtain ⟨w1, w2, w3, w4, w5, w6, w7⟩ := hH
        have ec : ∀ i, i ≠ 4 → cp M' (3, w, 5) (3, w, 4) 208 (3, w, i) = M' (3, w, i) := fun i hi => if_neg (cne hi)
        refine ⟨fun c h1 h2 => (if_neg (fun e => by rw [e] at h2; exact h2.elim (fun q => q rfl) (fun q => q rfl))).trans (w1 c h1 h2), fun j hj => ?_, fun j hj => rfl, fun j hj => ?_, ?_, fun c hc => ?_, fun t ht => ?_⟩
        · show (if ((3, w, 4) : CId) = (3, w, 4) then va_cpy (M' (3, w, 5)) (M' (3, w, 4)) 0 0 208 else M' (3, w, 4)) j = S'.1 j
          rw [if_pos rfl, sb_cpy0 hj]; exact w3 j hj
        · rw [ec 3 (by decide)]; exact w4 j hj
        · rw [ec 0 (by decide)]; exact w5
        · rw [ec 2 (by decide)]; exact w6 c hc
        · rw [ec 1 (by decide)]; exact w7 t ht
    · show GX7_counts_145 fu D w kn' kn M' (nI b) (leftW t) (nI t) (nI k) = _
      unfold GX7_counts_145
      rw [show (208 : Int32) = nI 208 from rfl, ile_f hk (by decide), gd_k hk (by decide), nI_clamp (by omega), ← nI_1 k]
      rfl
    · show GX7_counts_145 fu D w kn' kn M' (nI b) (leftW t) (nI t) (nI 208) = _
      unfold GX7_counts_145
      rw [show (208 : Int32) = nI 208 from rfl, ile_t (Nat.le_refl _) (by decide)]
  · obtain rfl : t = 8 := by omega
    rw [show (8 : Int32) = nI 8 from rfl, ile_t (Nat.le_refl _) (by decide)]
    unfold WR
    generalize waysW W b 8 = S8 at hM ⊢
    obtain ⟨w1, w2, w3, w4, w5, w6, w7⟩ := hM
    refine x_air hfu w2 w5.2 (fun M' g1 g2 g3 => ⟨fun c h1 h2 => (g1 c (fun e => by rw [e] at h2; exact h2.elim (fun q => q rfl) (fun q => q rfl))).trans (w1 c h1 h2), g2.trans w5.1, g3, fun j hj => ?_, fun c hc => ?_, fun t ht => ?_⟩) <;> dsimp only
    · rw [g1 _ (cne (by decide))]; exact w4 j hj
    · rw [g1 _ (cne (by decide))]; exact w6 c hc
    · rw [g1 _ (cne (by decide))]; exact w7 t ht
theorem sumI_0 : ∀ n, sumI (fun _ => 0) n = 0
  | 0 => rfl
  | n + 1 => by
    show sumI (fun _ => 0) n + 0 = 0
    rw [sumI_0 n]
    rfl
theorem top_in (hI : Inv W) : 1 ≤ wN W 8 ∧ wN W 8 ≤ 12 ∧ wN W 7 ≤ 15 ∧ W 8 = nI (wN W 8) ∧ W 7 = nI (wN W 7) := by
  obtain ⟨c, hc, e⟩ := hI.1.2.2.2.2.2.2
  obtain ⟨l, h1, h2, e2⟩ := hI.2.1
  have e1 : wN W 7 = c := by unfold wN; rw [e, nI_clamp (by omega)]
  have e3 : wN W 8 = l := by unfold wN; rw [e2, nI_clamp (by omega)]
  rw [e1, e3]
  exact ⟨h1, h2, hc, e2, e⟩
theorem x_counts {b : Nat} (hfu : 300 < fu) (hI : Inv W) (hX : CX R D M0 0 W) (hb : b < wN W 0) (hM : SW w M0 M) : Wp (FX7_counts fu D w M (nI b)) (fun r => WR M0 w W b r.2) := by
  obtain ⟨t1, t2, t3, t4, t5⟩ := top_in hI
  unfold FX7_counts FX7_counts_2
  rw [show ((M, nI b, 0) : Mem × Int32 × Int32) = (fun M k => (M, nI b, nI k)) M 0 from rfl]
  rw [clr_loop (fun M k => (M, nI b, nI k)) (c := (3, w, 1)) (N := 9) (E := fun M => FX7_counts_23 fu D w M (nI b) 0) (fun kn' M' k hk => ?_) (fun kn' M' => ?_) (show 9 < fu by omega) M]
  rotate_left
  · show GX7_counts_2 fu D w kn' M' (nI b) (nI k) = _
    unfold GX7_counts_2
    rw [show (8 : Int32) = nI 8 from rfl, ilt_f (by omega) (by decide), gd_k hk (by decide), nI_clamp (by omega), ← nI_1 k]
    rfl
  · show GX7_counts_2 fu D w kn' M' (nI b) (nI 9) = _
    unfold GX7_counts_2
    rw [if_pos (by decide)]
  have hs1 : SW w M0 (clr M (3, w, 1) 9) := SW_clr hM
  have g1 : ∀ t, t < 8 → clr M (3, w, 1) 9 (3, w, 1) (t + 1) = 0 := fun t ht => clr_in (by omega)
  generalize clr M (3, w, 1) 9 = M1 at hs1 g1
  show Wp (FX7_counts_23 fu D w M1 (nI b) 0) _
  unfold FX7_counts_23
  rw [show ((M1, nI b, 0) : Mem × Int32 × Int32) = (fun M k => (M, nI b, nI k)) M1 0 from rfl]
  rw [clr_loop (fun M k => (M, nI b, nI k)) (c := (3, w, 2)) (N := 16) (E := fun M => FX7_counts_44 fu D w M (nI b) 0) (fun kn' M' k hk => ?_) (fun kn' M' => ?_) (show 16 < fu by omega) M1]
  rotate_left
  · show GX7_counts_23 fu D w kn' M' (nI b) (nI k) = _
    unfold GX7_counts_23
    rw [show (16 : Int32) = nI 16 from rfl, ile_f hk (by decide), gd_k hk (by decide), nI_clamp (by omega), ← nI_1 k]
    rfl
  · show GX7_counts_23 fu D w kn' M' (nI b) (nI 16) = _
    unfold GX7_counts_23
    rw [if_pos (by decide)]
  have hs2 : SW w M0 (clr M1 (3, w, 2) 16) := SW_clr hs1
  have g12 : ∀ t, t < 8 → clr M1 (3, w, 2) 16 (3, w, 1) (t + 1) = 0 := fun t ht => by rw [clr_c (cne (by decide))]; exact g1 t ht
  have g2 : ∀ c, c < 16 → clr M1 (3, w, 2) 16 (3, w, 2) c = 0 := fun t ht => clr_in ht
  generalize clr M1 (3, w, 2) 16 = M2 at hs2 g12 g2
  show Wp (FX7_counts_44 fu D w M2 (nI b) 0) _
  unfold FX7_counts_44
  rw [show ((M2, nI b, 0) : Mem × Int32 × Int32) = (fun M k => (M, nI b, nI k)) M2 0 from rfl]
  rw [clr_loop (fun M k => (M, nI b, nI k)) (c := (3, w, 4)) (N := 208) (E := fun M => FX7_counts_68 fu D w M (nI b) 0) (fun kn' M' k hk => ?_) (fun kn' M' => ?_) (show 208 < fu by omega) M2]
  rotate_left
  · show GX7_counts_44 fu D w kn' M' (nI b) (nI k) = _
    unfold GX7_counts_44
    rw [show (208 : Int32) = nI 208 from rfl, ile_f hk (by decide), gd_k hk (by decide), nI_clamp (by omega), ← nI_1 k]
    rfl
  · show GX7_counts_44 fu D w kn' M' (nI b) (nI 208) = _
    unfold GX7_counts_44
    rw [if_pos (by decide)]
  have hs3 : SW w M0 (clr M2 (3, w, 4) 208) := SW_clr hs2
  have g13 : ∀ t, t < 8 → clr M2 (3, w, 4) 208 (3, w, 1) (t + 1) = 0 := fun t ht => by rw [clr_c (cne (by decide))]; exact g12 t ht
  have g23 : ∀ c, c < 16 → clr M2 (3, w, 4) 208 (3, w, 2) c = 0 := fun t ht => by rw [clr_c (cne (by decide))]; exact g2 t ht
  have g43 : ∀ j, j < 208 → clr M2 (3, w, 4) 208 (3, w, 4) j = 0 := fun t ht => clr_in ht
  generalize clr M2 (3, w, 4) 208 = M3 at hs3 g13 g23 g43
  show Wp (FX7_counts_68 fu D w M3 (nI b) 0) _
  unfold FX7_counts_68
  rw [show ((M3, nI b, 0) : Mem × Int32 × Int32) = (fun M k => (M, nI b, nI k)) M3 0 from rfl]
  rw [clr_loop (fun M k => (M, nI b, nI k)) (c := (3, w, 3)) (N := 128) (E := fun M => lt (up M (3, w, 0) 5 0) (fun M92 => lt (up M92 (3, w, 0) 6 0) (fun M97 => gd ((16 * (M97 (0, 0, 0) 13)) + (M97 (0, 0, 0) 12)) 208 (lt (up M97 (3, w, 4) (((16 * (M97 (0, 0, 0) 13)) + (M97 (0, 0, 0) 12)).toNatClampNeg) 1) (fun M129 => FX7_counts_136 fu D w M129 (nI b) 2187 0))))) (fun kn' M' k hk => ?_) (fun kn' M' => ?_) (show 128 < fu by omega) M3]
  rotate_left
  · show GX7_counts_68 fu D w kn' M' (nI b) (nI k) = _
    unfold GX7_counts_68
    rw [show (128 : Int32) = nI 128 from rfl, ile_f hk (by decide), gd_k hk (by decide), nI_clamp (by omega), ← nI_1 k]
    rfl
  · show GX7_counts_68 fu D w kn' M' (nI b) (nI 128) = _
    unfold GX7_counts_68
    rw [if_pos (by decide)]
  have hs4 : SW w M0 (clr M3 (3, w, 3) 128) := SW_clr hs3
  have g14 : ∀ t, t < 8 → clr M3 (3, w, 3) 128 (3, w, 1) (t + 1) = 0 := fun t ht => by rw [clr_c (cne (by decide))]; exact g13 t ht
  have g24 : ∀ c, c < 16 → clr M3 (3, w, 3) 128 (3, w, 2) c = 0 := fun t ht => by rw [clr_c (cne (by decide))]; exact g23 t ht
  have g44 : ∀ j, j < 208 → clr M3 (3, w, 3) 128 (3, w, 4) j = 0 := fun t ht => by rw [clr_c (cne (by decide))]; exact g43 t ht
  have g34 : ∀ j, j < 128 → clr M3 (3, w, 3) 128 (3, w, 3) j = 0 := fun t ht => clr_in ht
  generalize clr M3 (3, w, 3) 128 = M4 at hs4 g14 g24 g44 g34
  have hC4 : CX R D M4 0 W := CX_congr (fun c hc _ _ => hs4.sx c hc) hX
  refine wp_lt (wp_lt ?_)
  have n0 : ((0, 0, 0) : CId) ≠ (3, w, 0) := fun e => by cases e
  rw [upc n0, upc n0, hC4.1.2.2.2.2.2.1, hC4.1.2.2.2.2.1, t4, t5, ix16, gd_k (by omega) (by decide)]
  refine wp_lt ?_
  rw [nI_clamp (by omega)]
  refine x_breaths hfu hI hX hb (by decide) ⟨SW_up (SW_up (SW_up hs4)), fun j hj => ?_, fun j hj => rfl, fun j hj => ?_, ⟨?_, ?_⟩, fun c hc => ?_, fun t ht => ?_⟩
  · rw [up_at, upc (cne (by decide)), upc (cne (by decide)), g44 j hj]
    rfl
  · rw [upc (cne (by decide)), upc (cne (by decide)), upc (cne (by decide))]
    exact g34 j hj
  · rw [upc (cne (by decide)), upn (by decide)]
    exact upe
  · rw [upc (cne (by decide))]
    exact upe
  · rw [upc (cne (by decide)), upc (cne (by decide)), upc (cne (by decide)), g24 c hc]
    exact (sumI_0 8).symm
  · rw [upc (cne (by decide)), upc (cne (by decide)), upc (cne (by decide)), g14 t ht]
    exact (sumI_0 _).symm
end
