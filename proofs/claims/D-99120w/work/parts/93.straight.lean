set_option maxRecDepth 100000
/-! a breath of one that flies; straight -/
def driftW (W : Wd0) (b : Nat) (g : Int32) : Int32 := if W (27 + 4 * b) ≤ 0 then 0 else g
theorem isI_16 {c : Int32} (h : isI c 0 15 = 1) : ∃ k, k < 16 ∧ c = nI k := by
  by_cases g : isN c 16
  · exact g
  · rw [isI_f' (n := 15) 15 rfl g (by decide)] at h
    exact absurd h (by decide)
theorem isI_ne0 {c a b : Int32} (h : isI c a b ≠ 0) : isI c a b = 1 := (isI_01 c a b).resolve_left h
section
variable {R : Nat} {fu : Nat} {D : List LDen} {M : Mem} {m : Nat} {kn : List LDen → Mem → Option (PR Int32)} {w : Nat → Int32}
theorem m_noCol {c : Int32} : FX8_noColumn fu D M c = some (1 - isI c 0 15, M) := by
  unfold FX8_noColumn
  rw [m_in, bd_some]
  rcases isI_01 c 0 15 with h | h
  · rw [h]; rfl
  · rw [h]; rfl
theorem m_drift {b : Nat} (hb : b < 6) {g : Int32} : FX8_driftOf fu D M (nI b) g = some (driftW (M (5, 0, 1)) b g, M) := by
  unfold FX8_driftOf driftW
  rw [show (1 : Int32) = nI 1 from rfl, m_ofBird hb (by decide), bd_some, show 26 + 4 * b + 1 = 27 + 4 * b by omega]
  by_cases h : M (5, 0, 1) (27 + 4 * b) ≤ 0
  · rw [if_pos h, if_pos h]; rfl
  · rw [if_neg h, if_neg h]; rfl
theorem ix4m (s : Nat) : (4 : Int32) * nI s = nI (4 * s) := by rw [show (4 : Int32) = nI 4 from rfl, nI_mul]
theorem ix4p (s f : Nat) : (4 : Int32) * nI s + nI f = nI (4 * s + f) := by rw [ix4m, nI_add]
/-- what becomes of side s in a breath -/
def Breathed (M M' : Mem) (W : Wd0) (s b l c t : Nat) (g : Int32) : Prop :=
  TM M M' ∧ M' (5, 0, 13) = M (5, 0, 13) ∧ (∀ j, (j < 4 * s ∨ 4 * s + 4 ≤ j) → M' (5, 0, 12) j = M (5, 0, 12) j) ∧
  M' (5, 0, 12) (4 * s) = nI l - sinksW W (nI b) (nI l) (nI c) (nI t) ∧ M' (5, 0, 12) (4 * s + 1) = nI c + carW W (nI b) (nI l) (nI c) (nI t) + driftW W b g ∧
  ((isI (M' (5, 0, 12) (4 * s + 1)) 0 15 = 1 ∧ 0 < M' (5, 0, 12) (4 * s) ∧ M' (5, 0, 12) (4 * s + 2) = M (5, 0, 12) (4 * s + 2) ∧ M' (5, 0, 12) (4 * s + 3) = M (5, 0, 12) (4 * s + 3)) ∨
   ((isI (M' (5, 0, 12) (4 * s + 1)) 0 15 = 0 ∨ ¬ 0 < M' (5, 0, 12) (4 * s)) ∧ M' (5, 0, 12) (4 * s + 2) = 0 ∧ M' (5, 0, 12) (4 * s + 3) = (if isI (M' (5, 0, 12) (4 * s + 1)) 0 15 = 1 ∧ isI (M' (5, 0, 12) (4 * s + 1)) (W 9) (W 10) = 1 then nI (t + 1) else 0)))
theorem m_breathes {s b l c t : Nat} {g : Int32} (hs : s < 2) (hb : b < 6) (hl : l < 13) (hfb : M (5, 0, 13) s = nI b) (hfl : M (5, 0, 12) (4 * s) = nI l) (hfc : M (5, 0, 12) (4 * s + 1) = nI c) (hL : LawW (M (5, 0, 1))) (hfu : 400 < fu) : Wp (FX8_breathes fu D M (nI s) g (nI t)) (fun r => Breathed M r.2 (M (5, 0, 1)) s b l c t g) := by
  unfold FX8_breathes
  rw [gd_k hs (by decide), ix4m, nI_1, gd_k (by omega) (by decide), gd_k (by omega) (by decide), nI_clamp (by omega), nI_clamp (by omega), nI_clamp (by omega), hfb, hfl, hfc, m_looks, bd_some]
  generalize hM0 : up (up (up (up M (5, 0, 0) 18 (nI b)) (5, 0, 0) 19 (nI l)) (5, 0, 0) 20 (nI c)) (5, 0, 0) 21 (nI t) = M0
  have hLk : Lk M0 (nI b) (nI l) (nI c) (nI t) := by rw [← hM0]; exact Lk_looks
  have hT0 : TM M M0 := by rw [← hM0]; exact TM_looks
  have hc0 : ∀ i, i ≠ 0 → M0 (5, 0, i) = M (5, 0, i) := fun i hi => by
    have : ((5, 0, i) : CId) ≠ (5, 0, 0) := fun e => hi (congrArg (fun c : CId => c.2.2) e)
    rw [← hM0, upc this, upc this, upc this, upc this]
  refine wp_bd (m_sinks hLk ⟨b, hb, rfl⟩ (by rw [hc0 1 (by decide)]; exact hL) hfu) (fun v1 M1 h1 => ?_)
  dsimp only at h1
  refine wp_lt ?_
  refine wp_bd (m_carries (hLk.vx h1.2) ⟨b, hb, rfl⟩ ⟨l, hl, rfl⟩ (by rw [h1.2 (5, 0, 1) (by decide), hc0 1 (by decide)]; exact hL) hfu) (fun v2 M2 h2 => ?_)
  dsimp only at h2
  have hv := h1.2.trans h2.2
  have hLk2 := hLk.vx hv
  rw [hLk2.1, m_drift hb, bd_some, hLk.2.1, (hLk.vx h1.2).2.2.1]
  have e1 : M2 (5, 0, 1) = M (5, 0, 1) := (hv _ (by decide)).trans (hc0 1 (by decide))
  have e12 : M2 (5, 0, 12) = M (5, 0, 12) := (hv _ (by decide)).trans (hc0 12 (by decide))
  have e13 : M2 (5, 0, 13) = M (5, 0, 13) := (hv _ (by decide)).trans (hc0 13 (by decide))
  have hT2 : TM M M2 := hT0.trans hv.tm
  have g1 := h1.1
  have g2 := h2.1
  rw [hc0 1 (by decide)] at g1
  rw [h1.2 (5, 0, 1) (by decide), hc0 1 (by decide)] at g2
  rw [g1, g2, e1]
  clear g1 g2 h1 h2
  refine wp_lt ?_
  generalize hcv : nI c + carW (M (5, 0, 1)) (nI b) (nI l) (nI c) (nI t) + driftW (M (5, 0, 1)) b g = c'
  generalize hlv : nI l - sinksW (M (5, 0, 1)) (nI b) (nI l) (nI c) (nI t) = l'
  rw [gd_k (by omega) (by decide)]
  refine wp_lt ?_
  rw [gd_k (by omega) (by decide)]
  refine wp_lt ?_
  rw [m_noCol, bd_some]
  have hN : ∀ j, up (up M2 (5, 0, 12) (4 * s) l') (5, 0, 12) (4 * s + 1) c' (5, 0, 12) j = if j = 4 * s + 1 then c' else if j = 4 * s then l' else M (5, 0, 12) j := fun j => by rw [up_at, up_at, e12]
  have h9 : ∀ i, i ≠ 12 → up (up M2 (5, 0, 12) (4 * s) l') (5, 0, 12) (4 * s + 1) c' (5, 0, i) = M2 (5, 0, i) := fun i hi => by
    have : ((5, 0, i) : CId) ≠ (5, 0, 12) := fun e => hi (congrArg (fun c : CId => c.2.2) e)
    rw [upc this, upc this]
  have hT3 : TM M (up (up M2 (5, 0, 12) (4 * s) l') (5, 0, 12) (4 * s + 1) c') := TM_up (TM_up hT2 (by decide)) (by decide)
  generalize up (up M2 (5, 0, 12) (4 * s) l') (5, 0, 12) (4 * s + 1) c' = M3 at hN h9 hT3 ⊢
  have over : (isI c' 0 15 = 0 ∨ ¬ 0 < l') → Wp (FX8_breathes_97 fu D M3 (nI s) (nI t) c') (fun r => Breathed M r.2 (M (5, 0, 1)) s b l c t g) := by
    intro hov
    unfold FX8_breathes_97
    rw [show (2 : Int32) = nI 2 from rfl, show (3 : Int32) = nI 3 from rfl, ix4p, ix4p, gd_k (by omega) (by decide)]
    refine wp_lt ?_
    rw [nI_clamp (by omega), m_noCol, bd_some]
    have fin : ∀ v, (if isI c' 0 15 = 1 ∧ isI c' (M (5, 0, 1) 9) (M (5, 0, 1) 10) = 1 then nI (t + 1) else 0) = v → Wp (FX8_breathes_141 fu D (up M3 (5, 0, 12) (4 * s + 2) 0) v (nI (4 * s + 3))) (fun r => Breathed M r.2 (M (5, 0, 1)) s b l c t g) := by
      intro v hv9
      unfold FX8_breathes_141
      rw [gd_k (by omega) (by decide)]
      refine wp_lt (wp_ok ?_)
      rw [nI_clamp (by omega)]
      have hN5 : ∀ j, up (up M3 (5, 0, 12) (4 * s + 2) 0) (5, 0, 12) (4 * s + 3) v (5, 0, 12) j = if j = 4 * s + 3 then v else if j = 4 * s + 2 then 0 else if j = 4 * s + 1 then c' else if j = 4 * s then l' else M (5, 0, 12) j := fun j => by rw [up_at, up_at, hN]
      refine ⟨TM_up (TM_up hT3 (by decide)) (by decide), ?_, fun j hj => ?_, ?_, ?_, Or.inr ⟨?_, ?_, ?_⟩⟩ <;> dsimp only
      · rw [upc (by decide), upc (by decide), h9 13 (by decide), e13]
      · rw [hN5, if_neg (by omega), if_neg (by omega), if_neg (by omega), if_neg (by omega)]
      · rw [hN5, if_neg (by omega), if_neg (by omega), if_neg (by omega), if_pos rfl, hlv]
      · rw [hN5, if_neg (by omega), if_neg (by omega), if_pos rfl, hcv]
      · rw [hN5, hN5, if_neg (by omega), if_neg (by omega), if_pos rfl, if_neg (by omega), if_neg (by omega), if_neg (by omega), if_pos rfl]
        exact hov
      · rw [hN5, if_neg (by omega), if_pos rfl]
      · have hq : up (up M3 (5, 0, 12) (4 * s + 2) 0) (5, 0, 12) (4 * s + 3) v (5, 0, 12) (4 * s + 1) = c' := by rw [hN5, if_neg (by omega), if_neg (by omega), if_pos rfl]
        simp only [hq]
        rw [hN5, if_pos rfl, hv9]
    rcases isI_01 c' 0 15 with h | h
    · rw [h, if_neg (by decide)]
      exact fin 0 (if_neg (fun q => by rw [h] at q; exact absurd q.1 (by decide)))
    · rw [h, if_pos (by decide), m_isOver, bd_some, upc (by decide), h9 1 (by decide), e1]
      rcases isI_01 c' (M (5, 0, 1) 9) (M (5, 0, 1) 10) with h7 | h7
      · rw [h7, if_pos rfl]
        exact fin 0 (if_neg (fun q => by rw [h7] at q; exact absurd q.2 (by decide)))
      · rw [h7, if_neg (by decide), nI_1]
        exact fin _ (if_pos ⟨h, h7⟩)
  rcases isI_01 c' 0 15 with h | h
  · rw [h, if_neg (by decide)]
    exact over (Or.inl h)
  · rw [h, if_pos (by decide)]
    by_cases h0 : l' ≤ 0
    · rw [if_pos h0]
      exact over (Or.inr (Int32.not_lt.mpr h0))
    · rw [if_neg h0]
      refine wp_ok ⟨hT3, ?_, fun j hj => ?_, ?_, ?_, Or.inl ⟨?_, ?_, ?_, ?_⟩⟩ <;> dsimp only
      · rw [h9 13 (by decide), e13]
      · rw [hN, if_neg (by omega), if_neg (by omega)]
      · rw [hN, if_neg (by omega), if_pos rfl, hlv]
      · rw [hN, if_pos rfl, hcv]
      · rw [hN, if_pos rfl]; exact h
      · rw [hN, if_neg (by omega), if_pos rfl]; exact Int32.not_le.mp h0
      · rw [hN, if_neg (by omega), if_neg (by omega)]
      · rw [hN, if_neg (by omega), if_neg (by omega)]
/-- both begin at the tower -/
theorem m_begins {s b : Nat} (hs : s < 2) : Wp (FX8_begins fu D M (nI s) (nI b)) (fun r => TM M r.2 ∧ (∀ j, r.2 (5, 0, 13) j = if j = s then nI b else M (5, 0, 13) j) ∧ (∀ j, r.2 (5, 0, 12) j = if j = 4 * s + 3 then 0 else if j = 4 * s + 2 then 1 else if j = 4 * s + 1 then M (5, 0, 1) 7 else if j = 4 * s then M (5, 0, 1) 8 else M (5, 0, 12) j)) := by
  unfold FX8_begins
  rw [gd_k hs (by decide)]
  refine wp_lt ?_
  rw [gd_lit (by decide), show (1 : Int32) = nI 1 from rfl, show (2 : Int32) = nI 2 from rfl, show (3 : Int32) = nI 3 from rfl, ix4p, ix4p, ix4p, ix4m, gd_k (by omega) (by decide)]
  refine wp_lt ?_
  rw [gd_lit (by decide), gd_k (by omega) (by decide)]
  refine wp_lt ?_
  rw [gd_k (by omega) (by decide)]
  refine wp_lt ?_
  rw [gd_k (by omega) (by decide)]
  refine wp_lt (wp_ok ?_)
  rw [nI_clamp (by omega), nI_clamp (by omega), nI_clamp (by omega), nI_clamp (by omega), nI_clamp (by omega)]
  refine ⟨TM_up (TM_up (TM_up (TM_up (TM_up TM.refl (by decide)) (by decide)) (by decide)) (by decide)) (by decide), fun j => ?_, fun j => ?_⟩ <;> dsimp only
  · rw [upc (by decide), upc (by decide), upc (by decide), upc (by decide), up_at]
  · have e : (nI 1 : Int32) = 1 := rfl
    simp only [up_at, upc (show ((5, 0, 1) : CId) ≠ (5, 0, 13) by decide), upc (show ((5, 0, 1) : CId) ≠ (5, 0, 12) by decide), upc (show ((5, 0, 12) : CId) ≠ (5, 0, 13) by decide), e]
theorem m_isFlying {s : Nat} (hs : s < 2) {f : Int32} (hf : M (5, 0, 12) (4 * s + 2) = f) (h01 : f = 0 ∨ f = 1) : FX8_isFlying fu D M (nI s) = some (f, M) := by
  unfold FX8_isFlying
  rw [show (2 : Int32) = nI 2 from rfl, ix4p, gd_k (by omega) (by decide), nI_clamp (by omega), hf]
  rcases h01 with h | h
  · rw [h]; rfl
  · rw [h]; rfl
/-- where a feather lands without gusts, or in which breath -/
def strW (W : Wd0) (b : Nat) (br : Int32) : Nat → Nat → Nat → Nat → Int32
  | 0, _, _, _ => -1
  | n + 1, t, l, c =>
    if isI (nI c + carW W (nI b) (nI l) (nI c) (nI t)) 0 15 = 0 then -1
    else if 0 < nI l - sinksW W (nI b) (nI l) (nI c) (nI t) then strW W b br n (t + 1) (nI l - sinksW W (nI b) (nI l) (nI c) (nI t)).toNatClampNeg (nI c + carW W (nI b) (nI l) (nI c) (nI t)).toNatClampNeg
    else if br = 0 then nI c + carW W (nI b) (nI l) (nI c) (nI t) else nI (t + 1)
/-- a feather's next place, if it flies on -/
theorem fly_on {W : Wd0} {b l c' t : Int32} {l0 : Nat} (hl0 : l0 ≤ 12) {c : Int32} (h1 : isI c 0 15 = 1) (h2 : 0 < nI l0 - sinksW W b l c' t) : ∃ l1 c1, 1 ≤ l1 ∧ l1 ≤ 12 ∧ c1 < 16 ∧ nI l0 - sinksW W b l c' t = nI l1 ∧ c = nI c1 := by
  obtain ⟨s, hs, es⟩ := sinksW_rng W b l c' t
  rw [es] at h2 ⊢
  obtain ⟨k, hk, ek⟩ := isI_16 h1
  rcases lev_cases hl0 hs with ⟨g, -⟩ | ⟨-, -, g1, g2⟩
  · exact absurd h2 g
  · exact ⟨l0 - s, k, by omega, by omega, hk, g2, ek⟩
theorem x_straight {b : Nat} (hX : CX R D M 0 (M (5, 0, 1))) (hI : Inv (M (5, 0, 1))) (hb : b < wN (M (5, 0, 1)) 0) (hfu : 12 < fu) {br : Int32} : ∀ {t l c : Nat} {M0 : Mem} {res : Int32}, t ≤ 8 → 1 ≤ l → l ≤ 12 → c < 16 → SX M M0 → strW (M (5, 0, 1)) b br (8 - t) t l c = res → Wp (FX1_straight_26 fu D M0 (nI b) br (nI l) (nI c) (nI t)) (fun r => r.1 = 0 ∧ r.2.1 = res ∧ SX M r.2.2) := by
  intro t l c M0 res ht hl1 hl2 hc hs hres
  unfold FX1_straight_26
  refine wp_lp (fun m z => ∃ t l c M0, t ≤ 8 ∧ m = 8 - t ∧ 1 ≤ l ∧ l ≤ 12 ∧ c < 16 ∧ SX M M0 ∧ strW (M (5, 0, 1)) b br (8 - t) t l c = res ∧ z = (M0, nI b, br, nI l, nI c, nI t)) ?_ (m := 8 - t) (by omega) ⟨t, l, c, M0, ht, rfl, hl1, hl2, hc, hs, hres, rfl⟩
  rintro m z kn ⟨t, l, c, M0, ht, rfl, hl1, hl2, hc, hs, hres, rfl⟩ ih
  show Wp (GX1_straight_26 fu D kn M0 (nI b) br (nI l) (nI c) (nI t)) _
  unfold GX1_straight_26
  rcases Nat.lt_or_ge t 8 with h | h
  · obtain ⟨n, hn⟩ : ∃ n, 8 - t = n + 1 := ⟨8 - t - 1, by omega⟩
    have hn2 : n = 8 - (t + 1) := by omega
    rw [hn] at hres
    unfold strW at hres
    rw [show (8 : Int32) = nI 8 from rfl, ile_f h (by decide)]
    have hX0 : CX R D M0 0 (M (5, 0, 1)) := CX_congr (fun c hc _ _ => hs c hc) hX
    refine wp_bd (x_sinks hX0 (nb_le hI) hb hfu _ _ _) (fun v1 M1 h1 => ?_)
    dsimp only at h1
    have hX1 : CX R D M1 0 (M (5, 0, 1)) := CX_congr (fun c hc _ _ => h1.2.sx c hc) hX0
    refine wp_bd (x_carried hX1 (nb_le hI) hb (show l < 13 by omega) hfu _ _) (fun v2 M2 h2 => ?_)
    dsimp only at h2
    have hs2 := (hs.trans h1.2.sx).trans h2.2.sx
    rw [h1.1, h2.1]
    refine wp_lt (wp_lt ?_)
    rw [x_isIn, bd_some]
    generalize hcv : nI c + carW (M (5, 0, 1)) (nI b) (nI l) (nI c) (nI t) = c' at hres ⊢
    by_cases g : isI c' 0 15 = 0
    · rw [if_pos g] at hres ⊢
      exact wp_ok ⟨rfl, hres, hs2⟩
    · rw [if_neg g] at hres ⊢
      by_cases g2 : 0 < nI l - sinksW (M (5, 0, 1)) (nI b) (nI l) (nI c) (nI t)
      · rw [if_pos g2] at hres ⊢
        obtain ⟨l1, c1, q1, q2, q3, q4, q5⟩ := fly_on hl2 (isI_ne0 g) g2
        rw [q4, q5, nI_clamp (by omega), nI_clamp (by omega)] at hres
        refine wp_lt ?_
        rw [q4, q5, nI_1]
        exact ih (8 - (t + 1)) _ (by omega) ⟨t + 1, l1, c1, M2, by omega, rfl, q1, q2, q3, hs2, by rw [← hn2]; exact hres, rfl⟩
      · rw [if_neg g2] at hres ⊢
        by_cases g3 : br = 0
        · rw [if_pos g3] at hres ⊢
          exact wp_ok ⟨rfl, hres, hs2⟩
        · rw [if_neg g3] at hres ⊢
          rw [nI_1]
          exact wp_ok ⟨rfl, hres, hs2⟩
  · obtain rfl : t = 8 := by omega
    rw [show (8 : Int32) = nI 8 from rfl, ile_t (Nat.le_refl _) (by decide)]
    exact wp_ok ⟨rfl, hres, hs⟩
/-- one that flew has come to rest -/
theorem m_str_end {br x3 res : Int32} {M0 : Mem} (hT : TM M M0) (h2 : M0 (5, 0, 12) 2 = 0) (hres : (if isI (M0 (5, 0, 12) 1) 0 15 = 0 then (-1 : Int32) else if br = 0 then M0 (5, 0, 12) 1 else x3) = res) : Wp (FX8_straight_55 fu D M0 br x3) (fun r => r.1 = res ∧ TM M r.2) := by
  unfold FX8_straight_55
  rw [show (0 : Int32) = nI 0 from rfl, m_isFlying (s := 0) (f := 0) (by decide) h2 (Or.inl rfl), bd_some, if_pos (show (0 : Int32) = nI 0 from rfl), gd_lit (by decide), m_noCol, bd_some]
  rcases isI_01 (M0 (5, 0, 12) 1) 0 15 with h | h
  · rw [h, if_pos rfl] at hres
    rw [show nI 0 = 0 from rfl, h, if_neg (by decide)]
    exact wp_ok ⟨hres, hT⟩
  · rw [h, if_neg (by decide)] at hres
    rw [show nI 0 = 0 from rfl, h, if_pos (by decide)]
    by_cases g3 : br = 0
    · rw [if_pos g3] at hres ⊢
      rw [gd_lit (by decide)]
      exact wp_ok ⟨hres, hT⟩
    · rw [if_neg g3] at hres ⊢
      exact wp_ok ⟨hres, hT⟩
theorem m_straight {b : Nat} (hL : LawW (M (5, 0, 1))) (hb : b < 6) (hfu : 400 < fu) {br : Int32} : ∀ {t l c : Nat} {M0 : Mem} {res : Int32}, t ≤ 8 → 1 ≤ l → l ≤ 12 → c < 16 → TM M M0 → M0 (5, 0, 12) 0 = nI l → M0 (5, 0, 12) 1 = nI c → M0 (5, 0, 12) 2 = 1 → M0 (5, 0, 13) 0 = nI b → strW (M (5, 0, 1)) b br (8 - t) t l c = res → Wp (FX8_straight_28 fu D M0 br (nI t)) (fun r => r.1 = res ∧ TM M r.2) := by
  intro t l c M0 res ht hl1 hl2 hc hT f0 f1 f2 f3 hres
  unfold FX8_straight_28
  refine wp_lp (fun m z => ∃ t M0, t ≤ 8 ∧ m = 8 - t ∧ TM M M0 ∧ ((∃ l c, 1 ≤ l ∧ l ≤ 12 ∧ c < 16 ∧ M0 (5, 0, 12) 0 = nI l ∧ M0 (5, 0, 12) 1 = nI c ∧ M0 (5, 0, 12) 2 = 1 ∧ M0 (5, 0, 13) 0 = nI b ∧ strW (M (5, 0, 1)) b br (8 - t) t l c = res) ∨ (M0 (5, 0, 12) 2 = 0 ∧ (if isI (M0 (5, 0, 12) 1) 0 15 = 0 then (-1 : Int32) else if br = 0 then M0 (5, 0, 12) 1 else nI t) = res)) ∧ z = (M0, br, nI t)) ?_ (m := 8 - t) (by omega) ⟨t, M0, ht, rfl, hT, Or.inl ⟨l, c, hl1, hl2, hc, f0, f1, f2, f3, hres⟩, rfl⟩
  rintro m z kn ⟨t, M0, ht, rfl, hT, hor, rfl⟩ ih
  show Wp (GX8_straight_28 fu D kn M0 br (nI t)) _
  unfold GX8_straight_28
  rcases hor with ⟨l, c, hl1, hl2, hc, f0, f1, f2, f3, hres⟩ | ⟨f2, hres⟩
  · rcases Nat.lt_or_ge t 8 with h | h
    · obtain ⟨n, hn⟩ : ∃ n, 8 - t = n + 1 := ⟨8 - t - 1, by omega⟩
      have hn2 : n = 8 - (t + 1) := by omega
      rw [hn] at hres
      unfold strW at hres
      rw [show (8 : Int32) = nI 8 from rfl, ile_f h (by decide), show (0 : Int32) = nI 0 from rfl, m_isFlying (s := 0) (f := 1) (by decide) f2 (Or.inr rfl), bd_some, if_neg (by decide)]
      refine wp_bd (m_breathes (s := 0) (b := b) (l := l) (c := c) (by decide) hb (by omega) f3 f0 f1 (by rw [hT.w]; exact hL) hfu) (fun v1 M1 h1 => ?_)
      dsimp only at h1
      rw [hT.w] at h1
      obtain ⟨b1, b2, b3, b4, b5, b6⟩ := h1
      have hd : driftW (M (5, 0, 1)) b (nI 0) = 0 := by unfold driftW; exact ite_self _
      rw [hd, Int32.add_zero] at b5
      refine wp_lt ?_
      rw [nI_1]
      have b4 : M1 (5, 0, 12) 0 = _ := b4
      have b5 : M1 (5, 0, 12) 1 = _ := b5
      rw [← b4, ← b5] at hres
      rcases b6 with ⟨g1, g2, g3, -⟩ | ⟨g1, g2, -⟩
      · have g1 : isI (M1 (5, 0, 12) 1) 0 15 = 1 := g1
        have g2 : 0 < M1 (5, 0, 12) 0 := g2
        have g3 : M1 (5, 0, 12) 2 = M0 (5, 0, 12) 2 := g3
        rw [if_neg (by rw [g1]; decide), if_pos g2] at hres
        have q := g2
        rw [b4] at q
        obtain ⟨l1, c1, q1, q2, q3, q4, q5⟩ := fly_on hl2 g1 q
        rw [q5, b4, q4, nI_clamp (by omega), nI_clamp (by omega)] at hres
        exact ih (8 - (t + 1)) _ (by omega) ⟨t + 1, M1, by omega, rfl, hT.trans b1, Or.inl ⟨l1, c1, q1, q2, q3, b4.trans q4, q5, g3.trans f2, by rw [b2]; exact f3, by rw [← hn2]; exact hres⟩, rfl⟩
      · refine ih (8 - (t + 1)) _ (by omega) ⟨t + 1, M1, by omega, rfl, hT.trans b1, Or.inr ⟨g2, ?_⟩, rfl⟩
        rcases isI_01 (M1 (5, 0, 12) 1) 0 15 with k | k
        · rw [if_pos k] at hres ⊢
          exact hres
        · rw [if_neg (by rw [k]; decide)] at hres ⊢
          have g1 : ¬ 0 < M1 (5, 0, 12) 0 := g1.resolve_left (fun q => by rw [show M1 (5, 0, 12) (4 * 0 + 1) = M1 (5, 0, 12) 1 from rfl, k] at q; exact absurd q (by decide))
          rw [if_neg g1] at hres
          exact hres
    · obtain rfl : t = 8 := by omega
      rw [show (8 : Int32) = nI 8 from rfl, ile_t (Nat.le_refl _) (by decide)]
      unfold FX8_straight_55
      rw [show (0 : Int32) = nI 0 from rfl, m_isFlying (s := 0) (f := 1) (by decide) f2 (Or.inr rfl), bd_some, if_neg (by decide)]
      exact wp_ok ⟨hres, hT⟩
  · by_cases h : (8 : Int32) ≤ nI t
    · rw [if_pos h]
      exact m_str_end hT f2 hres
    · rw [if_neg h, show (0 : Int32) = nI 0 from rfl, m_isFlying (s := 0) (f := 0) (by decide) f2 (Or.inl rfl), bd_some, if_pos (show (0 : Int32) = nI 0 from rfl)]
      exact m_str_end hT f2 hres
theorem Rx_top {R : Nat} {D : List LDen} {M : Mem} (h : RelX R D (kM M) M) : ∃ l c, 1 ≤ l ∧ l ≤ 12 ∧ c < 16 ∧ M (5, 0, 1) 8 = nI l ∧ M (0, 0, 0) 13 = nI l ∧ M (5, 0, 1) 7 = nI c ∧ M (0, 0, 0) 12 = nI c := by
  obtain ⟨c, hc, e⟩ := h.1.2.1.2.2.2.2.2.2
  obtain ⟨l, h1, h2, e2⟩ := h.1.2.2.1
  exact ⟨l, c, h1, h2, by omega, e2, h.1.1.1.2.2.2.2.2.1.trans e2, e, h.1.1.1.2.2.2.2.1.trans e⟩
theorem arm_19 (hfu : 400 < fu) (hR : RelX R D (kM M) M) (hk : ∀ M', RelX R D (kM M') M' → Good (kn D M') m) : Good (FL_19 fu D kn w M) (1 + m) := by
  obtain ⟨n, hn, e1, e2, e3⟩ := Rx_nb hR
  obtain ⟨l, c, hl1, hl2, hc, t1, t2, t3, t4⟩ := Rx_top hR
  have hI : Inv (M (5, 0, 1)) := hR.1.2
  unfold FL_19 FX0_straight
  by_cases h1 : isN (w 1) n
  · obtain ⟨b, hb, w1⟩ := h1
    rw [w1]
    have hb9 : b < wN (M (5, 0, 1)) 0 := by rw [e3]; exact hb
    refine arm_q hR 0 (strW (M (5, 0, 1)) b (bz (w 2)) 8 0 l c) (x0_ok ?_) (fun M1 hs hR1 => ?_) hk
    · unfold FX1_straight
      rw [x_birdAt e2 hn hb, bx_some, gd_k (by omega) (by decide), t2, t4]
      exact x_straight (t := 0) (Rx_CX hR) hI hb9 (by omega) (by decide) hl1 hl2 hc SX.refl rfl
    · have ek := hs (5, 0, 1) rfl
      unfold FX8_straight
      show Q8 (bd _ _) _ _ _
      rw [m_noBird (n := n) (by rw [up0_1, ek]; exact e1) hn hb, bd_some, m_throws0, bd_some, if_pos rfl]
      refine q8_wp (wp_bd (m_begins (s := 0) (b := b) (by decide)) (fun v M2 h => ?_))
      dsimp only at h
      obtain ⟨g1, g2, g3⟩ := h
      have hw : (up M1 (5, 0, 0) 0 0) (5, 0, 1) = M (5, 0, 1) := by rw [up0_1, ek]
      rw [hw] at g3
      exact m_straight (t := 0) (M := up M1 (5, 0, 0) 0 0) (by rw [hw]; exact Rx_law hR) (by omega) hfu (by decide) hl1 hl2 hc g1 ((g3 0).trans t1) ((g3 1).trans t3) (g3 2) (g2 0) (by rw [hw])
  · refine arm_q hR 1 0 (x0_ex (n := 2) ?_ (by decide) (fun _ => rfl)) (fun M1 hs hR1 => ?_) hk
    · unfold FX1_straight
      rw [x_birdAt' e2 hn h1]
      exact wp_ok ⟨rfl, SX.refl⟩
    · have ek := hs (5, 0, 1) rfl
      unfold FX8_straight
      show Q8 (bd _ _) _ _ _
      rw [m_noBird' (n := n) (by rw [up0_1, ek]; exact e1) hn h1, bd_some, m_throws1, bd_some, if_neg (by decide)]
      exact q8_ex (by decide)
end
