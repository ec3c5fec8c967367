set_option maxRecDepth 100000
/-! arms: ways, lands, good -/
theorem isI_1 (x : Int32) {n : Nat} (hn : n < 2 ^ 30) : (∃ k, 1 ≤ k ∧ k ≤ n ∧ x = nI k ∧ isI x 1 (nI n) = 1) ∨ isI x 1 (nI n) = 0 := by
  unfold isI
  by_cases h : x < 1
  · exact Or.inr (if_pos h)
  · rw [if_neg h]
    by_cases h2 : nI n < x
    · exact Or.inr (if_pos h2)
    · left
      have h0 : ¬ x < 0 := fun g => h (Int32.lt_trans g (by decide))
      obtain ⟨k, hk, e⟩ := nI_of2 (n := n) (M := nI n) (nI_toInt (by omega)) h0 (Int32.not_lt.mp h2)
      refine ⟨k, ?_, hk, e, if_neg h2⟩
      rcases Nat.eq_zero_or_pos k with hz | hz
      · subst hz
        rw [e] at h
        exact absurd (show nI 0 < 1 by decide) h
      · exact hz
def gAllW (W : Wd0) (la : Nat → Int32) : Int32 := sumI (goodW W la) 8
theorem goodW_congr {W : Wd0} {la la' : Nat → Int32} {t : Nat} (ht : t < 8) (hI : Inv W) (h : ∀ j, j < 128 → la' j = la j) : goodW W la' t = goodW W la t := by
  obtain ⟨h1, h2, -⟩ := yard_in hI
  unfold goodW
  exact sumI_congr fun j hj => h _ (by omega)
section
variable {R : Nat} {fu : Nat} {D : List LDen} {M M0 : Mem} {W : Wd0} {w : Nat} {b : Nat}
theorem x_goodAll (hfu : 300 < fu) (hM : WR M0 w W b M) : FX7_good fu D w M = some (gAllW W (waysW W b 8).2.1, M) := by
  unfold FX7_good FX7_good_4
  refine wp_eq (wp_forP (fun a k => (M, a, nI (1 + k))) (fun k a => a + goodW W (waysW W b 8).2.1 k) 0 8 (fun k kn hk h => ?_) (fun kn => ?_) (by omega))
  · show Wp (GX7_good_4 fu D w kn M _ (nI (1 + k))) _
    unfold GX7_good_4
    rw [show (8 : Int32) = nI 8 from rfl, ilt_f (by omega) (by decide), gd_k (by omega) (by decide), nI_clamp (by omega), show 1 + k = k + 1 by omega, hM.2.2.2.2.2 k hk]
    refine wp_lt (wp_lt ?_)
    rw [nI_1, show k + 1 + 1 = 1 + (k + 1) by omega]
    exact h
  · show Wp (GX7_good_4 fu D w kn M _ (nI (1 + 8))) _
    unfold GX7_good_4
    rw [if_pos (by decide)]
    exact wp_ok rfl
theorem m_landedAt {k c : Nat} (hk1 : 1 ≤ k) (hk : k ≤ 8) (hc : c < 16) (hM : MR M0 W b M) : FX8_landedAt fu D M (nI k) (nI c) = some ((waysW W b 8).2.1 (16 * (k - 1) + c), M) := by
  unfold FX8_landedAt
  rw [ix16, gd_k (by omega) (by decide), nI_clamp (by omega), ← hM.2.2.2 _ (by omega), show 16 + (16 * (k - 1) + c) = 16 * k + c by omega]
theorem m_goodAt {k : Nat} (hfu : 300 < fu) (hk1 : 1 ≤ k) (hk : k ≤ 8) (hI : Inv (M0 (5, 0, 1))) (hM : MR M0 (M0 (5, 0, 1)) b M) : FX8_goodAt fu D M (nI k) = some (goodW (M0 (5, 0, 1)) (waysW (M0 (5, 0, 1)) b 8).2.1 (k - 1), M) := by
  obtain ⟨y1, y2, y3, y4⟩ := yard_in hI
  have hw : M (5, 0, 1) = M0 (5, 0, 1) := hM.1.1.w
  unfold FX8_goodAt FX8_goodAt_10
  rw [gd_lit (by decide), hw, y3]
  refine wp_eq (wp_lt ?_)
  refine wp_forP (fun a j => (M, nI k, a, nI (wN (M0 (5, 0, 1)) 9 + j))) (fun j a => a + (waysW (M0 (5, 0, 1)) b 8).2.1 (16 * (k - 1) + wN (M0 (5, 0, 1)) 9 + j)) 0 (wN (M0 (5, 0, 1)) 10 + 1 - wN (M0 (5, 0, 1)) 9) (fun j kn hj h => ?_) (fun kn => ?_) (by omega)
  · show Wp (GX8_goodAt_10 fu D kn M (nI k) _ (nI (wN (M0 (5, 0, 1)) 9 + j))) _
    unfold GX8_goodAt_10
    rw [gd_lit (by decide), hw, y4, ilt_f (by omega) (by omega), m_landedAt hk1 hk (by omega) hM, bd_some]
    refine wp_lt (wp_lt ?_)
    rw [nI_1, ← Nat.add_assoc]
    exact h
  · show Wp (GX8_goodAt_10 fu D kn M (nI k) _ (nI (wN (M0 (5, 0, 1)) 9 + (wN (M0 (5, 0, 1)) 10 + 1 - wN (M0 (5, 0, 1)) 9)))) _
    unfold GX8_goodAt_10
    rw [gd_lit (by decide), hw, y4, ilt_t (by omega) (by omega)]
    exact wp_ok rfl
theorem m_goodAll (hfu : 300 < fu) (hI : Inv (M0 (5, 0, 1))) (hM : MR M0 (M0 (5, 0, 1)) b M) : FX8_goodAll fu D M = some (gAllW (M0 (5, 0, 1)) (waysW (M0 (5, 0, 1)) b 8).2.1, M) := by
  unfold FX8_goodAll FX8_goodAll_4
  refine wp_eq (wp_forP (fun a k => (M, a, nI (1 + k))) (fun k a => a + goodW (M0 (5, 0, 1)) (waysW (M0 (5, 0, 1)) b 8).2.1 k) 0 8 (fun k kn hk h => ?_) (fun kn => ?_) (by omega))
  · show Wp (GX8_goodAll_4 fu D kn M _ (nI (1 + k))) _
    unfold GX8_goodAll_4
    rw [show (8 : Int32) = nI 8 from rfl, ilt_f (by omega) (by decide), m_goodAt hfu (by omega) (by omega) hI hM, bd_some]
    refine wp_lt (wp_lt ?_)
    rw [nI_1, show 1 + k - 1 = k by omega, show 1 + k + 1 = 1 + (k + 1) by omega]
    exact h
  · show Wp (GX8_goodAll_4 fu D kn M _ (nI (1 + 8))) _
    unfold GX8_goodAll_4
    rw [if_pos (by decide)]
    exact wp_ok rfl
end
section
variable {R : Nat} {fu : Nat} {D : List LDen} {M : Mem} {m : Nat} {kn : List LDen → Mem → Option (PR Int32)} {w : Nat → Int32}
/-- what ways answers -/
def waysA (g o a : Int32) (k : Nat) : Int32 := if k = 0 then g else if k = 1 then o else if k = 2 then a else 6561 - g - o - a
theorem arm_16 (hfu : 400 < fu) (hR : RelX R D (kM M) M) (hk : ∀ M', RelX R D (kM M') M' → Good (kn D M') m) : Good (FL_16 fu D kn w M) (2 + m) := by
  obtain ⟨n, hn, e1, e2, e3⟩ := Rx_nb hR
  have hI : Inv (M (5, 0, 1)) := hR.1.2
  unfold FL_16 FX0_ways
  by_cases h1 : isN (w 1) n
  · obtain ⟨b, hb, w1⟩ := h1
    have hb9 : b < wN (M (5, 0, 1)) 0 := by rw [e3]; exact hb
    rw [w1]
    by_cases h2 : isN (w 2) 4
    · obtain ⟨k, hk4, w2⟩ := h2
      rw [w2]
      refine arm_q hR 0 (waysA (gAllW (M (5, 0, 1)) (waysW (M (5, 0, 1)) b 8).2.1) (waysW (M (5, 0, 1)) b 8).2.2 (airW (waysW (M (5, 0, 1)) b 8).1) k) (x0_ok ?_) (fun M1 hs hR1 => ?_) hk
      · unfold FX1_ways
        rw [x_birdAt e2 hn hb, bx_some, gd_k (by omega) (by decide), x_isIn, bd_some, isI_t' (n := 3) 3 rfl hk4 (by decide)]
        show Wp (bd _ _) _
        refine wp_bd (x_counts (w := 0) (by omega) hI (Rx_CX hR) hb9 SW.refl) (fun v M2 h => ?_)
        dsimp only at h
        rw [x_goodAll (by omega) h, bd_some, h.2.1, h.2.2.1]
        have hsx : SX M M2 := h.1.sx
        clear h
        generalize gAllW (M (5, 0, 1)) (waysW (M (5, 0, 1)) b 8).2.1 = g9
        generalize (waysW (M (5, 0, 1)) b 8).2.2 = o9
        generalize airW (waysW (M (5, 0, 1)) b 8).1 = a9
        unfold FX1_ways_90 waysA
        match k, hk4 with
        | 0, _ => exact wp_ok ⟨rfl, rfl, hsx⟩
        | 1, _ => exact wp_ok ⟨rfl, rfl, hsx⟩
        | 2, _ => exact wp_ok ⟨rfl, rfl, hsx⟩
        | 3, _ => exact wp_ok ⟨rfl, rfl, hsx⟩
      · have ek := hs (5, 0, 1) rfl
        unfold FX8_ways
        show Q8 (bd _ _) _ _ _
        have hw : (up M1 (5, 0, 0) 0 0) (5, 0, 1) = M (5, 0, 1) := by rw [up0_1, ek]
        rw [m_noBird (n := n) (by rw [hw]; exact e1) hn hb, bd_some, m_throws0, bd_some, if_pos rfl, m_in, bd_some, isI_t' (n := 3) 3 rfl hk4 (by decide), if_neg (by decide)]
        unfold FX8_ways_33
        rw [m_throws0, bd_some, if_pos rfl]
        refine q8_wp (wp_bd (m_lays (M0 := up M1 (5, 0, 0) 0 0) hfu (by omega) (by rw [hw]; exact hI) (by rw [hw]; exact Rx_law hR) TN.refl) (fun v M2 h => ?_))
        dsimp only at h
        rw [m_goodAll (by omega) (by rw [hw]; exact hI) h, bd_some, h.2.1, h.2.2.1]
        rw [hw]
        have hsx := h.1.1
        clear h
        generalize gAllW (M (5, 0, 1)) (waysW (M (5, 0, 1)) b 8).2.1 = g9
        generalize (waysW (M (5, 0, 1)) b 8).2.2 = o9
        generalize airW (waysW (M (5, 0, 1)) b 8).1 = a9
        unfold FX8_ways_99 waysA
        match k, hk4 with
        | 0, _ => exact wp_ok ⟨rfl, hsx⟩
        | 1, _ => exact wp_ok ⟨rfl, hsx⟩
        | 2, _ => exact wp_ok ⟨rfl, hsx⟩
        | 3, _ => exact wp_ok ⟨rfl, hsx⟩
    · refine arm_q hR 2 0 (x0_ex (n := 3) ?_ (by decide) (fun _ => rfl)) (fun M1 hs hR1 => ?_) hk
      · unfold FX1_ways
        rw [x_birdAt e2 hn hb, bx_some, gd_k (by omega) (by decide), x_isIn, bd_some, isI_f' (n := 3) 3 rfl h2 (by decide)]
        exact wp_ok ⟨rfl, SX.refl⟩
      · have ek := hs (5, 0, 1) rfl
        unfold FX8_ways
        show Q8 (bd _ _) _ _ _
        rw [m_noBird (n := n) (by rw [up0_1, ek]; exact e1) hn hb, bd_some, m_throws0, bd_some, if_pos rfl, m_in, bd_some, isI_f' (n := 3) 3 rfl h2 (by decide), if_pos rfl]
        unfold FX8_ways_33
        rw [m_throws1, bd_some, if_neg (by decide)]
        exact q8_ex (by decide)
  · refine arm_q hR 1 0 (x0_ex (n := 2) ?_ (by decide) (fun _ => rfl)) (fun M1 hs hR1 => ?_) hk
    · unfold FX1_ways
      rw [x_birdAt' e2 hn h1]
      exact wp_ok ⟨rfl, SX.refl⟩
    · have ek := hs (5, 0, 1) rfl
      unfold FX8_ways
      show Q8 (bd _ _) _ _ _
      rw [m_noBird' (n := n) (by rw [up0_1, ek]; exact e1) hn h1, bd_some, m_throws1, bd_some, if_neg (by decide)]
      exact q8_ex (by decide)
theorem arm_17 (hfu : 400 < fu) (hR : RelX R D (kM M) M) (hk : ∀ M', RelX R D (kM M') M' → Good (kn D M') m) : Good (FL_17 fu D kn w M) (2 + m) := by
  obtain ⟨n, hn, e1, e2, e3⟩ := Rx_nb hR
  have hI : Inv (M (5, 0, 1)) := hR.1.2
  unfold FL_17 FX0_lands
  by_cases h1 : isN (w 1) n
  · obtain ⟨b, hb, w1⟩ := h1
    have hb9 : b < wN (M (5, 0, 1)) 0 := by rw [e3]; exact hb
    rw [w1]
    by_cases h2 : isN (w 2) 16
    · obtain ⟨k, hk4, w2⟩ := h2
      rw [w2]
      refine arm_q hR 0 (landW (waysW (M (5, 0, 1)) b 8).2.1 k) (x0_ok ?_) (fun M1 hs hR1 => ?_) hk
      · unfold FX1_lands
        rw [x_birdAt e2 hn hb, bx_some, gd_k (by omega) (by decide), x_isIn, bd_some, isI_t' (n := 15) 15 rfl hk4 (by decide)]
        show Wp (bd _ _) _
        refine wp_bd (x_counts (w := 0) (by omega) hI (Rx_CX hR) hb9 SW.refl) (fun v M2 h => ?_)
        dsimp only at h
        rw [gd_k hk4 (by decide), nI_clamp (by omega), h.2.2.2.2.1 k hk4]
        exact wp_ok ⟨rfl, rfl, h.1.sx⟩
      · have ek := hs (5, 0, 1) rfl
        unfold FX8_lands
        show Q8 (bd _ _) _ _ _
        have hw : (up M1 (5, 0, 0) 0 0) (5, 0, 1) = M (5, 0, 1) := by rw [up0_1, ek]
        rw [m_noBird (n := n) (by rw [hw]; exact e1) hn hb, bd_some, if_pos rfl, m_noColumn hk4, bd_some, if_pos rfl]
        unfold FX8_lands_26
        rw [m_throws0, bd_some, if_pos rfl]
        refine q8_wp (wp_bd (m_lays (M0 := up M1 (5, 0, 0) 0 0) hfu (by omega) (by rw [hw]; exact hI) (by rw [hw]; exact Rx_law hR) TN.refl) (fun v M2 h => ?_))
        dsimp only at h
        rw [hw] at h
        unfold FX8_lands_45
        refine wp_forP (fun a j => (M2, nI k, a, nI (1 + j))) (fun j a => a + (waysW (M (5, 0, 1)) b 8).2.1 (16 * j + k)) 0 8 (fun j kn hj h9 => ?_) (fun kn => ?_) (by omega)
        · show Wp (GX8_lands_45 fu D kn M2 (nI k) _ (nI (1 + j))) _
          unfold GX8_lands_45
          rw [show (8 : Int32) = nI 8 from rfl, ilt_f (by omega) (by decide), m_landedAt (by omega) (by omega) hk4 h, bd_some]
          refine wp_lt (wp_lt ?_)
          rw [nI_1, show 1 + j - 1 = j by omega, show 1 + j + 1 = 1 + (j + 1) by omega]
          exact h9
        · show Wp (GX8_lands_45 fu D kn M2 (nI k) _ (nI (1 + 8))) _
          unfold GX8_lands_45
          rw [if_pos (by decide)]
          exact wp_ok ⟨rfl, h.1.1⟩
    · refine arm_q hR 1 0 (x0_ex (n := 2) ?_ (by decide) (fun _ => rfl)) (fun M1 hs hR1 => ?_) hk
      · unfold FX1_lands
        rw [x_birdAt e2 hn hb, bx_some, gd_k (by omega) (by decide), x_isIn, bd_some, isI_f' (n := 15) 15 rfl h2 (by decide)]
        exact wp_ok ⟨rfl, SX.refl⟩
      · have ek := hs (5, 0, 1) rfl
        unfold FX8_lands
        show Q8 (bd _ _) _ _ _
        rw [m_noBird (n := n) (by rw [up0_1, ek]; exact e1) hn hb, bd_some, if_pos rfl, m_noColumn' h2, bd_some, if_neg (by decide)]
        unfold FX8_lands_21 FX8_lands_26
        rw [m_throws1, bd_some, if_neg (by decide)]
        exact q8_ex (by decide)
  · refine arm_q hR 1 0 (x0_ex (n := 2) ?_ (by decide) (fun _ => rfl)) (fun M1 hs hR1 => ?_) hk
    · unfold FX1_lands
      rw [x_birdAt' e2 hn h1]
      exact wp_ok ⟨rfl, SX.refl⟩
    · have ek := hs (5, 0, 1) rfl
      unfold FX8_lands
      show Q8 (bd _ _) _ _ _
      rw [m_noBird' (n := n) (by rw [up0_1, ek]; exact e1) hn h1, bd_some, if_neg (by decide)]
      unfold FX8_lands_21 FX8_lands_26
      rw [m_throws1, bd_some, if_neg (by decide)]
      exact q8_ex (by decide)
theorem arm_18 (hfu : 400 < fu) (hR : RelX R D (kM M) M) (hk : ∀ M', RelX R D (kM M') M' → Good (kn D M') m) : Good (FL_18 fu D kn w M) (2 + m) := by
  obtain ⟨n, hn, e1, e2, e3⟩ := Rx_nb hR
  have hI : Inv (M (5, 0, 1)) := hR.1.2
  unfold FL_18 FX0_good
  by_cases h1 : isN (w 1) n
  · obtain ⟨b, hb, w1⟩ := h1
    have hb9 : b < wN (M (5, 0, 1)) 0 := by rw [e3]; exact hb
    rw [w1]
    rcases isI_1 (w 2) (n := 8) (by decide) with ⟨k, hk1, hk8, w2, hi⟩ | hi
    · rw [w2] at hi ⊢
      refine arm_q hR 0 (goodW (M (5, 0, 1)) (waysW (M (5, 0, 1)) b 8).2.1 (k - 1)) (x0_ok ?_) (fun M1 hs hR1 => ?_) hk
      · unfold FX1_good
        rw [x_birdAt e2 hn hb, bx_some, gd_k (by omega) (by decide), x_isIn, bd_some, show isI (nI k) 1 8 = 1 from hi]
        show Wp (bd _ _) _
        refine wp_bd (x_counts (w := 0) (by omega) hI (Rx_CX hR) hb9 SW.refl) (fun v M2 h => ?_)
        dsimp only at h
        have := h.2.2.2.2.2 (k - 1) (by omega)
        rw [show k - 1 + 1 = k by omega] at this
        rw [gd_k (by omega) (by decide), nI_clamp (by omega), this]
        exact wp_ok ⟨rfl, rfl, h.1.sx⟩
      · have ek := hs (5, 0, 1) rfl
        unfold FX8_good
        show Q8 (bd _ _) _ _ _
        have hw : (up M1 (5, 0, 0) 0 0) (5, 0, 1) = M (5, 0, 1) := by rw [up0_1, ek]
        rw [m_noBird (n := n) (by rw [hw]; exact e1) hn hb, bd_some, m_throws0, bd_some, if_pos rfl, m_in, bd_some, show isI (nI k) 1 8 = 1 from hi, if_neg (by decide)]
        unfold FX8_good_34
        rw [m_throws0, bd_some, if_pos rfl]
        refine q8_wp (wp_bd (m_lays (M0 := up M1 (5, 0, 0) 0 0) hfu (by omega) (by rw [hw]; exact hI) (by rw [hw]; exact Rx_law hR) TN.refl) (fun v M2 h => ?_))
        dsimp only at h
        rw [m_goodAt (by omega) hk1 hk8 (by rw [hw]; exact hI) h, bd_some, hw]
        exact wp_ok ⟨rfl, h.1.1⟩
    · refine arm_q hR 2 0 (x0_ex (n := 0) ?_ (by decide) (fun _ => rfl)) (fun M1 hs hR1 => ?_) hk
      · unfold FX1_good
        rw [x_birdAt e2 hn hb, bx_some, gd_k (by omega) (by decide), x_isIn, bd_some, show isI (w 2) 1 8 = 0 from hi]
        exact wp_ok ⟨rfl, SX.refl⟩
      · have ek := hs (5, 0, 1) rfl
        unfold FX8_good
        show Q8 (bd _ _) _ _ _
        rw [m_noBird (n := n) (by rw [up0_1, ek]; exact e1) hn hb, bd_some, m_throws0, bd_some, if_pos rfl, m_in, bd_some, show isI (w 2) 1 8 = 0 from hi, if_pos rfl]
        unfold FX8_good_34
        rw [m_throws1, bd_some, if_neg (by decide)]
        exact q8_ex (by decide)
  · refine arm_q hR 1 0 (x0_ex (n := 2) ?_ (by decide) (fun _ => rfl)) (fun M1 hs hR1 => ?_) hk
    · unfold FX1_good
      rw [x_birdAt' e2 hn h1]
      exact wp_ok ⟨rfl, SX.refl⟩
    · have ek := hs (5, 0, 1) rfl
      unfold FX8_good
      show Q8 (bd _ _) _ _ _
      rw [m_noBird' (n := n) (by rw [up0_1, ek]; exact e1) hn h1, bd_some, m_throws1, bd_some, if_neg (by decide)]
      exact q8_ex (by decide)
end
