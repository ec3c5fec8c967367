set_option maxRecDepth 100000
/-! arms: stock, matter, wind -/
section
variable {R : Nat} {fu : Nat} {D : List LDen} {M : Mem} {m : Nat} {kn : List LDen → Mem → Option (PR Int32)} {w : Nat → Int32}
theorem arm_6 (hR : RelX R D (kM M) M) (hk : ∀ M', RelX R D (kM M') M' → Good (kn D M') m) : Good (FL_6 fu D kn w M) (2 + m) := by
  obtain ⟨n, hn, e1, e2, e3⟩ := Rx_nb hR
  obtain ⟨n', hn', f1, f2, f3⟩ := Rx_nc hR
  unfold FL_6 FX0_stock
  by_cases h1 : isN (w 1) n'
  · obtain ⟨c, hc, w1⟩ := h1
    rw [w1]
    by_cases h2 : isN (w 2) n
    · obtain ⟨b, hb, w2⟩ := h2
      rw [w2]
      refine arm_q hR 0 (M (5, 0, 1) (50 + 6 * c + b)) (x0_ok ?_) (fun M1 hs hR1 => ?_) hk
      · unfold FX1_stock
        rw [x_isCounsel f2 hn' hc, bx_some, x_birdAt e2 hn hb, bx_some, gd_k (by omega) (by decide), x_stock (by omega) (by omega), bd_some, Rx_stock hR (by omega), show 50 + (6 * c + b) = 50 + 6 * c + b by omega]
        exact wp_ok ⟨rfl, rfl, SX.refl⟩
      · have ek := hs (5, 0, 1) rfl
        unfold FX8_stock
        show Q8 (bd _ _) _ _ _
        rw [m_noCounsel (n := n') (by rw [up0_1, ek]; exact f1) hn' hc, bd_some, if_pos rfl, m_noBird (n := n) (by rw [up0_1, ek]; exact e1) hn hb, bd_some, if_pos rfl]
        unfold FX8_stock_27
        rw [m_throws0, bd_some, if_pos rfl, m_stockOf (by omega) (by omega), bd_some, up0_1, ek]
        exact q8_ok upe SM0
    · refine arm_q hR 1 0 (x0_ex (n := 2) ?_ (by decide) (fun _ => rfl)) (fun M1 hs hR1 => ?_) hk
      · unfold FX1_stock
        rw [x_isCounsel f2 hn' hc, bx_some, x_birdAt' e2 hn h2]
        exact wp_ok ⟨rfl, SX.refl⟩
      · have ek := hs (5, 0, 1) rfl
        unfold FX8_stock
        show Q8 (bd _ _) _ _ _
        rw [m_noCounsel (n := n') (by rw [up0_1, ek]; exact f1) hn' hc, bd_some, if_pos rfl, m_noBird' (n := n) (by rw [up0_1, ek]; exact e1) hn h2, bd_some, if_neg (by decide)]
        unfold FX8_stock_22 FX8_stock_27
        rw [m_throws1, bd_some, if_neg (by decide)]
        exact q8_ex (by decide)
  · refine arm_q hR 1 0 (x0_ex (n := 2) ?_ (by decide) (fun _ => rfl)) (fun M1 hs hR1 => ?_) hk
    · unfold FX1_stock
      rw [x_isCounsel' f2 hn' h1]
      exact wp_ok ⟨rfl, SX.refl⟩
    · have ek := hs (5, 0, 1) rfl
      unfold FX8_stock
      show Q8 (bd _ _) _ _ _
      rw [m_noCounsel' (n := n') (by rw [up0_1, ek]; exact f1) hn' h1, bd_some, if_neg (by decide)]
      unfold FX8_stock_22 FX8_stock_27
      rw [m_throws1, bd_some, if_neg (by decide)]
      exact q8_ex (by decide)
theorem arm_7 (hfu : 6 < fu) (hR : RelX R D (kM M) M) (hk : ∀ M', RelX R D (kM M') M' → Good (kn D M') m) : Good (FL_7 fu D kn w M) (2 + m) := by
  obtain ⟨n, hn, e1, e2, e3⟩ := Rx_nk hR
  unfold FL_7 FX0_matter
  by_cases h1 : isN (w 1) n
  · obtain ⟨c, hc, w1⟩ := h1
    have hc' : c < wN (M (5, 0, 1)) 2 := by rw [e3]; exact hc
    rw [w1]
    by_cases h2 : isN (w 2) 6
    · obtain ⟨f, hf, w2⟩ := h2
      rw [w2]
      refine arm_q hR 0 (if f < 4 then M (5, 0, 1) (74 + 4 * c + f) else chW (M (5, 0, 1)) c (f - 4)) (x0_ok ?_) (fun M1 hs hR1 => ?_) hk
      · unfold FX1_matter
        rw [x_caseAt e2 hn hc, bx_some, gd_k (by omega) (by decide), swt_k hf (by omega), nI_clamp (by omega)]
        match f, hf with
        | 0, _ => exact wp_ok ⟨rfl, Rx_case hR e3 hc (by decide), SX.refl⟩
        | 1, _ => exact wp_ok ⟨rfl, Rx_case hR e3 hc (by decide), SX.refl⟩
        | 2, _ => exact wp_ok ⟨rfl, Rx_case hR e3 hc (by decide), SX.refl⟩
        | 3, _ => exact wp_ok ⟨rfl, Rx_case hR e3 hc (by decide), SX.refl⟩
        | 4, _ =>
          show Wp (bd (FX3_choices fu D 0 M (nI c) 0) _) _
          rw [x_choices hR (sd := 0) 0 (Or.inl ⟨rfl, rfl⟩) hc' hfu]
          exact wp_ok ⟨rfl, rfl, SX.refl⟩
        | 5, _ =>
          show Wp (bd (FX3_choices fu D 0 M (nI c) 1) _) _
          rw [x_choices hR (sd := 1) 1 (Or.inr ⟨by decide, rfl⟩) hc' hfu]
          exact wp_ok ⟨rfl, rfl, SX.refl⟩
      · have ek := hs (5, 0, 1) rfl
        have hI : Inv (M1 (5, 0, 1)) := hR1.1.2
        unfold FX8_matter
        show Q8 (bd _ _) _ _ _
        rw [m_noCase (n := n) (by rw [up0_1, ek]; exact e1) hn hc, bd_some, m_throws0, bd_some, if_pos rfl, m_in, bd_some, isI_t' (n := 5) 5 rfl hf (by decide), if_neg (by decide)]
        unfold FX8_matter_33
        rw [m_throws0, bd_some, if_pos rfl, show (4 : Int32) = nI 4 from rfl]
        by_cases hf4 : f < 4
        · rw [ile_f hf4 (by decide), m_ofCase (by omega) hf4, bd_some, up0_1, ek, if_pos hf4]
          exact q8_ok upe SM0
        · rw [ile_t (by omega) (by omega), nI_sub (by omega), m_choices (by rw [up0_1]; exact hI) (by rw [up0_1, ek]; exact hc') (by omega) hfu, bd_some, up0_1, ek, if_neg hf4]
          exact q8_ok upe SM0
    · refine arm_q hR 2 0 (x0_ex (n := 3) ?_ (by decide) (fun _ => rfl)) (fun M1 hs hR1 => ?_) hk
      · unfold FX1_matter
        rw [x_caseAt e2 hn hc, bx_some, gd_k (by omega) (by decide), swt_d h2]
        exact wp_ok ⟨rfl, SX.refl⟩
      · have ek := hs (5, 0, 1) rfl
        unfold FX8_matter
        show Q8 (bd _ _) _ _ _
        rw [m_noCase (n := n) (by rw [up0_1, ek]; exact e1) hn hc, bd_some, m_throws0, bd_some, if_pos rfl, m_in, bd_some, isI_f' (n := 5) 5 rfl h2 (by decide), if_pos rfl]
        unfold FX8_matter_33
        rw [m_throws1, bd_some, if_neg (by decide)]
        exact q8_ex (by decide)
  · refine arm_q hR 1 0 (x0_ex (n := 2) ?_ (by decide) (fun _ => rfl)) (fun M1 hs hR1 => ?_) hk
    · unfold FX1_matter
      rw [x_caseAt' e2 hn h1]
      exact wp_ok ⟨rfl, SX.refl⟩
    · have ek := hs (5, 0, 1) rfl
      unfold FX8_matter
      show Q8 (bd _ _) _ _ _
      rw [m_noCase' (n := n) (by rw [up0_1, ek]; exact e1) hn h1, bd_some, m_throws1, bd_some, if_neg (by decide)]
      exact q8_ex (by decide)
theorem arm_8 (hR : RelX R D (kM M) M) (hk : ∀ M', RelX R D (kM M') M' → Good (kn D M') m) : Good (FL_8 fu D kn w M) (1 + m) := by
  unfold FL_8 FX0_wind
  by_cases h1 : isN (w 1) 13
  · obtain ⟨l, hl, w1⟩ := h1
    rw [w1]
    refine arm_q hR 0 (M (5, 0, 1) (13 + l)) (x0_ok ?_) (fun M1 hs hR1 => ?_) hk
    · unfold FX1_wind
      rw [x_isIn, bd_some, isI_t' (n := 12) 12 rfl hl (by decide)]
      show Wp (gd _ _ _) _
      rw [gd_k hl (by decide), nI_clamp (by omega), Rx_wind hR hl]
      exact wp_ok ⟨rfl, rfl, SX.refl⟩
    · have ek := hs (5, 0, 1) rfl
      unfold FX8_wind
      show Q8 (bd _ _) _ _ _
      rw [m_noLevel hl, bd_some, m_throws0, bd_some, if_pos rfl, show (13 : Int32) + nI l = nI (13 + l) from nI_add 13 l, gd_k (by omega) (by decide), nI_clamp (by omega), up0_1, ek]
      exact q8_ok upe SM0
  · refine arm_q hR 1 0 (x0_ex (n := 2) ?_ (by decide) (fun _ => rfl)) (fun M1 hs hR1 => ?_) hk
    · unfold FX1_wind
      rw [x_isIn, bd_some, isI_f' (n := 12) 12 rfl h1 (by decide)]
      exact wp_ok ⟨rfl, SX.refl⟩
    · unfold FX8_wind
      show Q8 (bd _ _) _ _ _
      rw [m_noLevel' h1, bd_some, m_throws1, bd_some, if_neg (by decide)]
      exact q8_ex (by decide)
end
