set_option maxRecDepth 100000
/-! arms of the lesser queries -/
/-- what the relation gives of the numbers -/
theorem Rx_nb {R : Nat} {D : List LDen} {M : Mem} (h : RelX R D (kM M) M) : ∃ n, n ≤ 6 ∧ M (5, 0, 1) 0 = nI n ∧ M (0, 0, 0) 7 = nI n ∧ wN (M (5, 0, 1)) 0 = n := by
  obtain ⟨n, hn, e⟩ := h.1.2.1.1
  have e : M (5, 0, 1) 0 = nI n := e
  exact ⟨n, hn, e, h.1.1.1.1.trans e, by unfold wN; rw [e, nI_clamp (by omega)]⟩
theorem Rx_nc {R : Nat} {D : List LDen} {M : Mem} (h : RelX R D (kM M) M) : ∃ n, n ≤ 4 ∧ M (5, 0, 1) 1 = nI n ∧ M (0, 0, 0) 8 = nI n ∧ wN (M (5, 0, 1)) 1 = n := by
  obtain ⟨n, hn, e⟩ := h.1.2.1.2.1
  have e : M (5, 0, 1) 1 = nI n := e
  exact ⟨n, hn, e, h.1.1.1.2.1.trans e, by unfold wN; rw [e, nI_clamp (by omega)]⟩
theorem Rx_nk {R : Nat} {D : List LDen} {M : Mem} (h : RelX R D (kM M) M) : ∃ n, n ≤ 12 ∧ M (5, 0, 1) 2 = nI n ∧ M (0, 0, 0) 9 = nI n ∧ wN (M (5, 0, 1)) 2 = n := by
  obtain ⟨n, hn, e⟩ := h.1.2.1.2.2.1
  have e : M (5, 0, 1) 2 = nI n := e
  exact ⟨n, hn, e, h.1.1.1.2.2.1.trans e, by unfold wN; rw [e, nI_clamp (by omega)]⟩
theorem Rx_bird {R : Nat} {D : List LDen} {M : Mem} (h : RelX R D (kM M) M) {n b f : Nat} (hn : wN (M (5, 0, 1)) 0 = n) (hb : b < n) (hf : f < 4) : M (1, 0, b) f = M (5, 0, 1) (26 + 4 * b + f) := h.1.1.2.2.1 b f (by rw [show wN (kM M 1) 0 = n from hn]; exact hb) hf
theorem Rx_stock {R : Nat} {D : List LDen} {M : Mem} (h : RelX R D (kM M) M) {j : Nat} (hj : j < 24) : M (0, 0, 4) j = M (5, 0, 1) (50 + j) := h.1.1.2.2.2.1 j hj
theorem Rx_wind {R : Nat} {D : List LDen} {M : Mem} (h : RelX R D (kM M) M) {j : Nat} (hj : j < 13) : M (0, 0, 5) j = M (5, 0, 1) (13 + j) := h.1.1.2.2.2.2.1 j hj
theorem Rx_case {R : Nat} {D : List LDen} {M : Mem} (h : RelX R D (kM M) M) {n b f : Nat} (hn : wN (M (5, 0, 1)) 2 = n) (hb : b < n) (hf : f < 4) : M (2, 0, b) f = M (5, 0, 1) (74 + 4 * b + f) := h.1.1.2.2.2.2.2.1 b f (by rw [show wN (kM M 1) 2 = n from hn]; exact hb) hf
theorem SM0 {M : Mem} : SM M (up M (5, 0, 0) 0 0) := SM_up SM.refl rfl
theorem up0_1 {M : Mem} {k : Nat} {v : Int32} : up M (5, 0, 0) k v (5, 0, 1) = M (5, 0, 1) := upc (by decide)
/-- the model's refusals -/
theorem q8_ex {M : Mem} {e v x : Int32} (he : e ≠ 0) : Q8 (some (x, up (up M (5, 0, 0) 0 0) (5, 0, 0) 0 e)) M e v := ⟨_, rfl, fun h => absurd h he, (show up (up M (5, 0, 0) 0 0) (5, 0, 0) 0 e (5, 0, 0) 0 = e from upe), SM_up SM0 rfl⟩
theorem q8_ok {M M' : Mem} {v : Int32} (h : M' (5, 0, 0) 0 = 0) (hs : SM M M') : Q8 (some (v, M')) M 0 v := ⟨_, rfl, fun _ => rfl, h, hs⟩
section
variable {R : Nat} {fu : Nat} {D : List LDen} {M : Mem} {m : Nat} {kn : List LDen → Mem → Option (PR Int32)} {w : Nat → Int32}
theorem arm_5 (hR : RelX R D (kM M) M) (hk : ∀ M', RelX R D (kM M') M' → Good (kn D M') m) : Good (FL_5 fu D kn w M) (2 + m) := by
  obtain ⟨n, hn, e1, e2, e3⟩ := Rx_nb hR
  unfold FL_5 FX0_bird
  by_cases h1 : isN (w 1) n
  · obtain ⟨b, hb, w1⟩ := h1
    rw [w1]
    by_cases h2 : isN (w 2) 4
    · obtain ⟨f, hf, w2⟩ := h2
      rw [w2]
      refine arm_q hR 0 (M (5, 0, 1) (26 + 4 * b + f)) (x0_ok ?_) (fun M1 hs hR1 => ?_) hk
      · unfold FX1_bird
        rw [x_birdAt e2 hn hb, bx_some, gd_k (by omega) (by decide), swt_k hf (by omega), nI_clamp (by omega)]
        have hx := Rx_bird hR e3 hb hf
        match f, hf with
        | 0, _ => exact wp_ok ⟨rfl, hx, SX.refl⟩
        | 1, _ => exact wp_ok ⟨rfl, hx, SX.refl⟩
        | 2, _ => exact wp_ok ⟨rfl, hx, SX.refl⟩
        | 3, _ => exact wp_ok ⟨rfl, hx, SX.refl⟩
      · have ek := hs (5, 0, 1) rfl
        unfold FX8_bird
        show Q8 (bd _ _) _ _ _
        rw [m_noBird (n := n) (by rw [up0_1, ek]; exact e1) hn hb, bd_some, m_throws0, bd_some, if_pos rfl, m_in, bd_some, isI_t' (n := 3) 3 rfl hf (by decide), if_neg (by decide)]
        unfold FX8_bird_33
        rw [m_throws0, bd_some, if_pos rfl, m_ofBird (by omega) hf, bd_some, up0_1, ek]
        exact q8_ok upe SM0
    · refine arm_q hR 2 0 (x0_ex (n := 3) ?_ (by decide) (fun _ => rfl)) (fun M1 hs hR1 => ?_) hk
      · unfold FX1_bird
        rw [x_birdAt e2 hn hb, bx_some, gd_k (by omega) (by decide), swt_d h2]
        exact wp_ok ⟨rfl, SX.refl⟩
      · have ek := hs (5, 0, 1) rfl
        unfold FX8_bird
        show Q8 (bd _ _) _ _ _
        rw [m_noBird (n := n) (by rw [up0_1, ek]; exact e1) hn hb, bd_some, m_throws0, bd_some, if_pos rfl, m_in, bd_some, isI_f' (n := 3) 3 rfl h2 (by decide), if_pos rfl]
        unfold FX8_bird_33
        rw [m_throws1, bd_some, if_neg (by decide)]
        exact q8_ex (by decide)
  · refine arm_q hR 1 0 (x0_ex (n := 2) ?_ (by decide) (fun _ => rfl)) (fun M1 hs hR1 => ?_) hk
    · unfold FX1_bird
      rw [x_birdAt' e2 hn h1]
      exact wp_ok ⟨rfl, SX.refl⟩
    · have ek := hs (5, 0, 1) rfl
      unfold FX8_bird
      show Q8 (bd _ _) _ _ _
      rw [m_noBird' (n := n) (by rw [up0_1, ek]; exact e1) hn h1, bd_some, m_throws1, bd_some, if_neg (by decide)]
      exact q8_ex (by decide)
end
