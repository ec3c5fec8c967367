set_option maxRecDepth 100000
/-! moves; one that flies straight -/
/-- the model's own scratch: all cells from the stack of values on, and its object's fields from its on -/
def TM (M M' : Mem) : Prop := (∀ c : CId, c.1 ≠ 5 → M' c = M c) ∧ (∀ i, 1 ≤ i → i < 8 → M' (5, 0, i) = M (5, 0, i)) ∧ (∀ k, k < 18 → M' (5, 0, 0) k = M (5, 0, 0) k)
theorem TM.refl {M : Mem} : TM M M := ⟨fun _ _ => rfl, fun _ _ _ => rfl, fun _ _ => rfl⟩
theorem TM.trans {M M' M'' : Mem} (h : TM M M') (h' : TM M' M'') : TM M M'' := ⟨fun c hc => (h'.1 c hc).trans (h.1 c hc), fun i h1 h2 => (h'.2.1 i h1 h2).trans (h.2.1 i h1 h2), fun k hk => (h'.2.2 k hk).trans (h.2.2 k hk)⟩
theorem TM.w {M M' : Mem} (h : TM M M') : M' (5, 0, 1) = M (5, 0, 1) := h.2.1 1 (by decide) (by decide)
theorem TM.sm {M M' : Mem} (h : TM M M') : SM M M' := ⟨h.1, fun k _ => by rw [h.w], h.2.1 2 (by decide) (by decide), h.2.1 5 (by decide) (by decide), h.2.1 6 (by decide) (by decide), h.2.2 6 (by decide), h.2.2 7 (by decide), h.2.2 9 (by decide), h.2.2 14 (by decide)⟩
theorem VX.tm {M M' : Mem} (h : VX M M') : TM M M' := by
  refine ⟨fun c hc => h c (fun e => hc (by rw [e])), fun i h1 h2 => h _ (fun e => ?_), fun k _ => by rw [h (5, 0, 0) (by decide)]⟩
  have := congrArg (fun c : CId => c.2.2) e
  simp at this
  omega
theorem TM_up {M M' : Mem} {i k : Nat} {v : Int32} (h : TM M M') (hi : 8 ≤ i) : TM M (up M' (5, 0, i) k v) := by
  refine ⟨fun c hc => (upc (fun e => hc (by rw [e]))).trans (h.1 c hc), fun j h1 h2 => (upc (fun e => ?_)).trans (h.2.1 j h1 h2), fun j hj => (congrFun (upc (fun e => ?_)) j).trans (h.2.2 j hj)⟩
  · have := congrArg (fun c : CId => c.2.2) e
    simp at this
    omega
  · have := congrArg (fun c : CId => c.2.2) e
    simp at this
    omega
theorem TM_up0 {M M' : Mem} {k : Nat} {v : Int32} (h : TM M M') (hk : 18 ≤ k) : TM M (up M' (5, 0, 0) k v) := by
  refine ⟨fun c hc => (upc (fun e => hc (by rw [e]))).trans (h.1 c hc), fun j h1 h2 => (upc (fun e => ?_)).trans (h.2.1 j h1 h2), fun j hj => by rw [upn (by omega)]; exact h.2.2 j hj⟩
  have := congrArg (fun c : CId => c.2.2) e
  simp at this
  omega
theorem TM_looks {M : Mem} {b l c t : Int32} : TM M (up (up (up (up M (5, 0, 0) 18 b) (5, 0, 0) 19 l) (5, 0, 0) 20 c) (5, 0, 0) 21 t) := TM_up0 (TM_up0 (TM_up0 (TM_up0 TM.refl (by decide)) (by decide)) (by decide)) (by decide)
theorem q8_tm {M1 M' : Mem} {v : Int32} (hs : TM (up M1 (5, 0, 0) 0 0) M') : Q8 (some (v, M')) M1 0 v := q8_ok ((hs.2.2 0 (by decide)).trans upe) (SM0.trans hs.sm)
theorem q8_wp {x : Option (Int32 × Mem)} {M1 : Mem} {v : Int32} (h : Wp x (fun r => r.1 = v ∧ TM (up M1 (5, 0, 0) 0 0) r.2)) : Q8 x M1 0 v := by
  obtain ⟨⟨v', M'⟩, e, h1, h2⟩ := h
  rw [e]
  obtain rfl : v' = v := h1
  exact q8_tm h2
theorem sinksW_rng (W : Wd0) (b l c t : Int32) : ∃ s, s ≤ 12 ∧ sinksW W b l c t = nI s := by
  unfold sinksW
  generalize W (26 + 4 * b.toNatClampNeg) + sumW W (FF W b l c t) 0 - sumW W (FF W b l c t) 1 = v
  have key : ∀ u : Int32, ¬ (12 : Int32) < u → ∃ s, s ≤ 12 ∧ mx 0 u = nI s := by
    intro u hu
    unfold mx
    by_cases h : 0 < u
    · rw [if_pos h]
      exact (nI_of2 (n := 12) (M := 12) (by decide) (fun h9 => Int32.lt_irrefl (Int32.lt_trans h h9)) (Int32.not_lt.mp hu))
    · rw [if_neg h]
      exact ⟨0, Nat.zero_le _, rfl⟩
  unfold mn
  by_cases h : v < 12
  · rw [if_pos h]
    exact key v (fun h9 => Int32.lt_irrefl (Int32.lt_trans h h9))
  · rw [if_neg h]
    exact key 12 (by decide)
/-- how high it stands behind it -/
theorem lev_cases {l s : Nat} (hl : l ≤ 12) (hs : s ≤ 12) : (¬ 0 < nI l - nI s ∧ nI l - nI s ≤ 0) ∨ (0 < nI l - nI s ∧ ¬ nI l - nI s ≤ 0 ∧ s < l ∧ nI l - nI s = nI (l - s)) := by
  rcases Nat.lt_or_ge s l with h | h
  · right
    rw [nI_sub (by omega)]
    exact ⟨nI_lt (a := 0) (by omega) (by omega), nI_nle (by omega) (by omega), h, rfl⟩
  · left
    have : ∀ l, l < 13 → ∀ s, s < 13 → l ≤ s → ¬ 0 < nI l - nI s ∧ nI l - nI s ≤ 0 := by decide +kernel
    exact this l (by omega) s (by omega) h
theorem Rx_law {R : Nat} {D : List LDen} {M : Mem} (h : RelX R D (kM M) M) : LawW (M (5, 0, 1)) := LawR_W h.1.1.2.2.2.2.2.2
theorem Rx_CX {R : Nat} {D : List LDen} {M : Mem} (h : RelX R D (kM M) M) : CX R D M 0 (M (5, 0, 1)) := h.1.1
section
variable {R : Nat} {fu : Nat} {D : List LDen} {M : Mem} {m : Nat} {kn : List LDen → Mem → Option (PR Int32)} {w : Nat → Int32}
theorem up0_c {M : Mem} {k : Nat} {v : Int32} {c : CId} (h : c ≠ (5, 0, 0)) : up M (5, 0, 0) k v c = M c := upc h
theorem LM0 {M1 : Mem} (h : M1 (5, 0, 1) = M (5, 0, 1)) {P : Wd0 → Prop} (hp : P (M (5, 0, 1))) : P (up M1 (5, 0, 0) 0 0 (5, 0, 1)) := by
  rw [up0_1, h]
  exact hp
theorem m_moves_f {x1 x2 x3 x4 x5 : Int32} {M1 : Mem} {e v : Int32} (he : e = 1 ∨ e = 2) : (e = 1 → Q8 (FX8_moves_32 fu D (up M1 (5, 0, 0) 0 0) x1 x2 x3 x4 x5) M1 e v) ∧ (e = 2 → Q8 (FX8_moves_61 fu D (up M1 (5, 0, 0) 0 0) x1 x2 x3 x4 x5 1) M1 e v) := by
  refine ⟨fun h => ?_, fun h => ?_⟩
  · subst h
    unfold FX8_moves_32 FX8_moves_37
    rw [m_throws1, bd_some, if_neg (by decide)]
    exact q8_ex (by decide)
  · subst h
    unfold FX8_moves_61
    rw [m_throws1, bd_some, if_neg (by decide)]
    exact q8_ex (by decide)
theorem arm_9 (hfu : 400 < fu) (hR : RelX R D (kM M) M) (hk : ∀ M', RelX R D (kM M') M' → Good (kn D M') m) : Good (FL_9 fu D kn w M) (3 + m) := by
  obtain ⟨n, hn, e1, e2, e3⟩ := Rx_nb hR
  have hI : Inv (M (5, 0, 1)) := hR.1.2
  unfold FL_9 FX0_moves
  by_cases h1 : isN (w 1) n
  · obtain ⟨b, hb, w1⟩ := h1
    rw [w1]
    have hb9 : b < wN (M (5, 0, 1)) 0 := by rw [e3]; exact hb
    by_cases h2 : isN (w 2) 13 ∧ w 2 ≠ 0
    · obtain ⟨⟨l, hl, w2⟩, h20⟩ := h2
      rw [w2] at h20 ⊢
      have hl1 : 1 ≤ l := Nat.one_le_iff_ne_zero.mpr (fun h => h20 (by rw [h]; rfl))
      have hl2 : isI (nI l) 1 12 = 1 := by
        have : ∀ l, l < 13 → 1 ≤ l → isI (nI l) 1 12 = 1 := by decide +kernel
        exact this l hl hl1
      by_cases h3 : isN (w 3) 16
      · obtain ⟨c, hc, w3⟩ := h3
        rw [w3]
        by_cases h4 : isN (w 4) 8
        · obtain ⟨t, ht, w4⟩ := h4
          rw [w4]
          refine arm_q hR 0 (if bz (w 5) = 0 then sinksW (M (5, 0, 1)) (nI b) (nI l) (nI c) (nI t) else carW (M (5, 0, 1)) (nI b) (nI l) (nI c) (nI t)) (x0_ok ?_) (fun M1 hs hR1 => ?_) hk
          · unfold FX1_moves
            rw [x_birdAt e2 hn hb, bx_some, gd_k (by omega) (by decide), x_isIn, bd_some, hl2, if_neg (by decide), x_isIn, bd_some, isI_t' (n := 15) 15 rfl hc (by decide), if_neg (by decide)]
            unfold FX1_moves_31
            show Wp (bd (FX1_isIn fu D M (nI t) 0 7) _) _
            rw [x_isIn, bd_some, isI_t' (n := 7) 7 rfl ht (by decide)]
            show Wp (if _ then _ else _) _
            by_cases h5 : bz (w 5) = 0
            · rw [if_pos h5, if_pos h5]
              exact wp_bd (x_sinks (Rx_CX hR) (nb_le hI) hb9 (by omega) _ _ _) (fun v M1 h => wp_ok ⟨rfl, h.1, h.2.sx⟩)
            · rw [if_neg h5, if_neg h5]
              exact wp_bd (x_carried (Rx_CX hR) (nb_le hI) hb9 hl (by omega) _ _) (fun v M1 h => wp_ok ⟨rfl, h.1, h.2.sx⟩)
          · have ek := hs (5, 0, 1) rfl
            unfold FX8_moves
            show Q8 (bd _ _) _ _ _
            rw [m_noBird (n := n) (by rw [up0_1, ek]; exact e1) hn hb, bd_some, if_pos rfl, m_noLevel hl, bd_some, if_pos rfl, if_neg h20, m_noColumn hc, bd_some, if_pos rfl]
            unfold FX8_moves_37
            rw [m_throws0, bd_some, if_pos rfl, m_in, bd_some, isI_t' (n := 7) 7 rfl ht (by decide), if_neg (by decide)]
            unfold FX8_moves_61
            rw [m_throws0, bd_some, if_pos rfl, m_looks, bd_some]
            have hw : (up (up (up (up (up M1 (5, 0, 0) 0 0) (5, 0, 0) 18 (nI b)) (5, 0, 0) 19 (nI l)) (5, 0, 0) 20 (nI c)) (5, 0, 0) 21 (nI t)) (5, 0, 1) = M (5, 0, 1) := by rw [up0_1, up0_1, up0_1, up0_1, up0_1, ek]
            by_cases h5 : bz (w 5) = 0
            · rw [if_pos h5, if_pos h5]
              refine q8_wp (wp_bd (m_sinks Lk_looks ⟨b, by omega, rfl⟩ (by rw [hw]; exact Rx_law hR) hfu) (fun v M2 h => wp_ok ⟨?_, TM_looks.trans h.2.tm⟩))
              rw [hw] at h
              exact h.1
            · rw [if_neg h5, if_neg h5]
              refine q8_wp (wp_bd (m_carries Lk_looks ⟨b, by omega, rfl⟩ ⟨l, hl, rfl⟩ (by rw [hw]; exact Rx_law hR) hfu) (fun v M2 h => wp_ok ⟨?_, TM_looks.trans h.2.tm⟩))
              rw [hw] at h
              exact h.1
        · refine arm_q hR 2 0 (x0_ex (n := 0) ?_ (by decide) (fun _ => rfl)) (fun M1 hs hR1 => ?_) hk
          · unfold FX1_moves
            rw [x_birdAt e2 hn hb, bx_some, gd_k (by omega) (by decide), x_isIn, bd_some, hl2, if_neg (by decide), x_isIn, bd_some, isI_t' (n := 15) 15 rfl hc (by decide), if_neg (by decide)]
            unfold FX1_moves_31
            show Wp (bd (FX1_isIn fu D M (w 4) 0 7) _) _
            rw [x_isIn, bd_some, isI_f' (n := 7) 7 rfl h4 (by decide)]
            exact wp_ok ⟨rfl, SX.refl⟩
          · have ek := hs (5, 0, 1) rfl
            unfold FX8_moves
            show Q8 (bd _ _) _ _ _
            rw [m_noBird (n := n) (by rw [up0_1, ek]; exact e1) hn hb, bd_some, if_pos rfl, m_noLevel hl, bd_some, if_pos rfl, if_neg h20, m_noColumn hc, bd_some, if_pos rfl]
            unfold FX8_moves_37
            rw [m_throws0, bd_some, if_pos rfl, m_in, bd_some, isI_f' (n := 7) 7 rfl h4 (by decide), if_pos rfl]
            exact (m_moves_f (Or.inr rfl)).2 rfl
      · refine arm_q hR 1 0 (x0_ex (n := 2) ?_ (by decide) (fun _ => rfl)) (fun M1 hs hR1 => ?_) hk
        · unfold FX1_moves
          rw [x_birdAt e2 hn hb, bx_some, gd_k (by omega) (by decide), x_isIn, bd_some, hl2, if_neg (by decide), x_isIn, bd_some, isI_f' (n := 15) 15 rfl h3 (by decide), if_pos rfl]
          exact wp_ok ⟨rfl, SX.refl⟩
        · have ek := hs (5, 0, 1) rfl
          unfold FX8_moves
          show Q8 (bd _ _) _ _ _
          rw [m_noBird (n := n) (by rw [up0_1, ek]; exact e1) hn hb, bd_some, if_pos rfl, m_noLevel hl, bd_some, if_pos rfl, if_neg h20, m_noColumn' h3, bd_some, if_neg (by decide)]
          exact (m_moves_f (Or.inl rfl)).1 rfl
    · refine arm_q hR 1 0 (x0_ex (n := 2) ?_ (by decide) (fun _ => rfl)) (fun M1 hs hR1 => ?_) hk
      · have h20 : isI (w 2) 1 12 = 0 := by
          unfold isI
          by_cases g : w 2 < 1
          · rw [if_pos g]
          · rw [if_neg g, if_pos]
            refine Int32.not_le.mp fun g2 => ?_
            have g0 : ¬ w 2 < 0 := fun g0 => g (Int32.lt_trans g0 (by decide))
            obtain ⟨j, hj, ej⟩ := nI_of2 (n := 12) (M := 12) (by decide) g0 g2
            refine h2 ⟨⟨j, by omega, ej⟩, fun g3 => g (by rw [g3]; decide)⟩
        unfold FX1_moves
        rw [x_birdAt e2 hn hb, bx_some, gd_k (by omega) (by decide), x_isIn, bd_some, h20, if_pos rfl]
        exact wp_ok ⟨rfl, SX.refl⟩
      · have ek := hs (5, 0, 1) rfl
        unfold FX8_moves
        show Q8 (bd _ _) _ _ _
        rw [m_noBird (n := n) (by rw [up0_1, ek]; exact e1) hn hb, bd_some, if_pos rfl]
        by_cases g : isN (w 2) 13
        · have g0 : w 2 = 0 := Decidable.byContradiction fun g0 => h2 ⟨g, g0⟩
          rw [g0, show (0 : Int32) = nI 0 from rfl, m_noLevel (by decide), bd_some, if_pos (by decide), if_pos rfl]
          exact (m_moves_f (Or.inl rfl)).1 rfl
        · rw [m_noLevel' g, bd_some, if_neg (by decide)]
          exact (m_moves_f (Or.inl rfl)).1 rfl
  · refine arm_q hR 1 0 (x0_ex (n := 2) ?_ (by decide) (fun _ => rfl)) (fun M1 hs hR1 => ?_) hk
    · unfold FX1_moves
      rw [x_birdAt' e2 hn h1]
      exact wp_ok ⟨rfl, SX.refl⟩
    · have ek := hs (5, 0, 1) rfl
      unfold FX8_moves
      show Q8 (bd _ _) _ _ _
      rw [m_noBird' (n := n) (by rw [up0_1, ek]; exact e1) hn h1, bd_some, if_neg (by decide)]
      exact (m_moves_f (Or.inl rfl)).1 rfl
end
