set_option maxRecDepth 100000
/-! the least methods of both; a query's arm -/
def isN (x : Int32) (n : Nat) : Prop := ∃ k, k < n ∧ x = nI k
def isI (x a b : Int32) : Int32 := if x < a then 0 else if b < x then 0 else 1
theorem nI_pm {n : Nat} (h0 : 0 < n) : nI n - 1 = nI (n - 1) := by
  obtain ⟨m, rfl⟩ : ∃ m, n = m + 1 := ⟨n - 1, by omega⟩
  exact nI_pred m
theorem isI_t {k n : Nat} (h : k < n) (hn : n < 2 ^ 31) : isI (nI k) 0 (nI n - 1) = 1 := by
  unfold isI
  rw [if_neg (nI_pos (by omega)), nI_pm (by omega), if_neg (nI_nlt (by omega) (by omega))]
theorem isI_f {x : Int32} {n : Nat} (h : ¬ isN x n) (hn : n < 2 ^ 31) : isI x 0 (nI n - 1) = 0 := by
  unfold isI
  by_cases h0 : x < 0
  · rw [if_pos h0]
  · rw [if_neg h0]
    obtain ⟨j, hj, rfl⟩ := nI_of h0
    have hjn : n ≤ j := Nat.le_of_not_lt fun h1 => h ⟨j, h1, rfl⟩
    rw [if_pos]
    rcases Nat.eq_zero_or_pos n with hz | hz
    · subst hz
      rw [Int32.lt_iff_toInt_lt, nI_toInt hj]
      have : (nI 0 - 1).toInt = -1 := by decide
      omega
    · rw [nI_pm hz]
      exact nI_lt (by omega) hj
/-- the same with the bound itself -/
theorem isI_t' {k n : Nat} (b : Int32) (hb : b = nI n) (h : k < n + 1) (hn : n + 1 < 2 ^ 31) : isI (nI k) 0 b = 1 := by
  have := isI_t h hn
  rwa [nI_pred, ← hb] at this
theorem isI_f' {x : Int32} {n : Nat} (b : Int32) (hb : b = nI n) (h : ¬ isN x (n + 1)) (hn : n + 1 < 2 ^ 31) : isI x 0 b = 0 := by
  have := isI_f h hn
  rwa [nI_pred, ← hb] at this
theorem swt_k {ρ : Type} {k : Nat} {As : List (Option ρ)} {d : Option ρ} (h : k < As.length) (hn : k < 2 ^ 31) : swt (nI k) 0 As d = (As[k]?).getD d := by
  unfold swt
  rw [nI_toInt hn, if_neg (by omega)]
  congr 2
theorem swt_d {ρ : Type} {x : Int32} {As : List (Option ρ)} {d : Option ρ} (h : ¬ isN x As.length) : swt x 0 As d = d := by
  unfold swt
  rw [if_pos]
  by_cases h0 : x < 0
  · left
    have := Int32.lt_iff_toInt_lt.mp h0
    exact this
  · obtain ⟨j, hj, rfl⟩ := nI_of h0
    right
    have : As.length ≤ j := Nat.le_of_not_lt fun h1 => h ⟨j, h1, rfl⟩
    rw [nI_toInt hj]
    omega
section
variable {fu : Nat} {D : List LDen} {M : Mem}
theorem x_isIn {a b c : Int32} : FX1_isIn fu D M a b c = some (isI a b c, M) := by
  unfold FX1_isIn isI
  by_cases h : a < b
  · rw [if_pos h, if_pos h]; rfl
  · rw [if_neg h, if_neg h]
    by_cases h2 : c < a
    · rw [if_pos h2, if_pos h2]; rfl
    · rw [if_neg h2, if_neg h2]; rfl
theorem m_in {a b c : Int32} : FX8_in fu D M a b c = some (isI a b c, M) := by
  unfold FX8_in isI
  by_cases h : a < b
  · rw [if_pos h, if_pos h]; rfl
  · rw [if_neg h, if_neg h]
    by_cases h2 : c < a
    · rw [if_pos h2, if_pos h2]; rfl
    · rw [if_neg h2, if_neg h2]; rfl
theorem x_birdAt {k n : Nat} (hn : M (0, 0, 0) 7 = nI n) (h6 : n ≤ 6) (h : k < n) : FX1_birdAt fu D M (nI k) = some (0, nI k, M) := by
  unfold FX1_birdAt
  rw [x_isIn, hn, isI_t h (by omega)]
  exact gd_k (by omega) (by decide)
theorem x_birdAt' {x : Int32} {n : Nat} (hn : M (0, 0, 0) 7 = nI n) (h6 : n ≤ 6) (h : ¬ isN x n) : FX1_birdAt fu D M x = some (3, 0, M) := by
  unfold FX1_birdAt
  rw [x_isIn, hn, isI_f h (by omega)]
  rfl
theorem x_isCounsel {k n : Nat} (hn : M (0, 0, 0) 8 = nI n) (h6 : n ≤ 4) (h : k < n) : FX1_isCounsel fu D M (nI k) = some (0, 0, M) := by
  unfold FX1_isCounsel
  rw [x_isIn, hn, isI_t h (by omega)]
  rfl
theorem x_isCounsel' {x : Int32} {n : Nat} (hn : M (0, 0, 0) 8 = nI n) (h6 : n ≤ 4) (h : ¬ isN x n) : FX1_isCounsel fu D M x = some (3, 0, M) := by
  unfold FX1_isCounsel
  rw [x_isIn, hn, isI_f h (by omega)]
  rfl
theorem x_caseAt {k n : Nat} (hn : M (0, 0, 0) 9 = nI n) (h6 : n ≤ 12) (h : k < n) : FX1_caseAt fu D M (nI k) = some (0, nI k, M) := by
  unfold FX1_caseAt
  rw [x_isIn, hn, isI_t h (by omega)]
  exact gd_k (by omega) (by decide)
theorem x_caseAt' {x : Int32} {n : Nat} (hn : M (0, 0, 0) 9 = nI n) (h6 : n ≤ 12) (h : ¬ isN x n) : FX1_caseAt fu D M x = some (3, 0, M) := by
  unfold FX1_caseAt
  rw [x_isIn, hn, isI_f h (by omega)]
  rfl
theorem m_birds : FX8_birds fu D M = some (M (5, 0, 1) 0, M) := gd_k (k := 0) (by decide) (by decide)
theorem m_counsel : FX8_counsel fu D M = some (M (5, 0, 1) 1, M) := gd_k (k := 1) (by decide) (by decide)
theorem m_cases : FX8_cases fu D M = some (M (5, 0, 1) 2, M) := gd_k (k := 2) (by decide) (by decide)
theorem m_noBird {k n : Nat} (hn : M (5, 0, 1) 0 = nI n) (h6 : n ≤ 6) (h : k < n) : FX8_noBird fu D M (nI k) = some (0, M) := by
  unfold FX8_noBird
  rw [m_birds, bd_some, m_in, hn, isI_t h (by omega)]
  rfl
theorem m_noBird' {x : Int32} {n : Nat} (hn : M (5, 0, 1) 0 = nI n) (h6 : n ≤ 6) (h : ¬ isN x n) : FX8_noBird fu D M x = some (1, M) := by
  unfold FX8_noBird
  rw [m_birds, bd_some, m_in, hn, isI_f h (by omega)]
  rfl
theorem m_noCounsel {k n : Nat} (hn : M (5, 0, 1) 1 = nI n) (h6 : n ≤ 4) (h : k < n) : FX8_noCounsel fu D M (nI k) = some (0, M) := by
  unfold FX8_noCounsel
  rw [m_counsel, bd_some, m_in, hn, isI_t h (by omega)]
  rfl
theorem m_noCounsel' {x : Int32} {n : Nat} (hn : M (5, 0, 1) 1 = nI n) (h6 : n ≤ 4) (h : ¬ isN x n) : FX8_noCounsel fu D M x = some (1, M) := by
  unfold FX8_noCounsel
  rw [m_counsel, bd_some, m_in, hn, isI_f h (by omega)]
  rfl
theorem m_noCase {k n : Nat} (hn : M (5, 0, 1) 2 = nI n) (h6 : n ≤ 12) (h : k < n) : FX8_noCase fu D M (nI k) = some (0, M) := by
  unfold FX8_noCase
  rw [m_cases, bd_some, m_in, hn, isI_t h (by omega)]
  rfl
theorem m_noCase' {x : Int32} {n : Nat} (hn : M (5, 0, 1) 2 = nI n) (h6 : n ≤ 12) (h : ¬ isN x n) : FX8_noCase fu D M x = some (1, M) := by
  unfold FX8_noCase
  rw [m_cases, bd_some, m_in, hn, isI_f h (by omega)]
  rfl
theorem m_noLevel {k : Nat} (h : k < 13) : FX8_noLevel fu D M (nI k) = some (0, M) := by
  unfold FX8_noLevel
  rw [m_in, isI_t' (n := 12) 12 rfl h (by decide)]
  rfl
theorem m_noLevel' {x : Int32} (h : ¬ isN x 13) : FX8_noLevel fu D M x = some (1, M) := by
  unfold FX8_noLevel
  rw [m_in, isI_f' (n := 12) 12 rfl h (by decide)]
  rfl
theorem m_noColumn {k : Nat} (h : k < 16) : FX8_noColumn fu D M (nI k) = some (0, M) := by
  unfold FX8_noColumn
  rw [m_in, isI_t' (n := 15) 15 rfl h (by decide)]
  rfl
theorem m_noColumn' {x : Int32} (h : ¬ isN x 16) : FX8_noColumn fu D M x = some (1, M) := by
  unfold FX8_noColumn
  rw [m_in, isI_f' (n := 15) 15 rfl h (by decide)]
  rfl
theorem m_throws0 {e : Int32} : FX8_throwsIf fu D M 0 e = some (0, M) := rfl
theorem m_throws1 {e : Int32} : FX8_throwsIf fu D M 1 e = some (1, up M (5, 0, 0) 0 e) := rfl
theorem ix4 (a b f : Nat) : nI a + 4 * nI b + nI f = nI (a + 4 * b + f) := by
  rw [show (4 : Int32) = nI 4 from rfl, nI_mul, nI_add, nI_add]
theorem ix6 (a b f : Nat) : nI a + 6 * nI b + nI f = nI (a + 6 * b + f) := by
  rw [show (6 : Int32) = nI 6 from rfl, nI_mul, nI_add, nI_add]
theorem m_ofBird {b f : Nat} (hb : b < 6) (hf : f < 4) : FX8_ofBird fu D M (nI b) (nI f) = some (M (5, 0, 1) (26 + 4 * b + f), M) := by
  unfold FX8_ofBird
  rw [show ((26 : Int32) + 4 * nI b + nI f) = nI (26 + 4 * b + f) from ix4 26 b f, gd_k (by omega) (by decide), nI_clamp (by omega)]
theorem m_stockAt {c b : Nat} : FX8_stockAt fu D M (nI c) (nI b) = some (nI (50 + 6 * c + b), M) := by
  unfold FX8_stockAt
  rw [show ((50 : Int32) + 6 * nI c + nI b) = nI (50 + 6 * c + b) from ix6 50 c b]
theorem m_stockOf {c b : Nat} (hc : c < 4) (hb : b < 6) : FX8_stockOf fu D M (nI c) (nI b) = some (M (5, 0, 1) (50 + 6 * c + b), M) := by
  unfold FX8_stockOf
  rw [m_stockAt, bd_some, gd_k (by omega) (by decide), nI_clamp (by omega)]
theorem m_caseAt {c b : Nat} : FX8_caseAt fu D M (nI c) (nI b) = some (nI (74 + 4 * c + b), M) := by
  unfold FX8_caseAt
  rw [show ((74 : Int32) + 4 * nI c + nI b) = nI (74 + 4 * c + b) from ix4 74 c b]
theorem m_ofCase {m f : Nat} (hm : m < 12) (hf : f < 4) : FX8_ofCase fu D M (nI m) (nI f) = some (M (5, 0, 1) (74 + 4 * m + f), M) := by
  unfold FX8_ofCase
  rw [m_caseAt, bd_some, gd_k (by omega) (by decide), nI_clamp (by omega)]
theorem x_stock {s c b : Nat} (hc : c < 4) (hb : b < 6) : FX3_stock fu D s M (nI c) (nI b) = some (M (0, s, 4) (6 * c + b), M) := by
  unfold FX3_stock
  rw [show ((6 : Int32) * nI c + nI b) = nI (6 * c + b) from by rw [show (6 : Int32) = nI 6 from rfl, nI_mul, nI_add], gd_k (by omega) (by decide), nI_clamp (by omega)]
end
/-- the law's answer from here on: true, with no more than m cells -/
def Good (x : Option (PR Int32)) (m : Nat) : Prop := Wp x (fun r => r.1 = 0 ∧ r.2.1 = 1 ∧ r.2.2.1 ≤ m)
theorem Good.tick {x : Option (PR Int32)} {c m : Nat} (h : Good x m) : Good (tick c x) (c + m) := by
  obtain ⟨⟨e, v, k, M⟩, h1, h2, h3, h4⟩ := h
  rw [h1]
  exact ⟨_, rfl, h2, h3, Nat.add_le_add_left h4 c⟩
def Q0 (x : Option TR) (M : Mem) (e v : Int32) : Prop := Wp x (fun r => r.1 = 0 ∧ r.2.1 = e ∧ (e = 0 → r.2.2 (7, 0, 0) 0 = v) ∧ SX M r.2.2)
def Q8 (x : Option (Int32 × Mem)) (M : Mem) (e v : Int32) : Prop := Wp x (fun r => (e = 0 → r.1 = v) ∧ r.2 (5, 0, 0) 0 = e ∧ SM M r.2)
theorem kM_sx {M M' : Mem} (h : SX M M') : kM M' = kM M := funext fun i => h (5, 0, i) rfl
theorem RelX.sxk {R : Nat} {D : List LDen} {M M' : Mem} (h : RelX R D (kM M) M) (hs : SX M M') : RelX R D (kM M') M' := by
  rw [kM_sx hs]
  exact h.sx hs
theorem RelX.smk {R : Nat} {D : List LDen} {M M' : Mem} (h : RelX R D (kM M) M) (hs : SM M M') : RelX R D (kM M') M' := by
  have h1 := h.ke hs.ke
  obtain ⟨⟨h1, h2⟩, h3, ⟨n, a, h4⟩, h5, h6, h7, h8⟩ := h1
  have hc := hs.1
  have hX : ∀ {s : Nat} {W : Wd0}, CX R D M s W → CX R D M' s W := fun hX => CX_congr (fun c _ _ h3 => hc c (by omega)) hX
  have e0 := hc (4, 0, 0) (by decide)
  have e8 := hc (4, 0, 8) (by decide)
  have e9 := hc (4, 0, 9) (by decide)
  refine ⟨⟨hX h1, h2⟩, ?_, ⟨n, a, ?_⟩, ?_, ?_, ?_, ?_⟩
  · rw [e0]
    exact h3.imp id (fun q => ⟨q.1, q.2.1, hX q.2.2.1, q.2.2.2⟩)
  · rw [e0]
    exact ⟨h4.1, h4.2.1, h4.2.2.1, h4.2.2.2.1, h4.2.2.2.2.1, fun i hi => ⟨hX (h4.2.2.2.2.2 i hi).1, (h4.2.2.2.2.2 i hi).2⟩⟩
  · rw [e8]; exact h5
  · rw [e9]; exact h6
  · rw [e0]; exact h7
  · refine ⟨fun s k => ?_, fun w k => ?_, h8.2.2⟩
    · rw [hc (0, s, 3) (by show 0 ≠ 5; decide)]; exact h8.1 s k
    · rw [hc (4, w, 12) (by show 4 ≠ 5; decide)]; exact h8.2.1 w k
/-- an arm that asks x, then the model, and looks at what both say -/
theorem arm_q {R : Nat} {fu : Nat} {D : List LDen} {M : Mem} {m c : Nat} {kn : List LDen → Mem → Option (PR Int32)} {x0 : Option TR} {f8 : Mem → Option (Int32 × Mem)} (hR : RelX R D (kM M) M) (e v : Int32) (hx : Q0 x0 M e v) (hm : ∀ M1, SX M M1 → RelX R D (kM M1) M1 → Q8 (f8 M1) M1 e v) (hk : ∀ M', RelX R D (kM M') M' → Good (kn D M') m) :
    Good (tick c (bh x0 (fun v M1 => bd (f8 M1) (fun b M2 => bd (FX8_thrown fu D M2) (fun t M3 => if t = v then if v = 0 then if M3 (7, 0, 0) 0 = b then kn D M3 else some (0, 0, 0, M3) else kn D M3 else some (0, 0, 0, M3)))) (fun _ _ => none))) (c + m) := by
  refine Good.tick ?_
  obtain ⟨⟨z, e1, M1⟩, h1, h2, h3, h4, h5⟩ := hx
  cases h2
  obtain rfl : e1 = e := h3
  rw [h1, bh_some]
  have h4 : e1 = 0 → M1 (7, 0, 0) 0 = v := h4
  have h5 : SX M M1 := h5
  have hR1 := hR.sxk h5
  obtain ⟨⟨b, M2⟩, g1, g2, g3, g4⟩ := hm M1 h5 hR1
  rw [g1, bd_some]
  have g2 : e1 = 0 → b = v := g2
  have g3 : M2 (5, 0, 0) 0 = e1 := g3
  have g4 : SM M1 M2 := g4
  have hR2 := hR1.smk g4
  show Good (if M2 (5, 0, 0) 0 = e1 then if e1 = 0 then if M2 (7, 0, 0) 0 = b then kn D M2 else some (0, 0, 0, M2) else kn D M2 else some (0, 0, 0, M2)) m
  rw [if_pos g3]
  by_cases h0 : e1 = 0
  · rw [if_pos h0, if_pos (by rw [g4.1 (7, 0, 0) (by decide)]; exact (h4 h0).trans (g2 h0).symm)]
    exact hk M2 hR2
  · rw [if_neg h0]
    exact hk M2 hR2
theorem x0_ok {x : Option TR} {M : Mem} {v : Int32} {kx : Nat → Mem → Option TR} (h : Wp x (fun r => r.1 = 0 ∧ r.2.1 = v ∧ SX M r.2.2)) : Q0 (bh x (fun v5 M5 => gd 0 1 (lt (up M5 (7, 0, 0) 0 v5) (fun M9 => some (0, 0, M9)))) kx) M 0 v := by
  obtain ⟨⟨z, e1, M1⟩, h1, h2, h3, h4⟩ := h
  cases h2
  rw [h1, bh_some, show ∀ x : Option TR, gd 0 1 x = x from fun x => gd_k (k := 0) (by decide) (by decide)]
  exact ⟨_, rfl, rfl, rfl, fun _ => (show up M1 (7, 0, 0) 0 e1 (7, 0, 0) 0 = v from upe.trans h3), SX_up h4 rfl⟩
theorem x0_ex {x : Option TR} {M : Mem} {n : Nat} {e : Int32} {k : Int32 → Mem → Option TR} {kx : Nat → Mem → Option TR} (h : Wp x (fun r => r.1 = n + 1 ∧ SX M r.2.2)) (he : e ≠ 0) (hk : ∀ M', kx (n + 1) M' = some (0, e, M')) : Q0 (bh x k kx) M e 0 := by
  obtain ⟨⟨z, e1, M1⟩, h1, h2, h3⟩ := h
  cases h2
  rw [h1, bh_ex, hk]
  exact ⟨_, rfl, rfl, rfl, fun h => absurd h he, h3⟩
