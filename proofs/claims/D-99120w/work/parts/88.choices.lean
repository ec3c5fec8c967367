set_option maxRecDepth 100000
/-! choices, and the arms of stock, matter, wind -/
abbrev hasB (x : Int32) (k : Nat) : Prop := ((x >>> (nI k &&& 31)) &&& 1) = 1
def bit (k : Nat) : Int32 := 1 <<< (nI k &&& 31)
theorem and_distrib (a b c : Int32) : (a ||| b) &&& c = (a &&& c) ||| (b &&& c) := by
  apply Int32.toBitVec_inj.mp
  simp only [Int32.toBitVec_and, Int32.toBitVec_or]
  ext i
  simp [Bool.and_or_distrib_right]
theorem bit_and : ∀ p, p < 64 → ∀ k, k < 6 → bit k &&& nI p = (if ((nI p >>> (nI k &&& 31)) &&& 1) = 1 then bit k else 0) := by decide +kernel
theorem bit_and' {p k : Nat} (hp : p < 64) (hk : k < 6) (h : hasB (nI p) k) : bit k &&& nI p = bit k := by
  rw [bit_and p hp k hk]
  exact if_pos h
theorem bit_and0 {p k : Nat} (hp : p < 64) (hk : k < 6) (h : ¬ hasB (nI p) k) : bit k &&& nI p = 0 := by
  rw [bit_and p hp k hk]
  exact if_neg h
/-- one more bird that may be chosen -/
def chF (W : Wd0) (m sd : Nat) (k : Nat) (a : Int32) : Int32 := a ||| (if hasB (W (76 + 4 * m)) k ∧ 0 < W (50 + 6 * wN W (74 + 4 * m + sd) + k) then bit k else 0)
def chW (W : Wd0) (m sd : Nat) : Int32 := it (chF W m sd) 0 (wN W 0)
def chX (W : Wd0) (m sd : Nat) (k : Nat) (a : Int32) : Int32 := a ||| (if 0 < W (50 + 6 * wN W (74 + 4 * m + sd) + k) then bit k else 0)
theorem chX_chF {W : Wd0} {m sd p : Nat} (hp : p < 64) (hW : W (76 + 4 * m) = nI p) : ∀ n, n ≤ 6 → it (chX W m sd) 0 n &&& nI p = it (chF W m sd) 0 n
  | 0, _ => by show (0 : Int32) &&& nI p = 0; exact Int32.zero_and
  | n + 1, hn => by
    show (it (chX W m sd) 0 n ||| _) &&& nI p = it (chF W m sd) 0 n ||| _
    rw [and_distrib, chX_chF hp hW n (by omega), hW]
    congr 1
    by_cases h1 : 0 < W (50 + 6 * wN W (74 + 4 * m + sd) + n)
    · rw [if_pos h1]
      by_cases h2 : hasB (nI p) n
      · rw [if_pos ⟨h2, h1⟩, bit_and' hp (by omega) h2]
      · rw [if_neg (fun h => h2 h.1), bit_and0 hp (by omega) h2]
    · rw [if_neg h1, if_neg (fun h => h1 h.2)]
      exact Int32.zero_and
section
variable {R : Nat} {fu : Nat} {D : List LDen} {M : Mem} {m : Nat} {kn : List LDen → Mem → Option (PR Int32)} {w : Nat → Int32}
theorem m_has {x : Int32} {k : Nat} (h : hasB x k) : FX8_has fu D M x (nI k) = some (1, M) := by
  unfold FX8_has
  rw [if_pos h]
  rfl
theorem m_has' {x : Int32} {k : Nat} (h : ¬ hasB x k) : FX8_has fu D M x (nI k) = some (0, M) := by
  unfold FX8_has
  rw [if_neg h]
  rfl
/-- a case's two -/
theorem In_case {W : Wd0} (hI : Inv W) {m : Nat} (hm : m < wN W 2) {sd : Nat} (hs : sd < 2) : ∃ o, o < wN W 1 ∧ o < 4 ∧ W (74 + 4 * m + sd) = nI o ∧ wN W (74 + 4 * m + sd) = o := by
  have hc := nc_le hI
  obtain ⟨⟨o, p, h1, h2, -, h3, h4⟩, -, -⟩ := hI.2.2.2.2.2.2 m hm
  match sd, hs with
  | 0, _ => exact ⟨o, h1, by omega, h3, by unfold wN; rw [show W (74 + 4 * m + 0) = nI o from h3, nI_clamp (by omega)]⟩
  | 1, _ =>
    have h4 : W (74 + 4 * m + 1) = nI p := by rw [show 74 + 4 * m + 1 = 75 + 4 * m by omega]; exact h4
    exact ⟨p, h2, by omega, h4, by unfold wN; rw [h4, nI_clamp (by omega)]⟩
theorem m_choices (hI : Inv (M (5, 0, 1))) {m sd : Nat} (hm : m < wN (M (5, 0, 1)) 2) (hs : sd < 2) (hfu : 6 < fu) : FX8_choices fu D M (nI m) (nI sd) = some (chW (M (5, 0, 1)) m sd, M) := by
  have h12 := nk_le hI
  have h6 := nb_le hI
  have hn := wN_eq hI.1.1 (by decide)
  obtain ⟨o, -, ho, e1, e2⟩ := In_case hI hm hs
  unfold FX8_choices FX8_choices_5
  refine wp_eq (wp_forP (fun a k => (M, nI m, nI sd, a, nI k)) (chF (M (5, 0, 1)) m sd) 0 (wN (M (5, 0, 1)) 0) (fun k kn hk h => ?_) (fun kn => ?_) (by omega))
  · show Wp (GX8_choices_5 fu D kn M (nI m) (nI sd) (it (chF (M (5, 0, 1)) m sd) 0 k) (nI k)) _
    unfold GX8_choices_5
    rw [m_birds, bd_some, hn, ile_f hk (by omega), show (2 : Int32) = nI 2 from rfl, m_ofCase (by omega) (by omega), bd_some, show 74 + 4 * m + 2 = 76 + 4 * m by omega]
    have key : ∀ t : Int32, (if hasB (M (5, 0, 1) (76 + 4 * m)) k ∧ 0 < M (5, 0, 1) (50 + 6 * wN (M (5, 0, 1)) (74 + 4 * m + sd) + k) then bit k else 0) = t → Wp (FX8_choices_52 fu D kn M (nI m) (nI sd) (nI k) t (it (chF (M (5, 0, 1)) m sd) 0 k)) (fun z => z = (chW (M (5, 0, 1)) m sd, M)) := by
      intro t ht
      subst ht
      unfold FX8_choices_52
      show Wp (kn (M, nI m, nI sd, _, nI k + 1)) _
      rw [nI_1]
      exact h
    by_cases g1 : hasB (M (5, 0, 1) (76 + 4 * m)) k
    · rw [m_has g1, bd_some, if_neg (by decide), m_ofCase (by omega) (by omega), bd_some, e1, m_stockOf ho (by omega), bd_some]
      by_cases g2 : M (5, 0, 1) (50 + 6 * o + k) ≤ 0
      · rw [if_pos g2]
        exact key 0 (if_neg (fun g => by rw [e2] at g; exact absurd g.2 (Int32.not_lt.mpr g2)))
      · rw [if_neg g2]
        exact key (bit k) (if_pos ⟨g1, by rw [e2]; exact Int32.not_le.mp g2⟩)
    · rw [m_has' g1, bd_some, if_pos rfl]
      exact key 0 (if_neg (fun g => g1 g.1))
  · show Wp (GX8_choices_5 fu D kn M (nI m) (nI sd) _ (nI _)) _
    unfold GX8_choices_5
    rw [m_birds, bd_some, hn, ile_t (Nat.le_refl _) (by omega)]
    exact wp_ok rfl
theorem x_choices (hR : RelX R D (kM M) M) {m sd : Nat} (x2 : Int32) (hx : (x2 = 0 ∧ sd = 0) ∨ (x2 ≠ 0 ∧ sd = 1)) (hm : m < wN (M (5, 0, 1)) 2) (hfu : 6 < fu) : FX3_choices fu D 0 M (nI m) x2 = some (chW (M (5, 0, 1)) m sd, M) := by
  have hI : Inv (M (5, 0, 1)) := hR.1.2
  obtain ⟨n, h6, hn1, hn2, hn3⟩ := Rx_nb hR
  have h12 := nk_le hI
  have hs : sd < 2 := by rcases hx with ⟨-, h⟩ | ⟨-, h⟩ <;> omega
  obtain ⟨o, -, ho, e1, e2⟩ := In_case hI hm hs
  obtain ⟨p, hp, e3⟩ := (hI.2.2.2.2.2.2 m hm).2.1
  unfold FX3_choices FX3_choices_13
  rw [gd_k (by omega) (by decide), nI_clamp (by omega)]
  refine wp_eq (wp_forP (fun a k => (M, x2, a, nI k)) (chX (M (5, 0, 1)) m sd) 0 n (fun k kn hk h => ?_) (fun kn => ?_) (by omega))
  · show Wp (GX3_choices_13 fu D 0 kn m M x2 (it (chX (M (5, 0, 1)) m sd) 0 k) (nI k)) _
    unfold GX3_choices_13
    rw [hn2, ile_f hk (by omega)]
    have key2 : Wp (FX3_choices_40 fu D 0 kn m M x2 (nI k) (nI o) (it (chX (M (5, 0, 1)) m sd) 0 k)) (fun z => z = (chW (M (5, 0, 1)) m sd, M)) := by
      have key : ∀ t : Int32, (if 0 < M (5, 0, 1) (50 + 6 * wN (M (5, 0, 1)) (74 + 4 * m + sd) + k) then bit k else 0) = t → Wp (FX3_choices_56 fu D 0 kn m M x2 (nI k) t (it (chX (M (5, 0, 1)) m sd) 0 k)) (fun z => z = (chW (M (5, 0, 1)) m sd, M)) := by
        intro t ht
        subst ht
        unfold FX3_choices_56
        show Wp (kn (M, x2, _, nI k + 1)) _
        rw [nI_1]
        exact h
      unfold FX3_choices_40
      rw [x_stock ho (by omega), bd_some, Rx_stock hR (by omega), show 50 + (6 * o + k) = 50 + 6 * o + k by omega]
      by_cases g2 : M (5, 0, 1) (50 + 6 * o + k) ≤ 0
      · rw [if_pos g2]
        exact key 0 (if_neg (fun g => by rw [e2] at g; exact absurd g (Int32.not_lt.mpr g2)))
      · rw [if_neg g2]
        exact key (bit k) (if_pos (by rw [e2]; exact Int32.not_le.mp g2))
    rcases hx with ⟨g1, g2⟩ | ⟨g1, g2⟩
    · subst g2
      rw [if_pos g1, Rx_case hR rfl hm (show 0 < 4 by decide), e1]
      exact key2
    · subst g2
      rw [if_neg g1, Rx_case hR rfl hm (show 1 < 4 by decide), e1]
      exact key2
  · show Wp (GX3_choices_13 fu D 0 kn m M x2 _ (nI _)) _
    unfold GX3_choices_13
    rw [hn2, ile_t (Nat.le_refl _) (by omega), Rx_case hR rfl hm (show 2 < 4 by decide), show 74 + 4 * m + 2 = 76 + 4 * m by omega, e3, chX_chF (show p < 64 by omega) e3 n h6]
    exact wp_ok (by unfold chW; rw [hn3])
end
