set_option maxRecDepth 100000
/-! how much a feather sinks and is carried -/
def FF (W : Wd0) (b l c t : Int32) : Nat → Int32
  | 0 => b
  | 1 => l
  | 2 => c
  | 3 => W (27 + 4 * b.toNatClampNeg)
  | 4 => W 6
  | 5 => t
  | 6 => if l ≤ W 8 / 2 then 0 else 1
  | 7 => isI c (W 9) (W 10)
  | _ => 0
def holdsW (W : Wd0) (k : Nat) (F : Nat → Int32) : Prop := wN W (485 + 4 * k) = wN W (486 + 4 * k) ∨ runS W F (wN W (485 + 4 * k)) (wN W (486 + 4 * k) - wN W (485 + 4 * k)) [] = some [1]
/-- how many lines there are -/
def lnN (W : Wd0) : Nat := if W 4 = 1 then wN W 482 else 0
def sumF (W : Wd0) (F : Nat → Int32) (kind : Int32) (k : Nat) (a : Int32) : Int32 := if W (483 + 4 * k) = kind ∧ (wN W (485 + 4 * k) = wN W (486 + 4 * k) ∨ runS W F (wN W (485 + 4 * k)) (wN W (486 + 4 * k) - wN W (485 + 4 * k)) [] = some [1]) then a + W (484 + 4 * k) else a
def sumW (W : Wd0) (F : Nat → Int32) (kind : Int32) : Int32 := it (sumF W F kind) 0 (lnN W)
def sinksW (W : Wd0) (b l c t : Int32) : Int32 := mx 0 (mn 12 (W (26 + 4 * b.toNatClampNeg) + sumW W (FF W b l c t) 0 - sumW W (FF W b l c t) 1))
def carW (W : Wd0) (b l c t : Int32) : Int32 := W (13 + l.toNatClampNeg) * W (27 + 4 * b.toNatClampNeg) + sumW W (FF W b l c t) 2 - sumW W (FF W b l c t) 3
/-- a line as the row has it, by itself -/
def LineW (W : Wd0) (k : Nat) : Prop := ∃ a b, a ≤ b ∧ b ≤ 400 ∧ W (485 + 4 * k) = nI a ∧ W (486 + 4 * k) = nI b ∧ (a = b ∨ ∀ F, okF F → runS W F a (b - a) [] = some [1] ∨ runS W F a (b - a) [] = some [0])
def LawW (W : Wd0) : Prop := W 4 ≠ 1 ∨ (W 4 = 1 ∧ ∃ n, n ≤ 12 ∧ W 482 = nI n ∧ ∀ k, k < n → LineW W k)
theorem LawR_W {D : List LDen} {M : Mem} {s : Nat} {W : Wd0} (h : LawR D M s W) : LawW W := by
  rcases h with ⟨h, -⟩ | ⟨h, n, h1, h2, -, h3⟩
  · exact Or.inl (by rw [h]; decide)
  · refine Or.inr ⟨h, n, h1, h2, fun k hk => ?_⟩
    obtain ⟨-, d, -, -, -, a, b, g1, g2, g3, g4, g5⟩ := h3 k hk
    refine ⟨a, b, g1, g2, g3, g4, g5.imp (fun q => q.1) (fun q F hF => ?_)⟩
    rw [q.2 F hF]
    cases d.2.2.2 F
    · exact Or.inr rfl
    · exact Or.inl rfl
theorem isI_01 (c a b : Int32) : isI c a b = 0 ∨ isI c a b = 1 := by
  unfold isI
  by_cases h : c < a
  · exact Or.inl (if_pos h)
  · rw [if_neg h]
    by_cases h2 : b < c
    · exact Or.inl (if_pos h2)
    · exact Or.inr (if_neg h2)
theorem okF_FF {W : Wd0} {b l c t : Int32} : okF (FF W b l c t) := by
  refine ⟨?_, isI_01 _ _ _⟩
  show (if l ≤ W 8 / 2 then (0 : Int32) else 1) = 0 ∨ (if l ≤ W 8 / 2 then (0 : Int32) else 1) = 1
  by_cases h : l ≤ W 8 / 2
  · exact Or.inl (if_pos h)
  · exact Or.inr (if_neg h)
theorem step1_F {F F' : Nat → Int32} (h : ∀ k, k < 8 → F' k = F k) (s n : Int32) (st : List Int32) : step1 F' s n st = step1 F s n st := by
  unfold step1
  by_cases h8 : 8 < s
  · rw [if_pos h8, if_pos h8]
  · rw [if_neg h8, if_neg h8]
    by_cases h2 : s.toInt < 0 ∨ 8 ≤ s.toInt
    · rw [if_pos h2, if_pos h2]
    · rw [if_neg h2, if_neg h2, h]
      have h0 : ¬ s < 0 := fun h0 => h2 (Or.inl (Int32.lt_iff_toInt_lt.mp h0))
      obtain ⟨j, hj, rfl⟩ := nI_of h0
      rw [nI_toInt hj] at h2
      rw [nI_clamp hj]
      omega
theorem runS_F {W : Wd0} {F F' : Nat → Int32} (h : ∀ k, k < 8 → F' k = F k) : ∀ (n i : Nat) (st : List Int32), runS W F' i n st = runS W F i n st
  | 0, _, _ => rfl
  | n + 1, i, st => by
    unfold runS
    rw [step1_F h]
    cases step1 F (W (531 + 2 * i)) (W (532 + 2 * i)) st with
    | none => rfl
    | some st' => exact runS_F h n (i + 1) st'
/-- what x's line says is what the row says -/
theorem LineR_holds {W : Wd0} {k : Nat} {d : LDen} (h : LineR W k d) {F F' : Nat → Int32} (hF : okF F') (hFF : ∀ k, k < 8 → F' k = F k) : (d.2.2.2 F' = true) ↔ (wN W (485 + 4 * k) = wN W (486 + 4 * k) ∨ runS W F (wN W (485 + 4 * k)) (wN W (486 + 4 * k) - wN W (485 + 4 * k)) [] = some [1]) := by
  obtain ⟨-, -, a, b, h1, h2, h3, h4, h5⟩ := h
  have e1 : wN W (485 + 4 * k) = a := by unfold wN; rw [h3, nI_clamp (by omega)]
  have e2 : wN W (486 + 4 * k) = b := by unfold wN; rw [h4, nI_clamp (by omega)]
  rw [e1, e2, ← runS_F hFF]
  rcases h5 with ⟨h5, h6⟩ | ⟨h5, h6⟩
  · exact ⟨fun _ => Or.inl h5, fun _ => h6 F' hF⟩
  · rw [h6 F' hF]
    cases d.2.2.2 F'
    · exact ⟨fun h => (by cases h), fun h => h.elim (fun h => absurd h (by omega)) (fun h => (by simp at h))⟩
    · exact ⟨fun _ => Or.inr rfl, fun _ => rfl⟩
theorem gd_lit {α : Type} {i : Int32} {n : Nat} {x : Option α} (h : ¬ (i < 0 ∨ n ≤ i.toNatClampNeg)) : gd i n x = x := if_neg h
section
variable {R : Nat} {fu : Nat} {D : List LDen} {M : Mem} {W : Wd0}
theorem isI_and (c a b : Int32) : isI c a b &&& 1 = isI c a b := by
  rcases isI_01 c a b with h | h <;> rw [h] <;> decide
theorem x_isYard {s : Nat} {c : Int32} : FX3_isYard fu D s M c = some (isI c (M (0, s, 0) 14) (M (0, s, 0) 15), M) := by
  unfold FX3_isYard isI
  by_cases h : c < M (0, s, 0) 14
  · rw [if_pos h, if_pos h]; rfl
  · rw [if_neg h, if_neg h]
    by_cases h2 : M (0, s, 0) 15 < c
    · rw [if_pos h2, if_pos h2]; rfl
    · rw [if_neg h2, if_neg h2]; rfl
/-- nothing but the facts -/
def SFa (M M' : Mem) : Prop := ∀ c : CId, c ≠ (0, 0, 6) → M' c = M c
theorem SFa.refl {M : Mem} : SFa M M := fun _ _ => rfl
theorem SFa.trans {M M' M'' : Mem} (h : SFa M M') (h' : SFa M' M'') : SFa M M'' := fun c hc => (h' c hc).trans (h c hc)
theorem SFa_up {M M' : Mem} {k : Nat} {v : Int32} (h : SFa M M') : SFa M (up M' (0, 0, 6) k v) := fun c hc => (upc hc).trans (h c hc)
theorem SFa.sx {M M' : Mem} (h : SFa M M') : SX M M' := fun c hc => h c (fun e => by rw [e] at hc; cases hc)
theorem x_tells (hX : CX R D M 0 W) {b : Nat} (hn6 : wN W 0 ≤ 6) (hb : b < wN W 0) (l c t : Int32) : Wp (FX3_tells fu D 0 M (nI b) l c t) (fun r => SFa M r.2 ∧ ∀ k, k < 8 → r.2 (0, 0, 6) k = FF W (nI b) l c t k) := by
  obtain ⟨⟨h7, h8, h9, h11, h12, h13, h14, h15, h16, h17, h18⟩, -, hbd, -⟩ := hX
  have h1 : M (1, 0, b) 1 = W (27 + 4 * b) := by rw [hbd b 1 hb (by decide)]; congr 1; omega
  have nb : ((1, 0, b) : CId) ≠ (0, 0, 6) := fun h => by cases h
  have n0 : ((0, 0, 0) : CId) ≠ (0, 0, 6) := by decide
  unfold FX3_tells
  rw [gd_lit (by decide)]
  refine wp_lt ?_
  rw [gd_lit (by decide)]
  refine wp_lt ?_
  rw [gd_lit (by decide)]
  refine wp_lt ?_
  rw [gd_k (by omega) (by decide), gd_lit (by decide)]
  refine wp_lt ?_
  rw [gd_lit (by decide)]
  refine wp_lt ?_
  rw [gd_lit (by decide)]
  refine wp_lt ?_
  simp only [upc n0, upc nb, nI_clamp (show b < 2 ^ 31 by omega), h13, h16, h1]
  have key : ∀ v6 : Int32, (if l ≤ W 8 / 2 then 0 else 1) = v6 → ∀ M0 : Mem, SFa M M0 → (M0 (0, 0, 0) = M (0, 0, 0)) → (∀ k, k < 6 → M0 (0, 0, 6) k = FF W (nI b) l c t k) → Wp (FX3_tells_75 fu D 0 M0 c v6 6) (fun r => SFa M r.2 ∧ ∀ k, k < 8 → r.2 (0, 0, 6) k = FF W (nI b) l c t k) := by
    intro v6 e6 M0 hs he hf
    unfold FX3_tells_75
    rw [gd_lit (by decide)]
    refine wp_lt ?_
    rw [x_isYard, bd_some, upc n0, he, h14, h15]
    have key2 : ∀ v7 : Int32, isI c (W 9) (W 10) = v7 → Wp (FX3_tells_95 fu D 0 (up M0 (0, 0, 6) (6 : Int32).toNatClampNeg v6) v7 7) (fun r => SFa M r.2 ∧ ∀ k, k < 8 → r.2 (0, 0, 6) k = FF W (nI b) l c t k) := by
      intro v7 e7
      unfold FX3_tells_95
      rw [gd_lit (by decide)]
      refine wp_lt (wp_ok ⟨SFa_up (SFa_up hs), fun k hk => ?_⟩)
      show up (up M0 (0, 0, 6) 6 v6) (0, 0, 6) 7 v7 (0, 0, 6) k = _
      rw [up_at, up_at]
      by_cases g7 : k = 7
      · subst g7; rw [if_pos rfl]; exact e7.symm
      · rw [if_neg g7]
        by_cases g6 : k = 6
        · subst g6; rw [if_pos rfl]; exact e6.symm
        · rw [if_neg g6]; exact hf k (by omega)
    rcases isI_01 c (W 9) (W 10) with h | h
    · rw [h, if_pos rfl]; exact key2 0 h
    · rw [h, if_neg (by decide)]; exact key2 1 h
  have hfin : ∀ k, k < 6 → up (up (up (up (up (up M (0, 0, 6) 0 (nI b)) (0, 0, 6) 1 l) (0, 0, 6) 2 c) (0, 0, 6) 3 (W (27 + 4 * b))) (0, 0, 6) 4 (W 6)) (0, 0, 6) 5 t (0, 0, 6) k = FF W (nI b) l c t k := by
    intro k hk
    match k, hk with
    | 0, _ => simp [up_at, FF]
    | 1, _ => simp [up_at, FF]
    | 2, _ => simp [up_at, FF]
    | 3, _ => simp [up_at, FF, nI_clamp (show b < 2 ^ 31 by omega)]
    | 4, _ => simp [up_at, FF]
    | 5, _ => simp [up_at, FF]
  have hsx : SFa M (up (up (up (up (up (up M (0, 0, 6) 0 (nI b)) (0, 0, 6) 1 l) (0, 0, 6) 2 c) (0, 0, 6) 3 (W (27 + 4 * b))) (0, 0, 6) 4 (W 6)) (0, 0, 6) 5 t) := SFa_up (SFa_up (SFa_up (SFa_up (SFa_up (SFa_up SFa.refl)))))
  have h00 : up (up (up (up (up (up M (0, 0, 6) 0 (nI b)) (0, 0, 6) 1 l) (0, 0, 6) 2 c) (0, 0, 6) 3 (W (27 + 4 * b))) (0, 0, 6) 4 (W 6)) (0, 0, 6) 5 t (0, 0, 0) = M (0, 0, 0) := by
    rw [upc n0, upc n0, upc n0, upc n0, upc n0, upc n0]
  by_cases h : l ≤ W 8 / 2
  · rw [if_pos h]; exact key 0 (if_pos h) _ hsx h00 hfin
  · rw [if_neg h]; exact key 1 (if_neg h) _ hsx h00 hfin
theorem sumF_t {F : Nat → Int32} {kind : Int32} {k : Nat} {a : Int32} (h1 : W (483 + 4 * k) = kind) (h2 : wN W (485 + 4 * k) = wN W (486 + 4 * k) ∨ runS W F (wN W (485 + 4 * k)) (wN W (486 + 4 * k) - wN W (485 + 4 * k)) [] = some [1]) : sumF W F kind k a = a + W (484 + 4 * k) := if_pos ⟨h1, h2⟩
theorem sumF_k {F : Nat → Int32} {kind : Int32} {k : Nat} {a : Int32} (h1 : W (483 + 4 * k) ≠ kind) : sumF W F kind k a = a := if_neg (fun h => h1 h.1)
theorem sumF_n {F : Nat → Int32} {kind : Int32} {k : Nat} {a : Int32} (h2 : ¬ (wN W (485 + 4 * k) = wN W (486 + 4 * k) ∨ runS W F (wN W (485 + 4 * k)) (wN W (486 + 4 * k) - wN W (485 + 4 * k)) [] = some [1])) : sumF W F kind k a = a := if_neg (fun h => h2 h.2)
/-- line k's share -/
theorem sinks_line {k : Nat} {d : LDen} (h : LineR W k d) {F F' : Nat → Int32} (hF : okF F') (hFF : ∀ k, k < 8 → F' k = F k) (z a b : Int32) : z + a - b + sinksOf d F' = z + sumF W F 0 k a - sumF W F 1 k b := by
  have hh := LineR_holds h hF hFF
  unfold sinksOf
  rw [← h.2.1]
  rcases h.1 with ⟨h1, h2, h3⟩ | ⟨h1, h2, h3⟩ | ⟨h1, h2, h3⟩ | ⟨h1, h2, h3⟩
  · rw [h2, h3, if_pos rfl]
    by_cases g : d.2.2.2 F' = true
    · rw [if_pos g, sumF_t h1 (hh.mp g), sumF_k (kind := 1) (by rw [h1]; decide)]; grind
    · rw [if_neg g, sumF_n (kind := 0) (fun q => g (hh.mpr q)), sumF_n (kind := 1) (fun q => g (hh.mpr q))]; grind
  · rw [h2, h3, if_pos rfl]
    by_cases g : d.2.2.2 F' = true
    · rw [if_pos g, sumF_t h1 (hh.mp g), sumF_k (kind := 0) (by rw [h1]; decide)]; grind
    · rw [if_neg g, sumF_n (kind := 0) (fun q => g (hh.mpr q)), sumF_n (kind := 1) (fun q => g (hh.mpr q))]; grind
  · rw [h2, if_neg (by decide), sumF_k (kind := 0) (by rw [h1]; decide), sumF_k (kind := 1) (by rw [h1]; decide)]; grind
  · rw [h2, if_neg (by decide), sumF_k (kind := 0) (by rw [h1]; decide), sumF_k (kind := 1) (by rw [h1]; decide)]; grind
theorem carries_line {k : Nat} {d : LDen} (h : LineR W k d) {F F' : Nat → Int32} (hF : okF F') (hFF : ∀ k, k < 8 → F' k = F k) (z a b : Int32) : z + a - b + carriesOf d F' = z + sumF W F 2 k a - sumF W F 3 k b := by
  have hh := LineR_holds h hF hFF
  unfold carriesOf
  rw [← h.2.1]
  rcases h.1 with ⟨h1, h2, h3⟩ | ⟨h1, h2, h3⟩ | ⟨h1, h2, h3⟩ | ⟨h1, h2, h3⟩
  · rw [h2, if_pos rfl, sumF_k (kind := 2) (by rw [h1]; decide), sumF_k (kind := 3) (by rw [h1]; decide)]; grind
  · rw [h2, if_pos rfl, sumF_k (kind := 2) (by rw [h1]; decide), sumF_k (kind := 3) (by rw [h1]; decide)]; grind
  · rw [h2, h3, if_neg (by decide)]
    by_cases g : d.2.2.2 F' = true
    · rw [if_pos g, sumF_t h1 (hh.mp g), sumF_k (kind := 3) (by rw [h1]; decide)]; grind
    · rw [if_neg g, sumF_n (kind := 2) (fun q => g (hh.mpr q)), sumF_n (kind := 3) (fun q => g (hh.mpr q))]; grind
  · rw [h2, h3, if_neg (by decide)]
    by_cases g : d.2.2.2 F' = true
    · rw [if_pos g, sumF_t h1 (hh.mp g), sumF_k (kind := 2) (by rw [h1]; decide)]; grind
    · rw [if_neg g, sumF_n (kind := 2) (fun q => g (hh.mpr q)), sumF_n (kind := 3) (fun q => g (hh.mpr q))]; grind
theorem lnq_some {α : Type} {v : Int32} {k : LDen → Option α} {d : LDen} (h0 : v ≠ 0) (h : D[v.toNatClampNeg - 1]? = some d) : lnq D v k = k d := by
  unfold lnq
  rw [if_neg h0, h]
theorem okF_at {F F' : Nat → Int32} (h : okF F) (hFF : ∀ k, k < 8 → F' k = F k) : okF F' := by
  unfold okF
  rw [hFF 6 (by decide), hFF 7 (by decide)]
  exact h
/-- the law's lines, one behind the other -/
theorem x_lawloop {kinds : Int32 × Int32} {fo : LDen → (Nat → Int32) → Int32} (hfu : 12 < fu) {F F' : Nat → Int32} (hF : okF F) (hFF : ∀ k, k < 8 → F' k = F k) (hline : ∀ k d, LineR W k d → ∀ z a b : Int32, z + a - b + fo d F' = z + sumF W F kinds.1 k a - sumF W F kinds.2 k b) (hL : LawR D M 0 W) (fin : Int32 → Int32)
    (body : (Mem × Int32 × Int32 → Option (Int32 × Mem)) → Mem × Int32 × Int32 → Option (Int32 × Mem)) (hbody : ∀ kn x5 x6, body kn (M, x5, x6) = if (M (0, 0, 0) 10) ≤ x6 then some (fin x5, M) else gd x6 12 (lnq D (M (0, 0, 3) x6.toNatClampNeg) (fun d47 => lt (x5 + (fo d47 F')) (fun y56 => lt (x6 + 1) (fun y58 => kn (M, y56, y58)))))) (z : Int32) :
    lp body fu (M, z, 0) = some (fin (z + sumW W F kinds.1 - sumW W F kinds.2), M) := by
  rcases hL with ⟨h4, h10⟩ | ⟨h4, n, hn, h482, h10, hl⟩
  · obtain ⟨fu', rfl⟩ : ∃ f, fu = f + 1 := ⟨fu - 1, by omega⟩
    show body _ _ = _
    rw [hbody, h10, if_pos (by decide)]
    have : lnN W = 0 := if_neg (by rw [h4]; decide)
    unfold sumW
    rw [this]
    show some (fin z, M) = some (fin (z + 0 - 0), M)
    rw [show z + 0 - 0 = z by grind]
  · have hN : lnN W = n := by
      unfold lnN wN
      rw [if_pos h4, h482, nI_clamp (by omega)]
    have hbt : ∀ k, k < n + 1 → z + it (sumF W F kinds.1) 0 k - it (sumF W F kinds.2) 0 k = it (fun k a => z + it (sumF W F kinds.1) 0 (k + 1) - it (sumF W F kinds.2) 0 (k + 1)) z k := by
      intro k hk
      cases k with
      | zero => show z + 0 - 0 = z; grind
      | succ k => rfl
    refine wp_eq (wp_forP (fun a k => (M, a, nI k)) (fun k a => z + it (sumF W F kinds.1) 0 (k + 1) - it (sumF W F kinds.2) 0 (k + 1)) z n (fun k kn hk h => ?_) (fun kn => ?_) (by omega))
    · rw [hbody, h10, ile_f hk (by omega), gd_k (by omega) (by decide), nI_clamp (by omega)]
      obtain ⟨g0, d, g1, g2⟩ := hl k hk
      rw [lnq_some g0 g1]
      show Wp (kn (M, _ + fo d F', nI k + 1)) _
      rw [nI_1, ← hbt k (by omega), hline k d g2]
      exact h
    · rw [hbody, h10, ile_t (Nat.le_refl _) (by omega), ← hbt n (by omega)]
      unfold sumW
      rw [hN]
      exact wp_ok rfl
theorem x_sinks (hX : CX R D M 0 W) {b : Nat} (hn6 : wN W 0 ≤ 6) (hb : b < wN W 0) (hfu : 12 < fu) (l c t : Int32) : Wp (FX3_sinks fu D 0 M (nI b) l c t) (fun r => r.1 = sinksW W (nI b) l c t ∧ SFa M r.2) := by
  unfold FX3_sinks
  refine wp_bd (x_tells hX hn6 hb l c t) (fun v M1 h => ?_)
  obtain ⟨hs, hf⟩ := h
  have hX1 : CX R D M1 0 W := CX_congr (fun c hc _ _ => hs.sx c hc) hX
  rw [gd_k (by omega) (by decide)]
  refine wp_lt ?_
  rw [nI_clamp (by omega), hX1.2.2.1 b 0 hb (by decide)]
  unfold FX3_sinks_23
  rw [x_lawloop (W := W) (kinds := (0, 1)) (fo := sinksOf) (F' := M1 (0, 0, 6)) hfu (okF_FF (W := W) (b := nI b) (l := l) (c := c) (t := t)) hf (fun k d hd z a b => sinks_line hd (okF_at okF_FF hf) hf z a b) hX1.2.2.2.2.2.2 (fun v => mx 0 (mn 12 v)) _ (fun kn x5 x6 => rfl)]
  refine wp_ok ⟨?_, hs⟩
  unfold sinksW
  rw [nI_clamp (by omega)]
  rfl
theorem x_carried (hX : CX R D M 0 W) {b l : Nat} (hn6 : wN W 0 ≤ 6) (hb : b < wN W 0) (hl : l < 13) (hfu : 12 < fu) (c t : Int32) : Wp (FX3_carried fu D 0 M (nI b) (nI l) c t) (fun r => r.1 = carW W (nI b) (nI l) c t ∧ SFa M r.2) := by
  unfold FX3_carried
  refine wp_bd (x_tells hX hn6 hb (nI l) c t) (fun v M1 h => ?_)
  obtain ⟨hs, hf⟩ := h
  have hX1 : CX R D M1 0 W := CX_congr (fun c hc _ _ => hs.sx c hc) hX
  rw [gd_k (by omega) (by decide), gd_k (by omega) (by decide)]
  refine wp_lt ?_
  rw [nI_clamp (by omega), nI_clamp (by omega), hX1.2.2.1 b 1 hb (by decide), hX1.2.2.2.2.1 l hl]
  unfold FX3_carried_30
  rw [x_lawloop (W := W) (kinds := (2, 3)) (fo := carriesOf) (F' := M1 (0, 0, 6)) hfu (okF_FF (W := W) (b := nI b) (l := nI l) (c := c) (t := t)) hf (fun k d hd z a b => carries_line hd (okF_at okF_FF hf) hf z a b) hX1.2.2.2.2.2.2 (fun v => v) _ (fun kn x5 x6 => rfl)]
  refine wp_ok ⟨?_, hs⟩
  unfold carW
  rw [nI_clamp (by omega), nI_clamp (by omega), show 26 + 4 * b + 1 = 27 + 4 * b by omega]
end
