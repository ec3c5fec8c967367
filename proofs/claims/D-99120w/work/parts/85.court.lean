set_option maxRecDepth 100000
/-! what x's memory and the model's have to do with each other -/
abbrev Wd0 : Type := Nat → Int32
def Rng (v : Int32) (n : Nat) : Prop := ∃ k, k ≤ n ∧ v = nI k
def wN (W : Wd0) (k : Nat) : Nat := (W k).toNatClampNeg
/-- a court's row: what its numbers are -/
def Inv (W : Wd0) : Prop :=
  (Rng (W 0) 6 ∧ Rng (W 1) 4 ∧ Rng (W 2) 12 ∧ Rng (W 3) 12 ∧ Rng (W 5) 9999 ∧ Rng (W 6) 23 ∧ Rng (W 7) 15) ∧
  (∃ k, 1 ≤ k ∧ k ≤ 12 ∧ W 8 = nI k) ∧ (∃ a b, a ≤ b ∧ b ≤ 15 ∧ W 9 = nI a ∧ W 10 = nI b) ∧ Rng (W 11) 60 ∧
  (∀ b, b < wN W 0 → Rng (W (26 + 4 * b)) 4 ∧ Rng (W (27 + 4 * b)) 3 ∧ Rng (W (28 + 4 * b)) 63 ∧ Rng (W (29 + 4 * b)) 5) ∧
  (∀ j, j < 24 → Rng (W (50 + j)) 99) ∧
  (∀ m, m < wN W 2 → (∃ o p, o < wN W 1 ∧ p < wN W 1 ∧ o ≠ p ∧ W (74 + 4 * m) = nI o ∧ W (75 + 4 * m) = nI p) ∧ Rng (W (76 + 4 * m)) 63 ∧ Rng (W (77 + 4 * m)) 4)
/-- the facts of a condition -/
def okF (F : Nat → Int32) : Prop := (F 6 = 0 ∨ F 6 = 1) ∧ (F 7 = 0 ∨ F 7 = 1)
def op1 (s a b : Int32) : Int32 := if s = 9 then a + b else if s = 10 then (if a < b then 1 else 0) else if s = 11 then (if b < a then 1 else 0) else if s = 13 then (if a + b = 2 then 1 else 0) else (if 0 < a + b then 1 else 0)
/-- one step of a line's steps, upon a stack -/
def step1 (F : Nat → Int32) (s n : Int32) (st : List Int32) : Option (List Int32) :=
  if 8 < s then
    if s = 12 then
      match st with
      | a :: r => some ((1 - a) :: r)
      | [] => none
    else
      match st with
      | b :: a :: r => some (op1 s a b :: r)
      | _ => none
  else some ((if s.toInt < 0 ∨ 8 ≤ s.toInt then n else F s.toNatClampNeg) :: st)
def runS (W : Wd0) (F : Nat → Int32) : Nat → Nat → List Int32 → Option (List Int32)
  | _, 0, st => some st
  | i, n + 1, st => match step1 F (W (531 + 2 * i)) (W (532 + 2 * i)) st with
    | none => none
    | some st' => runS W F (i + 1) n st'
/-- line k of the law as the row has it, and what x's line says -/
def LineR (W : Wd0) (k : Nat) (d : LDen) : Prop :=
  ((W (483 + 4 * k) = 0 ∧ d.1 = 0 ∧ d.2.1 = 1) ∨ (W (483 + 4 * k) = 1 ∧ d.1 = 0 ∧ d.2.1 = -1) ∨ (W (483 + 4 * k) = 2 ∧ d.1 = 1 ∧ d.2.1 = 1) ∨ (W (483 + 4 * k) = 3 ∧ d.1 = 1 ∧ d.2.1 = -1)) ∧
  W (484 + 4 * k) = d.2.2.1 ∧
  ∃ a b, a ≤ b ∧ b ≤ 400 ∧ W (485 + 4 * k) = nI a ∧ W (486 + 4 * k) = nI b ∧ ((a = b ∧ ∀ F, okF F → d.2.2.2 F = true) ∨ (a < b ∧ ∀ F, okF F → runS W F a (b - a) [] = some [if d.2.2.2 F then 1 else 0]))
def LawR (D : List LDen) (M : Mem) (s : Nat) (W : Wd0) : Prop :=
  (W 4 = 0 ∧ M (0, s, 0) 10 = -1) ∨ (W 4 = 1 ∧ ∃ n, n ≤ 12 ∧ W 482 = nI n ∧ M (0, s, 0) 10 = nI n ∧ ∀ k, k < n → M (0, s, 3) k ≠ 0 ∧ ∃ d, D[(M (0, s, 3) k).toNatClampNeg - 1]? = some d ∧ LineR W k d)
/-- State s holds what the row W says; at most R rows were written -/
def CX (R : Nat) (D : List LDen) (M : Mem) (s : Nat) (W : Wd0) : Prop :=
  (M (0, s, 0) 7 = W 0 ∧ M (0, s, 0) 8 = W 1 ∧ M (0, s, 0) 9 = W 2 ∧ M (0, s, 0) 11 = W 3 ∧ M (0, s, 0) 12 = W 7 ∧ M (0, s, 0) 13 = W 8 ∧ M (0, s, 0) 14 = W 9 ∧ M (0, s, 0) 15 = W 10 ∧ M (0, s, 0) 16 = W 6 ∧ M (0, s, 0) 17 = W 5 ∧ M (0, s, 0) 18 = W 12) ∧
  (∃ rm, rm ≤ R ∧ M (0, s, 0) 19 = nI rm ∧ W 11 = nI (min 60 rm) ∧ ∀ k f, k < min 60 rm → f < 6 → M (0, s, 7) ((rm - 1 - k) % 60 * 6 + f) = W (122 + 6 * k + f)) ∧
  (∀ b f, b < wN W 0 → f < 4 → M (1, s, b) f = W (26 + 4 * b + f)) ∧
  (∀ j, j < 24 → M (0, s, 4) j = W (50 + j)) ∧
  (∀ l, l < 13 → M (0, s, 5) l = W (13 + l)) ∧
  (∀ m f, m < wN W 2 → f < 4 → M (2, s, m) f = W (74 + 4 * m + f)) ∧
  LawR D M s W
abbrev KM : Type := Nat → Nat → Int32
def kM (M : Mem) : KM := fun i => M (5, 0, i)
def actW (K : KM) (i : Nat) : Wd0 := fun j => if j < 482 then K 5 (482 * i + j) else K 1 j
def isByte (v : Int32) : Prop := -128 ≤ v.toInt ∧ v.toInt < 128
/-- x's memory holds what the model's arrays K say -/
def RelX (R : Nat) (D : List LDen) (K : KM) (M : Mem) : Prop :=
  (CX R D M 0 (K 1) ∧ Inv (K 1)) ∧
  ((M (4, 0, 0) 15 = 0 ∧ K 0 6 = 0) ∨ (M (4, 0, 0) 15 = 1 ∧ K 0 6 = 1 ∧ CX R D M 1 (K 2) ∧ Inv (K 2))) ∧
  (∃ n a, n ≤ 12 ∧ a < 12 ∧ M (4, 0, 0) 13 = nI n ∧ K 0 7 = nI n ∧ M (4, 0, 0) 14 = nI a ∧ ∀ i, i < n → CX R D M (3 + (a + 12 - n + i) % 12) (actW K i) ∧ Inv (actW K i)) ∧
  (∃ z, z ≤ 400 ∧ M (4, 0, 8) 6 = nI z ∧ K 0 9 = nI z) ∧
  (∀ k, k < 400 → M (4, 0, 9) k = K 6 k ∧ isByte (K 6 k)) ∧
  M (4, 0, 0) 12 = K 0 14 ∧ okD D M
/-- cells that no relation looks at: x's own scratch, the law's array -/
def sx : CId → Bool
  | (0, _, 6) => true
  | (3, _, _) => true
  | (4, _, 2) => true
  | (4, _, 3) => true
  | (4, _, 4) => true
  | (4, _, 5) => true
  | (4, _, 6) => true
  | (4, _, 7) => true
  | (7, _, _) => true
  | _ => false
/-- x did nothing but scribble -/
def SX (M M' : Mem) : Prop := ∀ c, sx c = false → M' c = M c
theorem SX.refl {M : Mem} : SX M M := fun _ _ => rfl
theorem SX.trans {M M' M'' : Mem} (h : SX M M') (h' : SX M' M'') : SX M M'' := fun c hc => (h' c hc).trans (h c hc)
theorem SX_up {M M' : Mem} {c : CId} {k : Nat} {v : Int32} (h : SX M M') (hc : sx c = true) : SX M (up M' c k v) := fun d hd => (upc (fun e => by rw [e, hc] at hd; cases hd)).trans (h d hd)
theorem CX_congr {R : Nat} {D : List LDen} {M M' : Mem} {s : Nat} {W : Wd0} (h : ∀ c, sx c = false → c.2.1 = s → c.1 < 3 → M' c = M c) (hX : CX R D M s W) : CX R D M' s W := by
  have e0 := h (0, s, 0) rfl rfl (by omega)
  have e3 := h (0, s, 3) rfl rfl (by omega)
  have e4 := h (0, s, 4) rfl rfl (by omega)
  have e5 := h (0, s, 5) rfl rfl (by omega)
  have e7 := h (0, s, 7) rfl rfl (by omega)
  have eb := fun b => h (1, s, b) rfl rfl (Nat.le_of_ble_eq_true rfl)
  have em := fun b => h (2, s, b) rfl rfl (Nat.le_of_ble_eq_true rfl)
  unfold CX LawR
  simp only [e0, e3, e4, e5, e7, eb, em]
  exact hX
theorem RelX.sx {R : Nat} {D : List LDen} {K : KM} {M M' : Mem} (h : RelX R D K M) (hs : SX M M') : RelX R D K M' := by
  have hX : ∀ {s : Nat} {W : Wd0}, CX R D M s W → CX R D M' s W := fun hX => CX_congr (fun c hc _ _ => hs c hc) hX
  obtain ⟨⟨h1, h2⟩, h3, ⟨n, a, h4⟩, h5, h6, h7, h8⟩ := h
  have e0 := hs (4, 0, 0) rfl
  have e8 := hs (4, 0, 8) rfl
  have e9 := hs (4, 0, 9) rfl
  refine ⟨⟨hX h1, h2⟩, ?_, ⟨n, a, ?_⟩, ?_, ?_, ?_, ?_⟩
  · rw [e0]
    exact h3.imp id (fun q => ⟨q.1, q.2.1, hX q.2.2.1, q.2.2.2⟩)
  · rw [e0]
    exact ⟨h4.1, h4.2.1, h4.2.2.1, h4.2.2.2.1, h4.2.2.2.2.1, fun i hi => ⟨hX (h4.2.2.2.2.2 i hi).1, (h4.2.2.2.2.2 i hi).2⟩⟩
  · rw [e8]; exact h5
  · rw [e9]; exact h6
  · rw [e0]; exact h7
  · refine ⟨fun s k => ?_, fun w k => ?_, h8.2.2⟩
    · rw [hs (0, s, 3) rfl]; exact h8.1 s k
    · rw [hs (4, w, 12) rfl]; exact h8.2.1 w k
/-- the model did nothing but scribble -/
def SM (M M' : Mem) : Prop := (∀ c : CId, c.1 ≠ 5 → M' c = M c) ∧ (∀ k, k < 1331 → M' (5, 0, 1) k = M (5, 0, 1) k) ∧ M' (5, 0, 2) = M (5, 0, 2) ∧ M' (5, 0, 5) = M (5, 0, 5) ∧ M' (5, 0, 6) = M (5, 0, 6) ∧ M' (5, 0, 0) 6 = M (5, 0, 0) 6 ∧ M' (5, 0, 0) 7 = M (5, 0, 0) 7 ∧ M' (5, 0, 0) 9 = M (5, 0, 0) 9 ∧ M' (5, 0, 0) 14 = M (5, 0, 0) 14
/-- rows that are the same as far as a court goes -/
def WE (W W' : Wd0) : Prop := ∀ k, k < 1331 → W' k = W k
theorem runS_congr {W W' : Wd0} (h : WE W W') {F : Nat → Int32} : ∀ (n i : Nat) (st : List Int32), i + n ≤ 400 → runS W' F i n st = runS W F i n st
  | 0, _, _, _ => rfl
  | n + 1, i, st, hi => by
    unfold runS
    rw [h _ (show 531 + 2 * i < 1331 by omega), h _ (show 532 + 2 * i < 1331 by omega)]
    cases step1 F (W (531 + 2 * i)) (W (532 + 2 * i)) st with
    | none => rfl
    | some st' => exact runS_congr h n (i + 1) st' (by omega)
theorem LineR_congr {W W' : Wd0} (h : WE W W') {k : Nat} (hk : k < 12) {d : LDen} (hL : LineR W k d) : LineR W' k d := by
  obtain ⟨h1, h2, a, b, h3, h4, h5, h6, h7⟩ := hL
  unfold LineR
  rw [h _ (show 483 + 4 * k < 1331 by omega), h _ (show 484 + 4 * k < 1331 by omega), h _ (show 485 + 4 * k < 1331 by omega), h _ (show 486 + 4 * k < 1331 by omega)]
  refine ⟨h1, h2, a, b, h3, h4, h5, h6, h7.imp id (fun q => ⟨q.1, fun F hF => ?_⟩)⟩
  rw [runS_congr h _ _ _ (by omega)]
  exact q.2 F hF
theorem wN_congr {W W' : Wd0} (h : WE W W') {k : Nat} (hk : k < 1331) : wN W' k = wN W k := by
  unfold wN
  rw [h k hk]
theorem LawR_congr {D : List LDen} {M : Mem} {s : Nat} {W W' : Wd0} (h : WE W W') (hL : LawR D M s W) : LawR D M s W' := by
  unfold LawR
  rw [h 4 (by decide), h 482 (by decide)]
  refine hL.imp id (fun q => ⟨q.1, ?_⟩)
  obtain ⟨n, h1, h2, h3, h4⟩ := q.2
  refine ⟨n, h1, h2, h3, fun k hk => ⟨(h4 k hk).1, ?_⟩⟩
  obtain ⟨d, h5, h6⟩ := (h4 k hk).2
  exact ⟨d, h5, LineR_congr h (by omega) h6⟩
theorem nb_le {W : Wd0} (hI : Inv W) : wN W 0 ≤ 6 := by
  obtain ⟨k, hk, e⟩ := hI.1.1
  unfold wN
  rw [e, nI_clamp (by omega)]
  exact hk
theorem nk_le {W : Wd0} (hI : Inv W) : wN W 2 ≤ 12 := by
  obtain ⟨k, hk, e⟩ := hI.1.2.2.1
  unfold wN
  rw [e, nI_clamp (by omega)]
  exact hk
theorem nc_le {W : Wd0} (hI : Inv W) : wN W 1 ≤ 4 := by
  obtain ⟨k, hk, e⟩ := hI.1.2.1
  unfold wN
  rw [e, nI_clamp (by omega)]
  exact hk
theorem wN_eq {W : Wd0} {k n : Nat} (h : Rng (W k) n) (hn : n < 2 ^ 31) : W k = nI (wN W k) := by
  obtain ⟨j, hj, e⟩ := h
  unfold wN
  rw [e, nI_clamp (by omega)]
theorem Inv_congr {W W' : Wd0} (h : WE W W') (hI : Inv W) : Inv W' := by
  have g := nb_le hI
  have g2 := nk_le hI
  unfold Inv
  rw [wN_congr h (show 0 < 1331 by decide), wN_congr h (show 1 < 1331 by decide), wN_congr h (show 2 < 1331 by decide)]
  rw [h 0 (by decide), h 1 (by decide), h 2 (by decide), h 3 (by decide), h 5 (by decide), h 6 (by decide), h 7 (by decide), h 8 (by decide), h 9 (by decide), h 10 (by decide), h 11 (by decide)]
  obtain ⟨h1, h2, h3, h4, h5, h6, h7⟩ := hI
  refine ⟨h1, h2, h3, h4, fun b hb => ?_, fun j hj => ?_, fun m hm => ?_⟩
  · rw [h _ (show 26 + 4 * b < 1331 by omega), h _ (show 27 + 4 * b < 1331 by omega), h _ (show 28 + 4 * b < 1331 by omega), h _ (show 29 + 4 * b < 1331 by omega)]
    exact h5 b hb
  · rw [h _ (show 50 + j < 1331 by omega)]
    exact h6 j hj
  · rw [h _ (show 74 + 4 * m < 1331 by omega), h _ (show 75 + 4 * m < 1331 by omega), h _ (show 76 + 4 * m < 1331 by omega), h _ (show 77 + 4 * m < 1331 by omega)]
    exact h7 m hm
theorem CX_row {R : Nat} {D : List LDen} {M : Mem} {s : Nat} {W W' : Wd0} (h : WE W W') (hI : Inv W) (hX : CX R D M s W) : CX R D M s W' := by
  have g := nb_le hI
  have g2 := nk_le hI
  obtain ⟨h1, ⟨rm, r1, r2, r3, r4⟩, h3, h4, h5, h6, h7⟩ := hX
  unfold CX
  rw [wN_congr h (show 0 < 1331 by decide), wN_congr h (show 2 < 1331 by decide)]
  rw [h 0 (by decide), h 1 (by decide), h 2 (by decide), h 3 (by decide), h 5 (by decide), h 6 (by decide), h 7 (by decide), h 8 (by decide), h 9 (by decide), h 10 (by decide), h 12 (by decide), h 11 (by decide)]
  refine ⟨h1, ⟨rm, r1, r2, r3, fun k f hk hf => ?_⟩, fun b f hb hf => ?_, fun j hj => ?_, fun l hl => ?_, fun m f hm hf => ?_, LawR_congr h h7⟩
  · rw [h _ (show 122 + 6 * k + f < 1331 by omega)]; exact r4 k f hk hf
  · rw [h _ (show 26 + 4 * b + f < 1331 by omega)]; exact h3 b f hb hf
  · rw [h _ (show 50 + j < 1331 by omega)]; exact h4 j hj
  · rw [h _ (show 13 + l < 1331 by omega)]; exact h5 l hl
  · rw [h _ (show 74 + 4 * m + f < 1331 by omega)]; exact h6 m f hm hf
/-- arrays that are the same as far as the relation goes -/
def KE (K K' : KM) : Prop := WE (K 1) (K' 1) ∧ WE (K 2) (K' 2) ∧ (∀ k, k < 5784 → K' 5 k = K 5 k) ∧ (∀ k, k < 400 → K' 6 k = K 6 k) ∧ K' 0 6 = K 0 6 ∧ K' 0 7 = K 0 7 ∧ K' 0 9 = K 0 9 ∧ K' 0 14 = K 0 14
theorem RelX.ke {R : Nat} {D : List LDen} {K K' : KM} {M : Mem} (hk : KE K K') (h : RelX R D K M) : RelX R D K' M := by
  obtain ⟨k1, k2, k5, k6, e6, e7, e9, e14⟩ := hk
  obtain ⟨⟨h1, h2⟩, h3, ⟨n, a, h4, h4a, h4b, h4c, h4d, h4e⟩, h5, h6, h7, h8⟩ := h
  refine ⟨⟨CX_row k1 h2 h1, Inv_congr k1 h2⟩, ?_, ⟨n, a, h4, h4a, h4b, ?_, h4d, fun i hi => ?_⟩, ?_, fun k hk => ?_, ?_, h8⟩
  · rw [e6]
    exact h3.imp id (fun q => ⟨q.1, q.2.1, CX_row k2 q.2.2.2 q.2.2.1, Inv_congr k2 q.2.2.2⟩)
  · rw [e7]; exact h4c
  · have hw : WE (actW K i) (actW K' i) := fun j hj => by
      unfold actW
      by_cases hj2 : j < 482
      · rw [if_pos hj2, if_pos hj2, k5 _ (by omega)]
      · rw [if_neg hj2, if_neg hj2, k1 _ hj]
    exact ⟨CX_row hw (h4e i hi).2 (h4e i hi).1, Inv_congr hw (h4e i hi).2⟩
  · rw [e9]; exact h5
  · rw [k6 k hk]; exact h6 k hk
  · rw [e14]; exact h7
theorem SM.refl {M : Mem} : SM M M := ⟨fun _ _ => rfl, fun _ _ => rfl, rfl, rfl, rfl, rfl, rfl, rfl, rfl⟩
theorem SM.trans {M M' M'' : Mem} (h : SM M M') (h' : SM M' M'') : SM M M'' := by
  obtain ⟨a1, a2, a3, a4, a5, a6, a7, a8, a9⟩ := h
  obtain ⟨b1, b2, b3, b4, b5, b6, b7, b8, b9⟩ := h'
  exact ⟨fun c hc => (b1 c hc).trans (a1 c hc), fun k hk => (b2 k hk).trans (a2 k hk), b3.trans a3, b4.trans a4, b5.trans a5, b6.trans a6, b7.trans a7, b8.trans a8, b9.trans a9⟩
/-- the model's scratch: cells, and places of its own object -/
def sm : Nat → Nat → Bool
  | 0, k => !(k == 6 || k == 7 || k == 9 || k == 14)
  | 1, k => decide (1331 ≤ k)
  | 2, _ => false
  | 5, _ => false
  | 6, _ => false
  | _, _ => true
theorem SM_up {M M' : Mem} {i k : Nat} {v : Int32} (h : SM M M') (hc : sm i k = true) : SM M (up M' (5, 0, i) k v) := by
  obtain ⟨a1, a2, a3, a4, a5, a6, a7, a8, a9⟩ := h
  have key : ∀ i' k', sm i' k' = false → up M' (5, 0, i) k v (5, 0, i') k' = M' (5, 0, i') k' := fun i' k' h' => by
    by_cases hi : i' = i
    · subst hi
      exact upn (fun e => by rw [← e, h'] at hc; cases hc)
    · rw [upc (fun e => hi (congrArg (fun c : CId => c.2.2) e))]
  refine ⟨fun c hc => (upc (fun e => hc (congrArg (fun c : CId => c.1) e))).trans (a1 c hc), fun k' hk' => (key 1 k' (by show decide _ = false; exact decide_eq_false (by omega))).trans (a2 k' hk'), ?_, ?_, ?_, (key 0 6 rfl).trans a6, (key 0 7 rfl).trans a7, (key 0 9 rfl).trans a8, (key 0 14 rfl).trans a9⟩
  · funext j; rw [key 2 j rfl, a3]
  · funext j; rw [key 5 j rfl, a4]
  · funext j; rw [key 6 j rfl, a5]
theorem SM.ke {M M' : Mem} (h : SM M M') : KE (kM M) (kM M') := by
  obtain ⟨a1, a2, a3, a4, a5, a6, a7, a8, a9⟩ := h
  exact ⟨a2, fun k _ => congrFun a3 k, fun k _ => congrFun a4 k, fun k _ => congrFun a5 k, a6, a7, a8, a9⟩
