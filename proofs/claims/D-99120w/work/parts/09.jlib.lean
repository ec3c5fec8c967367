/-! THE WORLD AS A MEMORY, AND WALKS AGAINST A PURE PROGRAM. A cell is named by three numbers (kind, which, part); its contents are a function of int32s; J says: if the pure program has an answer, the machine comes to that answer's world. -/
set_option maxRecDepth 100000
abbrev CId : Type := Nat × Nat × Nat
abbrev Mem : Type := CId → Nat → Int32
abbrev LDen : Type := Nat × Int32 × Int32 × ((Nat → Int32) → Bool)
/-- class numbers, slots, array classes, addresses, which cells there are, the strings' byte arrays -/
abbrev xG : Type := (Nat → ClassId) × (Nat → Nat → Nat) × (Nat → ClassId) × (CId → Nat) × (CId → Bool) × (Nat → Nat) × List (Nat × va_E)
abbrev gD (Γ : xG) : va_G := (Γ.1, Γ.2.1)
abbrev gA (Γ : xG) : Nat → ClassId := Γ.2.2.1
abbrev gadr (Γ : xG) : CId → Nat := Γ.2.2.2.1
abbrev gdm (Γ : xG) : CId → Bool := Γ.2.2.2.2.1
abbrev gsV (Γ : xG) : Nat → Nat := Γ.2.2.2.2.2.1
/-- what stands beside the world: addresses and what lies there -/
abbrev gP (Γ : xG) : List (Nat × va_E) := Γ.2.2.2.2.2.2
def xcl : List vw_C := [(RX1, TX1, 16), (RX2, TX2, 10), (RX3, TX3, 20), (RX4, TX4, 4), (RX5, TX5, 4), (RX6, TX6, 7), (RX7, TX7, 8), (RX8, TX8, 30), (RX9, TX9, 3), (RX10, TX10, 1), (RX11, TX11, 2), (RX12, TX12, 2), (RX13, TX13, 1), (RX15, TX15, 3), (RX16, TX16, 3)]
def xtys (Γ : xG) : List (ClassId × FieldType) := [(gA Γ 0, .int), (gA Γ 1, .byte), (gA Γ 2, .boolean), (gA Γ 3, .object RX4), (gA Γ 4, .object RX5), (gA Γ 5, .object RX14), (gA Γ 6, .object RX3), (gA Γ 7, .object "java/lang/String"), (gA Γ 8, .long)]
/-- what a cell is: an object of a class (its place in xcl), or an array (its type's place in xtys, its length) -/
def kd : CId → Nat ⊕ (Nat × Nat)
  | (0, _, 0) => .inl 2
  | (0, _, 1) => .inr (3, 6)
  | (0, _, 2) => .inr (4, 12)
  | (0, _, 3) => .inr (5, 12)
  | (0, _, 4) => .inr (0, 24)
  | (0, _, 5) => .inr (0, 13)
  | (0, _, 6) => .inr (0, 8)
  | (0, _, _) => .inr (0, 360)
  | (1, _, _) => .inl 3
  | (2, _, _) => .inl 4
  | (3, _, 0) => .inl 6
  | (3, _, 1) => .inr (0, 9)
  | (3, _, 2) => .inr (0, 16)
  | (3, _, 3) => .inr (0, 128)
  | (3, _, 4) => .inr (0, 208)
  | (3, _, _) => .inr (0, 208)
  | (4, _, 0) => .inl 0
  | (4, _, 1) => .inr (6, 12)
  | (4, _, 2) => .inr (0, 36)
  | (4, _, 3) => .inr (0, 36)
  | (4, _, 4) => .inr (0, 2)
  | (4, _, 5) => .inr (0, 2)
  | (4, _, 6) => .inr (0, 2)
  | (4, _, 7) => .inr (2, 64)
  | (4, _, 8) => .inl 1
  | (4, _, 9) => .inr (1, 400)
  | (4, _, 10) => .inr (7, 6)
  | (4, _, 11) => .inr (7, 2)
  | (4, _, 12) => .inr (5, 12)
  | (4, _, _) => .inl 5
  | (5, _, 0) => .inl 7
  | (5, _, 1) => .inr (0, 2180)
  | (5, _, 2) => .inr (0, 1331)
  | (5, _, 3) => .inr (0, 1331)
  | (5, _, 4) => .inr (0, 482)
  | (5, _, 5) => .inr (0, 5784)
  | (5, _, 6) => .inr (1, 400)
  | (5, _, 7) => .inr (0, 5)
  | (5, _, 8) => .inr (0, 400)
  | (5, _, 9) => .inr (0, 208)
  | (5, _, 10) => .inr (0, 208)
  | (5, _, 11) => .inr (0, 144)
  | (5, _, 12) => .inr (0, 8)
  | (5, _, 13) => .inr (0, 2)
  | (5, _, _) => .inr (0, 54)
  | (7, _, _) => .inr (8, 1)
  | (8, _, 0) => .inl 10
  | (8, _, _) => .inr (0, 6)
  | _ => .inl 99
/-- what a slot holds: .inl 0 an int, .inl 1 a line of the law (by its number), .inl 2 null, .inr d the cell d -/
def ly : CId → Nat → Nat ⊕ CId
  | (0, w, 0), k => if k < 7 then .inr (0, w, k + 1) else .inl 0
  | (0, w, 1), k => .inr (1, w, k)
  | (0, w, 2), k => .inr (2, w, k)
  | (0, _, 3), _ => .inl 1
  | (3, w, 0), k => if k < 5 then .inr (3, w, k + 1) else if k = 7 then .inr (4, 0, 0) else .inl 0
  | (4, _, 0), 0 => .inr (4, 0, 8)
  | (4, _, 0), 1 => .inr (0, 0, 0)
  | (4, _, 0), 2 => .inr (0, 1, 0)
  | (4, _, 0), 3 => .inr (4, 0, 1)
  | (4, _, 0), 4 => .inr (3, 0, 0)
  | (4, _, 0), 5 => .inr (3, 1, 0)
  | (4, _, 0), 6 => .inr (4, 0, 2)
  | (4, _, 0), 7 => .inr (4, 0, 3)
  | (4, _, 0), 8 => .inr (4, 0, 4)
  | (4, _, 0), 9 => .inr (4, 0, 5)
  | (4, _, 0), 10 => .inr (4, 0, 6)
  | (4, _, 0), 11 => .inr (4, 0, 7)
  | (4, _, 0), _ => .inl 0
  | (4, _, 1), k => .inr (0, k + 3, 0)
  | (4, _, 8), 0 => .inr (4, 0, 9)
  | (4, _, 8), 1 => .inr (4, 0, 10)
  | (4, _, 8), 2 => .inr (4, 0, 11)
  | (4, _, 8), 3 => .inr (4, 0, 12)
  | (4, _, 8), 4 => .inr (0, 2, 0)
  | (4, _, 8), 5 => .inr (4, 0, 13)
  | (4, _, 8), _ => .inl 0
  | (4, _, 10), k => .inr (6, 0, k)
  | (4, _, 11), k => .inr (6, 0, k + 6)
  | (4, _, 12), _ => .inl 1
  | (4, _, 13), k => if k < 5 then .inl 2 else .inl 0
  | (8, w, 0), 0 => .inr (8, w, 1)
  | (5, _, 0), 1 => .inr (5, 0, 1)
  | (5, _, 0), 2 => .inr (5, 0, 2)
  | (5, _, 0), 3 => .inr (5, 0, 3)
  | (5, _, 0), 4 => .inr (5, 0, 4)
  | (5, _, 0), 5 => .inr (5, 0, 5)
  | (5, _, 0), 8 => .inr (5, 0, 6)
  | (5, _, 0), 15 => .inr (5, 0, 7)
  | (5, _, 0), 17 => .inr (5, 0, 8)
  | (5, _, 0), 22 => .inr (5, 0, 9)
  | (5, _, 0), 23 => .inr (5, 0, 10)
  | (5, _, 0), 24 => .inr (5, 0, 11)
  | (5, _, 0), 27 => .inr (5, 0, 12)
  | (5, _, 0), 28 => .inr (5, 0, 13)
  | (5, _, 0), 29 => .inr (5, 0, 14)
  | _, _ => .inl 0
/-- x's cells; the model's cells -/
def dmX : CId → Bool
  | (0, w, i) => decide (w < 15) && decide (i < 8)
  | (1, w, i) => decide (w < 15) && decide (i < 6)
  | (2, w, i) => decide (w < 15) && decide (i < 12)
  | (3, w, i) => decide (w < 2) && decide (i < 6)
  | (4, w, i) => decide (w = 0) && decide (i < 14)
  | (7, w, i) => decide (w = 0) && decide (i = 0)
  | _ => false
def dmM : CId → Bool
  | (5, w, i) => decide (w = 0) && decide (i < 15)
  | _ => false
/-- the world holds these cells -/
def dmI (d : CId → Bool) (Γ : xG) : Prop := ∀ c, d c = true → gdm Γ c = true
def lref (aL : Nat → Nat) (v : Int32) : Option Nat := if v = 0 then none else some (aL (v.toNatClampNeg - 1))
def vl (Γ : xG) (aL : Nat → Nat) (f : Nat → Int32) (c : CId) (k : Nat) : Value := match ly c k with
  | .inl 0 => .int (f k)
  | .inl 1 => va_rf (lref aL (f k))
  | .inl _ => .null
  | .inr d => .ref (gadr Γ d)
def vq (Γ : xG) (aL : Nat → Nat) (f : Nat → Int32) (c : CId) (k : Nat) : Option Nat := match ly c k with
  | .inl 1 => lref aL (f k)
  | .inl _ => none
  | .inr d => some (gadr Γ d)
def fN (ci : Nat) : Nat := match xcl[ci]? with
  | some q => q.2.2
  | none => 0
def cellE (Γ : xG) (aL : Nat → Nat) (f : Nat → Int32) (c : CId) : va_E := match kd c with
  | .inl ci => .inr (ci, (List.range (fN ci)).map (vl Γ aL f c))
  | .inr (0, n) => .inl (gA Γ 0, n, .inl f)
  | .inr (1, n) => .inl (gA Γ 1, n, .inl f)
  | .inr (2, n) => .inl (gA Γ 2, n, .inl f)
  | .inr (8, n) => .inl (gA Γ 8, n, .inr (.inl fun j => (f j).toInt64))
  | .inr (t, n) => .inl (gA Γ t, n, .inr (.inr (.inr (.inr (vq Γ aL f c)))))
def up (M : Mem) (c : CId) (k : Nat) (v : Int32) : Mem := fun c' => if c' = c then (fun j => if j = k then v else M c j) else M c'
/-- not one of the world's cells -/
def nW (Γ : xG) (a : Nat) : Prop := ∀ c, gdm Γ c = true → gadr Γ c ≠ a
/-- nor one of those that lie beside it -/
def nX (Γ : xG) (a : Nat) : Prop := nW Γ a ∧ ∀ z ∈ gP Γ, z.1 ≠ a
def AX (Γ : xG) (sz : Nat) : Nat → Prop := fun q => (∃ c, gdm Γ c = true ∧ gadr Γ c = q) ∨ sz ≤ q
def sumv (t : Nat → Int32) (n : Int32) (F : Nat → Int32) : Int32 := n + t 0 * F 0 + t 1 * F 1 + t 2 * F 2 + t 3 * F 3 + t 4 * F 4 + t 5 * F 5
/-- the sum object at a -/
def SumAt (Γ : xG) (a : Nat) (t : Nat → Int32) (n : Int32) (H : Heap) : Prop := ∃ b : Nat, nX Γ a ∧ nX Γ b ∧ va_at (gD Γ) xcl (a, .inr (10, [.ref b, .int n])) H ∧ va_at (gD Γ) xcl (b, .inl (gA Γ 0, 6, .inl t)) H
abbrev Den : Type := (Nat → Int32) → Bool
def CTag (Γ : xG) (a : Nat) (f : Den) (H : Heap) : Prop := ∃ k : Nat, k < 8 ∧ nX Γ a ∧ va_at (gD Γ) xcl (a, .inr (9, [.int (nI k)])) H ∧ f = fun F => !decide (F k = 0)
def CNot (Γ : xG) (sub : Nat → Den → Prop) (a : Nat) (f : Den) (H : Heap) : Prop := ∃ (b : Nat) (g : Den), nX Γ a ∧ va_at (gD Γ) xcl (a, .inr (12, [.ref b])) H ∧ sub b g ∧ f = fun F => !(g F)
def CLess (Γ : xG) (a : Nat) (f : Den) (H : Heap) : Prop := ∃ (b1 b2 : Nat) (t1 t2 : Nat → Int32) (n1 n2 : Int32), nX Γ a ∧ va_at (gD Γ) xcl (a, .inr (11, [.ref b1, .ref b2])) H ∧ SumAt Γ b1 t1 n1 H ∧ SumAt Γ b2 t2 n2 H ∧ f = fun F => decide (sumv t1 n1 F < sumv t2 n2 F)
/-- the cells of a chain: address, its condition, what that says -/
def ChL (Γ : xG) (sub : Nat → Den → Prop) (al : Bool) (L : List (Nat × Nat × Den)) (H : Heap) : Prop := ∀ (i : Nat) (q : Nat × Nat × Den), L[i]? = some q → nX Γ q.1 ∧ va_at (gD Γ) xcl (q.1, .inr (8, [.ref q.2.1, .int (if al then 1 else 0), va_rf ((L[i + 1]?).map (·.1))])) H ∧ sub q.2.1 q.2.2
def chv (al : Bool) (L : List (Nat × Nat × Den)) (F : Nat → Int32) : Bool := if al then L.all (fun q => q.2.2 F) else L.any (fun q => q.2.2 F)
def CChain (Γ : xG) (sub : Nat → Den → Prop) (a : Nat) (f : Den) (H : Heap) : Prop := ∃ (al : Bool) (L : List (Nat × Nat × Den)), (L[0]?).map (·.1) = some a ∧ ChL Γ sub al L H ∧ f = fun F => chv al L F
/-- the condition at a, of depth d at most, says f of the facts -/
def CondN (Γ : xG) : Nat → Nat → Den → Heap → Prop
  | 0, _, _, _ => False
  | d + 1, a, f, H => CTag Γ a f H ∨ CNot Γ (fun b g => CondN Γ d b g H) a f H ∨ CLess Γ a f H ∨ CChain Γ (fun b g => CondN Γ d b g H) a f H
/-- the line of the law at a -/
def LnAt (Γ : xG) (a : Nat) (d : LDen) (H : Heap) : Prop := nX Γ a ∧ ∃ b : Option Nat, va_at (gD Γ) xcl (a, .inr (if d.1 = 0 then 13 else 14, [.int d.2.2.1, va_rf b, .int d.2.1])) H ∧
  ((b = none ∧ d.2.2.2 = fun _ => true) ∨ ∃ q : Nat, b = some q ∧ CondN Γ 30 q d.2.2.2 H)
/-- the lines stand, apart from the world and from what lies beside it -/
def LnS (Γ : xG) (aL : Nat → Nat) (D : List LDen) (H : Heap) : Prop := ∀ (i : Nat) (d : LDen), D[i]? = some d → LnAt Γ (aL i) d H
def WdA (Γ : xG) (aL : Nat → Nat) (M : Mem) (D : List LDen) (H : Heap) : Prop := (∀ c, gdm Γ c = true → va_at (gD Γ) xcl (gadr Γ c, cellE Γ aL (M c) c) H) ∧ LnS Γ aL D H ∧ ∀ q ∈ gP Γ, nW Γ q.1 ∧ va_at (gD Γ) xcl q H
def Wd (Γ : xG) (M : Mem) (D : List LDen) (H : Heap) : Prop := ∃ aL, WdA Γ aL M D H
/-- the addresses are apart -/
def GOK (Γ : xG) : Prop := ∀ c d, gdm Γ c = true → gdm Γ d = true → gadr Γ c = gadr Γ d → c = d
theorem up_self (M : Mem) (c : CId) (k : Nat) (v : Int32) : up M c k v c = fun j => if j = k then v else M c j := by simp [up]
theorem up_ne {M : Mem} {c c' : CId} (h : c' ≠ c) (k : Nat) (v : Int32) : up M c k v c' = M c' := by simp [up, h]
theorem va_at_lt {D : va_G} {cl : List vw_C} {a : Nat} {e : va_E} {H : Heap} (h : va_at D cl (a, e) H) : a < H.size := va_at.lt h
theorem SumAt.kept {Γ : xG} {a : Nat} {t : Nat → Int32} {n : Int32} {H H1 : Heap} (h : SumAt Γ a t n H) (hq : ∀ q : Nat, q < H.size → nX Γ q → H1[q]? = H[q]?) : SumAt Γ a t n H1 := by
  obtain ⟨b, h1, h2, h3, h4⟩ := h
  exact ⟨b, h1, h2, h3.kept (hq _ (va_at_lt h3) h1), h4.kept (hq _ (va_at_lt h4) h2)⟩
theorem CTag.kept {Γ : xG} {a : Nat} {f : Den} {H H1 : Heap} (h : CTag Γ a f H) (hq : ∀ q : Nat, q < H.size → nX Γ q → H1[q]? = H[q]?) : CTag Γ a f H1 := by
  obtain ⟨k, h1, h2, h3, h4⟩ := h
  exact ⟨k, h1, h2, h3.kept (hq _ (va_at_lt h3) h2), h4⟩
theorem CNot.kept {Γ : xG} {sub sub1 : Nat → Den → Prop} {a : Nat} {f : Den} {H H1 : Heap} (h : CNot Γ sub a f H) (hs : ∀ b g, sub b g → sub1 b g) (hq : ∀ q : Nat, q < H.size → nX Γ q → H1[q]? = H[q]?) : CNot Γ sub1 a f H1 := by
  obtain ⟨b, g, h2, h3, h4, h5⟩ := h
  exact ⟨b, g, h2, h3.kept (hq _ (va_at_lt h3) h2), hs _ _ h4, h5⟩
theorem CLess.kept {Γ : xG} {a : Nat} {f : Den} {H H1 : Heap} (h : CLess Γ a f H) (hq : ∀ q : Nat, q < H.size → nX Γ q → H1[q]? = H[q]?) : CLess Γ a f H1 := by
  obtain ⟨b1, b2, t1, t2, n1, n2, h2, h3, h4, h5, h6⟩ := h
  exact ⟨b1, b2, t1, t2, n1, n2, h2, h3.kept (hq _ (va_at_lt h3) h2), h4.kept hq, h5.kept hq, h6⟩
theorem ChL.kept {Γ : xG} {sub sub1 : Nat → Den → Prop} {al : Bool} {L : List (Nat × Nat × Den)} {H H1 : Heap} (h : ChL Γ sub al L H) (hs : ∀ b g, sub b g → sub1 b g) (hq : ∀ q : Nat, q < H.size → nX Γ q → H1[q]? = H[q]?) : ChL Γ sub1 al L H1 := by
  intro i q hi
  obtain ⟨g1, g2, g3⟩ := h i q hi
  exact ⟨g1, g2.kept (hq _ (va_at_lt g2) g1), hs _ _ g3⟩
theorem CChain.kept {Γ : xG} {sub sub1 : Nat → Den → Prop} {a : Nat} {f : Den} {H H1 : Heap} (h : CChain Γ sub a f H) (hs : ∀ b g, sub b g → sub1 b g) (hq : ∀ q : Nat, q < H.size → nX Γ q → H1[q]? = H[q]?) : CChain Γ sub1 a f H1 := by
  obtain ⟨al, L, h1, h2, h3⟩ := h
  exact ⟨al, L, h1, h2.kept hs hq, h3⟩
theorem CondN.kept {Γ : xG} {H H1 : Heap} (hq : ∀ q : Nat, q < H.size → nX Γ q → H1[q]? = H[q]?) : ∀ (d a : Nat) (f : Den), CondN Γ d a f H → CondN Γ d a f H1 := by
  intro d
  induction d with
  | zero => intro a f h; exact h
  | succ d ih =>
    intro a f h
    rcases h with h | h | h | h
    · exact Or.inl (h.kept hq)
    · exact Or.inr (Or.inl (h.kept ih hq))
    · exact Or.inr (Or.inr (Or.inl (h.kept hq)))
    · exact Or.inr (Or.inr (Or.inr (h.kept ih hq)))
theorem LnAt.kept {Γ : xG} {a : Nat} {d : LDen} {H H1 : Heap} (h : LnAt Γ a d H) (hq : ∀ q : Nat, q < H.size → nX Γ q → H1[q]? = H[q]?) : LnAt Γ a d H1 := by
  obtain ⟨h1, b, h2, h3⟩ := h
  refine ⟨h1, b, h2.kept (hq _ (va_at_lt h2) h1), ?_⟩
  rcases h3 with h3 | ⟨q, h3, h4⟩
  · exact Or.inl h3
  · exact Or.inr ⟨q, h3, CondN.kept hq _ _ _ h4⟩
theorem hsz_le {H H1 : Heap} (hq : ∀ q : Nat, q < H.size → H1[q]? = H[q]?) : H.size ≤ H1.size := by
  rcases Nat.lt_or_ge H1.size H.size with h | h
  · have h1 := hq _ h
    rw [Array.getElem?_eq_none (Nat.le_refl _), Array.getElem?_eq_getElem h] at h1
    cases h1
  · exact h
theorem hsz {H H1 : Heap} {a : Nat} (h : a < H.size) (h1 : a < H1.size) (oq : ∀ q : Nat, q ≠ a → H1[q]? = H[q]?) : H.size ≤ H1.size := by
  rcases Nat.lt_or_ge H1.size H.size with g | g
  · have g1 := oq H1.size (by omega)
    rw [Array.getElem?_eq_none (Nat.le_refl _), Array.getElem?_eq_getElem g] at g1
    cases g1
  · exact g
theorem LnS.kept {Γ : xG} {aL : Nat → Nat} {D : List LDen} {H H1 : Heap} (h : LnS Γ aL D H) (hq : ∀ q : Nat, q < H.size → nX Γ q → H1[q]? = H[q]?) : LnS Γ aL D H1 := fun i d hd => (h i d hd).kept hq
theorem LnS.line {Γ : xG} {aL : Nat → Nat} {D : List LDen} {H : Heap} (h : LnS Γ aL D H) {i : Nat} {d : LDen} (hd : D[i]? = some d) : LnAt Γ (aL i) d H := h i d hd
/-- a store into the world's cell c -/
theorem WdA.set {Γ : xG} {aL : Nat → Nat} {M : Mem} {D : List LDen} {H H1 : Heap} (hG : GOK Γ) (h : WdA Γ aL M D H) {c : CId} (hc : gdm Γ c = true) {f : Nat → Int32} (he : va_at (gD Γ) xcl (gadr Γ c, cellE Γ aL f c) H1) (oq : ∀ q : Nat, q ≠ gadr Γ c → H1[q]? = H[q]?) : WdA Γ aL (fun c' => if c' = c then f else M c') D H1 := by
  refine ⟨fun c' hc' => ?_, h.2.1.kept (fun q _ hn => oq q (fun z => hn.1 c hc z.symm)), fun q hq => ⟨(h.2.2 q hq).1, (h.2.2 q hq).2.kept (oq _ (fun z => (h.2.2 q hq).1 c hc z.symm))⟩⟩
  by_cases hcc : c' = c
  · subst hcc
    simpa using he
  · simp only [hcc, if_false]
    exact (h.1 c' hc').kept (oq _ (fun z => hcc (hG c' c hc' hc z)))
/-- the world stands where nothing of it was touched -/
theorem Wd.kept {Γ : xG} {M : Mem} {D : List LDen} {H H1 : Heap} (h : Wd Γ M D H) (hq : ∀ q : Nat, q < H.size → H1[q]? = H[q]?) : Wd Γ M D H1 := by
  obtain ⟨aL, h1, h2, h3⟩ := h
  exact ⟨aL, fun c hc => (h1 c hc).kept (hq _ (va_at_lt (h1 c hc))), h2.kept (fun q hl _ => hq q hl), fun q hq' => ⟨(h3 q hq').1, (h3 q hq').2.kept (hq _ (va_at_lt (h3 q hq').2))⟩⟩
theorem vpV_range (g : Nat → Value) {N j : Nat} (hj : j < N) : vp_V ((List.range N).map g) j = g j := by
  simp [vp_V, hj]
theorem kd_obj {Γ : xG} {aL : Nat → Nat} {f : Nat → Int32} {c : CId} {ci : Nat} (h : kd c = .inl ci) : cellE Γ aL f c = .inr (ci, (List.range (fN ci)).map (vl Γ aL f c)) := by
  unfold cellE
  rw [h]
