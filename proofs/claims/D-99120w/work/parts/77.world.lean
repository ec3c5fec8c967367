set_option maxRecDepth 100000
/-! the world out of the constructors' cells -/
/-- where all cells lie: x's own, its Reader's, its States' and Ways', the model's, the array of one long -/
abbrev AG : Type := Nat × (Nat → Nat) × (Nat → Nat) × (Nat → Nat) × (Nat → Nat → Nat) × (Nat → Nat → Nat) × Nat × (Nat → Nat) × Nat
def aFa (g : AG) : Nat := g.1
def aD (g : AG) : Nat → Nat := g.2.1
def aR (g : AG) : Nat → Nat := g.2.2.1
def aE (g : AG) : Nat → Nat := g.2.2.2.1
def aSd (g : AG) : Nat → Nat → Nat := g.2.2.2.2.1
def aWd (g : AG) : Nat → Nat → Nat := g.2.2.2.2.2.1
def aMa (g : AG) : Nat := g.2.2.2.2.2.2.1
def aMd (g : AG) : Nat → Nat := g.2.2.2.2.2.2.2.1
def aO (g : AG) : Nat := g.2.2.2.2.2.2.2.2
/-- of a State: itself, its own -/
def sA (g : AG) (s : Nat) : Nat := if s = 0 then aD g 1 else if s = 1 then aD g 2 else if s = 2 then aR g 4 else aD g (s + 9)
def sD (g : AG) (s : Nat) : Nat → Nat := if s = 0 then aSd g 0 else if s = 1 then aSd g 1 else if s = 2 then aE g else aSd g (s - 1)
def wAdr (Γ : xG) (g : AG) : CId → Nat
  | (0, s, 0) => sA g s
  | (0, s, i + 1) => sD g s i
  | (1, s, b) => sD g s (7 + b)
  | (2, s, m) => sD g s (13 + m)
  | (3, w, 0) => aD g (4 + w)
  | (3, w, i + 1) => aWd g w i
  | (4, _, 0) => aFa g
  | (4, _, 1) => aD g 3
  | (4, _, 2) => aD g 6
  | (4, _, 3) => aD g 7
  | (4, _, 4) => aD g 8
  | (4, _, 5) => aD g 9
  | (4, _, 6) => aD g 10
  | (4, _, 7) => aD g 11
  | (4, _, 8) => aD g 0
  | (4, _, 9) => aR g 0
  | (4, _, 10) => aR g 1
  | (4, _, 11) => aR g 2
  | (4, _, 12) => aR g 3
  | (4, _, 13) => aR g 5
  | (5, _, 0) => aMa g
  | (5, _, i + 1) => aMd g i
  | (6, w, i) => gadr Γ (6, w, i)
  | (7, _, _) => aO g
  | _ => 0
abbrev G1 (Γ : xG) (g : AG) : xG := (Γ.1, Γ.2.1, Γ.2.2.1, wAdr Γ g, (fun c => dmX c || dmM c), Γ.2.2.2.2.2.1, [])
/-- the memory at the start -/
def M0 : Mem := fun c => match c with
  | (0, _, 0) => fun k => if k = 10 then -1 else if k = 12 then 7 else if k = 13 then 8 else if k = 14 then 5 else if k = 15 then 9 else if k = 16 then 12 else if k = 18 then 1 else 0
  | (4, _, 0) => fun k => if k = 12 then -1 else 0
  | (5, _, 0) => fun k => if k = 14 then -1 else 0
  | (5, _, 1) => upd (upd (upd (upd (upd (upd (fun _ => 0) 6 12) 7 7) 8 8) 9 5) 10 9) 12 1
  | _ => fun _ => 0
def stc (s : Nat) : List CId := [(0, s, 0), (0, s, 1), (0, s, 2), (0, s, 3), (0, s, 4), (0, s, 5), (0, s, 6), (0, s, 7), (1, s, 0), (1, s, 1), (1, s, 2), (1, s, 3), (1, s, 4), (1, s, 5), (2, s, 0), (2, s, 1), (2, s, 2), (2, s, 3), (2, s, 4), (2, s, 5), (2, s, 6), (2, s, 7), (2, s, 8), (2, s, 9), (2, s, 10), (2, s, 11)]
def wyc (w : Nat) : List CId := [(3, w, 0), (3, w, 1), (3, w, 2), (3, w, 3), (3, w, 4), (3, w, 5)]
def rdc : List CId := [(4, 0, 8), (4, 0, 9), (4, 0, 10), (4, 0, 11), (4, 0, 12), (4, 0, 13)]
def fyc : List CId := [(4, 0, 0), (4, 0, 1), (4, 0, 2), (4, 0, 3), (4, 0, 4), (4, 0, 5), (4, 0, 6), (4, 0, 7)]
def moc : List CId := [(5, 0, 0), (5, 0, 1), (5, 0, 2), (5, 0, 3), (5, 0, 4), (5, 0, 5), (5, 0, 6), (5, 0, 7), (5, 0, 8), (5, 0, 9), (5, 0, 10), (5, 0, 11), (5, 0, 12), (5, 0, 13), (5, 0, 14)]
def fyC : List CId := fyc ++ (((((((((((((((((([] ++ (rdc ++ ([] ++ stc 2))) ++ stc 0) ++ stc 1) ++ wyc 0) ++ wyc 1) ++ stc 3) ++ stc 4) ++ stc 5) ++ stc 6) ++ stc 7) ++ stc 8) ++ stc 9) ++ stc 10) ++ stc 11) ++ stc 12) ++ stc 13) ++ stc 14))
abbrev ent (Γ : xG) (g : AG) (c : CId) : Nat × va_E := (gadr (G1 Γ g) c, cellE (G1 Γ g) (fun _ => 0) (M0 c) c)
section
variable {Γ : xG} {g : AG}
theorem m_stc (s : Nat) : stL Γ (sA g s) (sD g s) = (stc s).map (ent Γ g) := rfl
theorem m_wyc (w : Nat) : wyL Γ (aFa g) (aD g (4 + w)) (aWd g w) = (wyc w).map (ent Γ g) := rfl
theorem m_moc : moL Γ (aMa g) (aMd g) = moc.map (ent Γ g) := rfl
theorem m_rdc : rdL Γ (aD g 0) (aR g) (aE g) = (rdc ++ ([] ++ stc 2)).map (ent Γ g) := by
  rw [List.map_append, List.map_append]
  show rdL Γ (aD g 0) (aR g) (aE g) = rdc.map (ent Γ g) ++ ([] ++ (stc 2).map (ent Γ g))
  rw [← m_stc 2]
  rfl
theorem m_acts : (fun j => some (aD g (12 + j))) = (fun j => some (sA g (j + 3))) := by
  funext j
  unfold sA
  rw [if_neg (by omega), if_neg (by omega), if_neg (by omega), show j + 3 + 9 = 12 + j by omega]
theorem m_fyC : fyL Γ (aFa g) (aD g) (aR g) (aE g) (aSd g) (aWd g) = fyC.map (ent Γ g) := by
  unfold fyC
  simp only [List.map_append]
  rw [← m_stc 0, ← m_stc 1, ← m_stc 3, ← m_stc 4, ← m_stc 5, ← m_stc 6, ← m_stc 7, ← m_stc 8, ← m_stc 9, ← m_stc 10, ← m_stc 11, ← m_stc 12, ← m_stc 13, ← m_stc 14, ← m_wyc 0, ← m_wyc 1]
  have hr := m_rdc (Γ := Γ) (g := g)
  rw [List.map_append, List.map_append] at hr
  rw [← hr]
  unfold fyL
  rw [m_acts]
  rfl
end
def allC : List CId := [(7, 0, 0)] ++ (moc ++ fyC)
theorem allC_0 : ∀ w, w < 15 → ∀ i, i < 8 → ((0, w, i) : CId) ∈ allC := by decide +kernel
theorem allC_1 : ∀ w, w < 15 → ∀ i, i < 6 → ((1, w, i) : CId) ∈ allC := by decide +kernel
theorem allC_2 : ∀ w, w < 15 → ∀ i, i < 12 → ((2, w, i) : CId) ∈ allC := by decide +kernel
theorem allC_3 : ∀ w, w < 2 → ∀ i, i < 6 → ((3, w, i) : CId) ∈ allC := by decide +kernel
theorem allC_4 : ∀ i, i < 14 → ((4, 0, i) : CId) ∈ allC := by decide +kernel
theorem allC_5 : ∀ i, i < 15 → ((5, 0, i) : CId) ∈ allC := by decide +kernel
theorem allC_7 : ((7, 0, 0) : CId) ∈ allC := by decide +kernel
theorem allC_mem {c : CId} (h : (dmX c || dmM c) = true) : c ∈ allC := by
  obtain ⟨k, w, i⟩ := c
  match k, h with
  | 0, h => simp [dmX, dmM] at h; exact allC_0 w h.1 i h.2
  | 1, h => simp [dmX, dmM] at h; exact allC_1 w h.1 i h.2
  | 2, h => simp [dmX, dmM] at h; exact allC_2 w h.1 i h.2
  | 3, h => simp [dmX, dmM] at h; exact allC_3 w h.1 i h.2
  | 4, h => simp [dmX, dmM] at h; rw [h.1]; exact allC_4 i h.2
  | 5, h => simp [dmX, dmM] at h; rw [h.1]; exact allC_5 i h.2
  | 6, h => simp [dmX, dmM] at h
  | 7, h => simp [dmX, dmM] at h; rw [h.1, h.2]; exact allC_7
  | k + 8, h => simp [dmX, dmM] at h
theorem Wd_start {Γ : xG} {g : AG} {A : Nat → Prop} {H : Heap} (hP : va_P (gD Γ) xcl ([(aO g, .inl (gA Γ 8, 1, .inr (.inl fun _ => 0)))] ++ (moL Γ (aMa g) (aMd g) ++ fyL Γ (aFa g) (aD g) (aR g) (aE g) (aSd g) (aWd g))) H) (hD : va_D A ([(aO g, .inl (gA Γ 8, 1, .inr (.inl fun _ => 0)))] ++ (moL Γ (aMa g) (aMd g) ++ fyL Γ (aFa g) (aD g) (aR g) (aE g) (aSd g) (aWd g)))) : Wd (G1 Γ g) M0 [] H ∧ GOK (G1 Γ g) ∧ ∀ c, gdm (G1 Γ g) c = true → A (gadr (G1 Γ g) c) := by
  have e : ([(aO g, .inl (gA Γ 8, 1, .inr (.inl fun _ => 0)))] : va_W) ++ (moL Γ (aMa g) (aMd g) ++ fyL Γ (aFa g) (aD g) (aR g) (aE g) (aSd g) (aWd g)) = allC.map (ent Γ g) := by
    unfold allC
    rw [List.map_append, List.map_append, m_moc, m_fyC]
    rfl
  rw [e] at hP hD
  have h1 := vaP_mem.mp hP
  obtain ⟨h2, h3⟩ := vaD_iff.mp hD
  refine ⟨⟨fun _ => 0, fun c hc => h1 _ (List.mem_map_of_mem (allC_mem hc)), fun i d hd => by simp at hd, fun q hq => by cases hq⟩, fun c d hc hd he => ?_, fun c hc => h3 _ (List.mem_map_of_mem (allC_mem hc))⟩
  obtain ⟨i, hi⟩ := List.mem_iff_getElem?.mp (allC_mem hc)
  obtain ⟨j, hj⟩ := List.mem_iff_getElem?.mp (allC_mem hd)
  have hij := hD.1 i j (ent Γ g c) (ent Γ g d) (by rw [List.getElem?_map, hi]; rfl) (by rw [List.getElem?_map, hj]; rfl) he
  subst hij
  exact Option.some.inj (hi.symm.trans hj)
