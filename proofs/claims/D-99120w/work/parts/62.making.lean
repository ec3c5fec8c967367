set_option maxRecDepth 100000
/-! the Sum in the making, as cells of the world -/
theorem ly_no8 {c : CId} {k i : Nat} (hc : c ≠ (8, 0, 0)) : ly c k ≠ .inr (8, 0, i) := by
  unfold ly
  split <;> (try split) <;> (try split) <;> intro h <;> first | (cases h; done) | (cases h; exact hc rfl)
def dm8 : CId → Bool
  | (8, w, i) => decide (w = 0) && decide (i < 2)
  | _ => false
abbrev gS (a b : Nat) (Γ : xG) : xG := (Γ.1, Γ.2.1, Γ.2.2.1, (fun c => if c = (8, 0, 0) then a else if c = (8, 0, 1) then b else gadr Γ c), (fun c => gdm Γ c || dm8 c), Γ.2.2.2.2.2.1, gP Γ)
theorem dm8_iff {c : CId} : dm8 c = true ↔ c = (8, 0, 0) ∨ c = (8, 0, 1) := by
  obtain ⟨k, w, i⟩ := c
  unfold dm8
  split
  · rename_i w' i' e
    cases e
    simp
    omega
  · rename_i h
    constructor
    · intro h9; cases h9
    · rintro (e | e)
      · exact absurd e (h 0 0)
      · exact absurd e (h 0 1)
section
set_option maxHeartbeats 60000
theorem gS_adr {a b : Nat} {Γ : xG} {c : CId} (h1 : c ≠ (8, 0, 0)) (h2 : c ≠ (8, 0, 1)) : gadr (gS a b Γ) c = gadr Γ c := by
  show (if c = (8, 0, 0) then a else if c = (8, 0, 1) then b else gadr Γ c) = gadr Γ c
  rw [if_neg h1, if_neg h2]
theorem vl_gS {a b : Nat} {Γ : xG} (aL : Nat → Nat) (f : Nat → Int32) {c : CId} (hc : c ≠ (8, 0, 0)) (k : Nat) : vl (gS a b Γ) aL f c k = vl Γ aL f c k := by
  have h0 : ∀ i, ly c k ≠ .inr (8, 0, i) := fun i => ly_no8 hc
  unfold vl
  generalize ly c k = y at h0
  rcases y with (_ | _ | _) | d
  · rfl
  · rfl
  · rfl
  · show Value.ref _ = Value.ref _
    rw [gS_adr (fun e => h0 0 (by rw [e])) (fun e => h0 1 (by rw [e]))]
theorem vq_gS {a b : Nat} {Γ : xG} (aL : Nat → Nat) (f : Nat → Int32) {c : CId} (hc : c ≠ (8, 0, 0)) (k : Nat) : vq (gS a b Γ) aL f c k = vq Γ aL f c k := by
  have h0 : ∀ i, ly c k ≠ .inr (8, 0, i) := fun i => ly_no8 hc
  unfold vq
  generalize ly c k = y at h0
  rcases y with (_ | _ | _) | d
  · rfl
  · rfl
  · rfl
  · show some _ = some _
    rw [gS_adr (fun e => h0 0 (by rw [e])) (fun e => h0 1 (by rw [e]))]
theorem cellE_gS {a b : Nat} {Γ : xG} (aL : Nat → Nat) (f : Nat → Int32) {c : CId} (hc : c ≠ (8, 0, 0)) : cellE (gS a b Γ) aL f c = cellE Γ aL f c := by
  have h1 : vl (gS a b Γ) aL f c = vl Γ aL f c := funext (vl_gS aL f hc)
  have h2 : vq (gS a b Γ) aL f c = vq Γ aL f c := funext (vq_gS aL f hc)
  unfold cellE
  rw [h1, h2]
end
