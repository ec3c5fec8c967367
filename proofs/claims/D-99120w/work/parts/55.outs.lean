set_option maxRecDepth 100000
/-! the array of one long that the law's methods answer into -/
theorem dmO {Γ : xG} (hG : dmI dmX Γ) : gdm Γ (7, 0, 0) = true := hG _ rfl
section
variable {ρ : Type} {X : JX} {Z : ρ → State → Prop} {pc : Nat} {lv : List (Nat × Value)} {rest : List Value} {M : Mem} {k n : Nat} {cc : ByteArray} {own : String} {ret : Option FieldType} {fr lc mc ms : Nat}
theorem j_last (hC : JC X cc own ret fr lc mc ms) {c : CId} {L : Nat} {i x : Int32} {pr' : Option ρ} (hdm : gdm (XG X) c = true) (hk : kd c = .inr (8, L)) (hd : decode cc pc = .ok (.lastore, 1)) (kk : vp_in i L → J X Z pr' (pc + 1) lv rest (up M c i.toNatClampNeg x) k n) : J X Z (gd i L pr') pc lv (.long x.toInt64 :: .int i :: .ref (gadr (XG X) c) :: rest) M k n := by
  obtain ⟨p, l, e, R, s, m, args, below, meth, co, Γ, D, nL⟩ := X
  intro r hr H locs ls hW hS hl
  by_cases hin : i < 0 ∨ L ≤ i.toNatClampNeg
  · rw [gd, if_pos hin] at hr; cases hr
  rw [gd, if_neg hin] at hr
  obtain ⟨aL, hW1, hW2⟩ := id hW
  have h1 := hW1 c hdm
  unfold cellE at h1
  rw [hk] at h1
  have h1 : H[gadr Γ c]? = some (vp_cell (gA Γ 8) (L, .inr (.inl fun j => (M c j).toInt64))) := h1
  have hK := hC.2.2.2.2.2.1.1
  have hcA : AX Γ s.heap.size (gadr Γ c) := Or.inl ⟨c, hdm, rfl⟩
  refine W.last hC.1 hC.2.1 h1 ((hK.2 8 _ rfl).1 L (fun j => .long (M c j).toInt64)) (fun q => by cases q) (by show ¬ (i < 0 ∨ (arrV _ _ _).slots.size ≤ _); rw [arrV_size]; exact hin) rfl rfl hd fun H1 e1 e2 e3 => ?_
  refine kk hin r hr H1 _ ls ⟨aL, WdA.set hC.2.2.2.2.2.2.1 ⟨hW1, hW2⟩ hdm (f := fun j => if j = i.toNatClampNeg then x else M c j) ?_ e3⟩ (hS.put e2 e3 hcA) hl
  unfold cellE
  rw [hk]
  show H1[gadr Γ c]? = some (vp_cell _ _)
  rw [e1, vp_cell_l, vp_cell_l, arrV_store]
  congr 2
  funext q
  by_cases hq : q = i.toNatClampNeg
  · subst hq
    simp [updV]
  · simp [updV, hq]
end
