set_option maxRecDepth 100000
/-- 'throw wrong': the one Wrong, a cell of the memory -/
theorem j_athrowW {X : JX} {fc : Int32 → Option Value} {pc : Nat} {lv : List (Nat × Value)} {rest : List Value} {M : Mem} {k n : Nat} {cc : ByteArray} {own : String} {ret : Option FieldType} {fr lc mc ms : Nat} (hC : JC X cc own ret fr lc mc ms) (hT : JT X) (hG : dmI dmX (XG X)) {v : Int32} (hk : Nat.ble k mc = true) (hn : Nat.ble n ms = true) (hd : decode cc pc = .ok (.athrow, 1)) : J X (ZT X fc mc ms) (some (6, v, M)) pc lv (.ref (gadr (XG X) (4, 0, 13)) :: rest) M k n := by
  obtain ⟨p, l, e, R, s, m, args, below, meth, co, Γ, D, nL⟩ := X
  intro r hr H locs ls hW hS hl
  cases hr
  have hK := hC.2.2.2.2.2.1.1
  obtain ⟨aL, hW1, -⟩ := id hW
  have h1 := hW1 (4, 0, 13) (dmY hG rfl)
  rw [kd_obj (ci := 5) rfl] at h1
  obtain ⟨r9, hr9, cell, q1, q2, q3, q4⟩ := h1
  have hfc := (hK.1 5 (RX6, TX6, 7) rfl).2.1
  exact vx_athrow hC.1 hC.2.1 hd (vx_out (E := RX6) (fun x hx => (hT.1 x hx).elim) hC.2.2.2.2.2.2.2.2.2 q1 q3 (by rw [q2]; exact hfc) (fun t ht _ => ⟨(fun h => absurd (show (6 : Nat) = 0 from h) (by decide)), rfl, fun _ => rfl, by rw [ht]; exact hW, hS.F ht⟩) hS.2.2 (Nat.le_of_ble_eq_true hk) (Nat.le_of_ble_eq_true hn))
