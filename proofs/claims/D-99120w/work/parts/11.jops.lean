set_option maxRecDepth 100000
section JROWS
variable {ρ : Type} {X : JX} {Z : ρ → State → Prop} {pr : Option ρ} {pc : Nat} {lv : List (Nat × Value)} {rest : List Value} {M : Mem} {k n : Nat} {cc : ByteArray} {own : String} {ret : Option FieldType} {fr lc mc ms : Nat}
theorem j_iconst (hC : JC X cc own ret fr lc mc ms) {v : Int32} {z : Int} (hd : decode cc pc = .ok (.iconst z, 1)) (hv : Int32.ofInt z = v) (kk : J X Z pr (pc + 1) lv (.int v :: rest) M k n) : J X Z pr pc lv (rest) M k n := by
  obtain ⟨p, l, e, R, s, m, args, below, meth, co, Γ, D, nL⟩ := X
  intro r hr H locs ls hW hS hl
  exact lv_iconst hC.1 hC.2.1 hd hv (kk r hr H locs ls hW hS hl)
theorem j_bipush (hC : JC X cc own ret fr lc mc ms) {v : Int32} {z : Int} (hd : decode cc pc = .ok (.bipush z, 2)) (hv : (Int8.ofInt z).toInt32 = v) (kk : J X Z pr (pc + 2) lv (.int v :: rest) M k n) : J X Z pr pc lv (rest) M k n := by
  obtain ⟨p, l, e, R, s, m, args, below, meth, co, Γ, D, nL⟩ := X
  intro r hr H locs ls hW hS hl
  exact lv_bipush hC.1 hC.2.1 hd hv (kk r hr H locs ls hW hS hl)
theorem j_sipush (hC : JC X cc own ret fr lc mc ms) {v : Int32} {z : Int} (hd : decode cc pc = .ok (.sipush z, 3)) (hv : (Int16.ofInt z).toInt32 = v) (kk : J X Z pr (pc + 3) lv (.int v :: rest) M k n) : J X Z pr pc lv (rest) M k n := by
  obtain ⟨p, l, e, R, s, m, args, below, meth, co, Γ, D, nL⟩ := X
  intro r hr H locs ls hW hS hl
  exact lv_sipush hC.1 hC.2.1 hd hv (kk r hr H locs ls hW hS hl)
theorem j_ldc (hC : JC X cc own ret fr lc mc ms) {v : Int32} {idx : Nat} (hd : decode cc pc = .ok (.ldc idx, 2)) (hq : Cond.constant own idx v ∈ lw_all) (kk : J X Z pr (pc + 2) lv (.int v :: rest) M k n) : J X Z pr pc lv (rest) M k n := by
  obtain ⟨p, l, e, R, s, m, args, below, meth, co, Γ, D, nL⟩ := X
  intro r hr H locs ls hW hS hl
  exact lv_ldc hC.1 hC.2.1 hC.2.2.2.1 (hC.2.2.2.2.1 _ hq) hd (kk r hr H locs ls hW hS hl)
theorem j_ldcw (hC : JC X cc own ret fr lc mc ms) {v : Int32} {idx : Nat} (hd : decode cc pc = .ok (.ldc_w idx, 3)) (hq : Cond.constant own idx v ∈ lw_all) (kk : J X Z pr (pc + 3) lv (.int v :: rest) M k n) : J X Z pr pc lv (rest) M k n := by
  obtain ⟨p, l, e, R, s, m, args, below, meth, co, Γ, D, nL⟩ := X
  intro r hr H locs ls hW hS hl
  exact lv_ldcw hC.1 hC.2.1 hC.2.2.2.1 (hC.2.2.2.2.1 _ hq) hd (kk r hr H locs ls hW hS hl)
theorem j_ldc2 (hC : JC X cc own ret fr lc mc ms) {v : Int64} {idx : Nat} (hd : decode cc pc = .ok (.ldc2_w idx, 3)) (hq : Cond.constantLong own idx v ∈ lw_all) (kk : J X Z pr (pc + 3) lv (.long v :: rest) M k n) : J X Z pr pc lv (rest) M k n := by
  obtain ⟨p, l, e, R, s, m, args, below, meth, co, Γ, D, nL⟩ := X
  intro r hr H locs ls hW hS hl
  exact lv_ldc2 hC.1 hC.2.1 hC.2.2.2.1 (hC.2.2.2.2.1 _ hq) hd (kk r hr H locs ls hW hS hl)
theorem j_iload_n (hC : JC X cc own ret fr lc mc ms) {q : Fin 4} {x : Int32} (j : Nat) (hd : decode cc pc = .ok (.iload_n q, 1)) (hj : lv[j]? = some ((q : Nat), .int x)) (kk : J X Z pr (pc + 1) lv (.int x :: rest) M k n) : J X Z pr pc lv rest M k n := by
  obtain ⟨p, l, e, R, s, m, args, below, meth, co, Γ, D, nL⟩ := X
  intro r hr H locs ls hW hS hl
  exact lv_iload_n hC.1 hC.2.1 hd rfl (lv_at hl j hj) (kk r hr H locs ls hW hS hl)
theorem j_iload (hC : JC X cc own ret fr lc mc ms) {i : Nat} {x : Int32} (j : Nat) (hd : decode cc pc = .ok (.iload i, 2)) (hj : lv[j]? = some (i, .int x)) (kk : J X Z pr (pc + 2) lv (.int x :: rest) M k n) : J X Z pr pc lv rest M k n := by
  obtain ⟨p, l, e, R, s, m, args, below, meth, co, Γ, D, nL⟩ := X
  intro r hr H locs ls hW hS hl
  exact lv_iload hC.1 hC.2.1 hd (lv_at hl j hj) (kk r hr H locs ls hW hS hl)
theorem j_istore_n (hC : JC X cc own ret fr lc mc ms) {q : Fin 4} {x : Int32} (lv' : List (Nat × Value)) {nl : Nat} (hnl : nLof X = nl) (hd : decode cc pc = .ok (.istore_n q, 1)) (hi : Nat.ble ((q : Nat) + 1) nl = true) (hl' : ((q : Nat), Value.int x) :: lv.filter (fun z => !(z.1 == (q : Nat)) && !(z.1 + 1 == (q : Nat) && z.2.category == 2)) = lv') (kk : J X Z pr (pc + 1) lv' rest M k n) : J X Z pr pc lv (.int x :: rest) M k n := by
  obtain ⟨p, l, e, R, s, m, args, below, meth, co, Γ, D, nL⟩ := X
  intro r hr H locs ls hW hS hl
  exact lv_istore_n hC.1 hC.2.1 hd rfl hl (by have h := Nat.le_of_ble_eq_true hi; rw [← hnl] at h; exact h) hl' (fun ls' hl2 => kk r hr H locs ls' hW hS hl2)
theorem j_istore (hC : JC X cc own ret fr lc mc ms) {i : Nat} {x : Int32} (lv' : List (Nat × Value)) {nl : Nat} (hnl : nLof X = nl) (hd : decode cc pc = .ok (.istore i, 2)) (hi : Nat.ble (i + 1) nl = true) (hl' : (i, Value.int x) :: lv.filter (fun z => !(z.1 == i) && !(z.1 + 1 == i && z.2.category == 2)) = lv') (kk : J X Z pr (pc + 2) lv' rest M k n) : J X Z pr pc lv (.int x :: rest) M k n := by
  obtain ⟨p, l, e, R, s, m, args, below, meth, co, Γ, D, nL⟩ := X
  intro r hr H locs ls hW hS hl
  exact lv_istore hC.1 hC.2.1 hd hl (by have h := Nat.le_of_ble_eq_true hi; rw [← hnl] at h; exact h) hl' (fun ls' hl2 => kk r hr H locs ls' hW hS hl2)
theorem j_aload_n (hC : JC X cc own ret fr lc mc ms) {q : Fin 4} {x : Nat} (j : Nat) (hd : decode cc pc = .ok (.aload_n q, 1)) (hj : lv[j]? = some ((q : Nat), .ref x)) (kk : J X Z pr (pc + 1) lv (.ref x :: rest) M k n) : J X Z pr pc lv rest M k n := by
  obtain ⟨p, l, e, R, s, m, args, below, meth, co, Γ, D, nL⟩ := X
  intro r hr H locs ls hW hS hl
  exact lv_aload_n hC.1 hC.2.1 hd rfl (lv_at hl j hj) (kk r hr H locs ls hW hS hl)
theorem j_aload (hC : JC X cc own ret fr lc mc ms) {i : Nat} {x : Nat} (j : Nat) (hd : decode cc pc = .ok (.aload i, 2)) (hj : lv[j]? = some (i, .ref x)) (kk : J X Z pr (pc + 2) lv (.ref x :: rest) M k n) : J X Z pr pc lv rest M k n := by
  obtain ⟨p, l, e, R, s, m, args, below, meth, co, Γ, D, nL⟩ := X
  intro r hr H locs ls hW hS hl
  exact lv_aload hC.1 hC.2.1 hd (lv_at hl j hj) (kk r hr H locs ls hW hS hl)
theorem j_astore_n (hC : JC X cc own ret fr lc mc ms) {q : Fin 4} {x : Nat} (lv' : List (Nat × Value)) {nl : Nat} (hnl : nLof X = nl) (hd : decode cc pc = .ok (.astore_n q, 1)) (hi : Nat.ble ((q : Nat) + 1) nl = true) (hl' : ((q : Nat), Value.ref x) :: lv.filter (fun z => !(z.1 == (q : Nat)) && !(z.1 + 1 == (q : Nat) && z.2.category == 2)) = lv') (kk : J X Z pr (pc + 1) lv' rest M k n) : J X Z pr pc lv (.ref x :: rest) M k n := by
  obtain ⟨p, l, e, R, s, m, args, below, meth, co, Γ, D, nL⟩ := X
  intro r hr H locs ls hW hS hl
  exact lv_astore_n hC.1 hC.2.1 hd rfl hl (by have h := Nat.le_of_ble_eq_true hi; rw [← hnl] at h; exact h) hl' (fun ls' hl2 => kk r hr H locs ls' hW hS hl2)
theorem j_astore (hC : JC X cc own ret fr lc mc ms) {i : Nat} {x : Nat} (lv' : List (Nat × Value)) {nl : Nat} (hnl : nLof X = nl) (hd : decode cc pc = .ok (.astore i, 2)) (hi : Nat.ble (i + 1) nl = true) (hl' : (i, Value.ref x) :: lv.filter (fun z => !(z.1 == i) && !(z.1 + 1 == i && z.2.category == 2)) = lv') (kk : J X Z pr (pc + 2) lv' rest M k n) : J X Z pr pc lv (.ref x :: rest) M k n := by
  obtain ⟨p, l, e, R, s, m, args, below, meth, co, Γ, D, nL⟩ := X
  intro r hr H locs ls hW hS hl
  exact lv_astore hC.1 hC.2.1 hd hl (by have h := Nat.le_of_ble_eq_true hi; rw [← hnl] at h; exact h) hl' (fun ls' hl2 => kk r hr H locs ls' hW hS hl2)
theorem j_iinc (hC : JC X cc own ret fr lc mc ms) {i : Nat} {z : Int} {x v : Int32} (j : Nat) (lv' : List (Nat × Value)) {nl : Nat} (hnl : nLof X = nl) (hd : decode cc pc = .ok (.iinc i z, 3)) (hj : lv[j]? = some (i, .int x)) (hv : x + Int32.ofInt z = v) (hi : Nat.ble (i + 1) nl = true) (hl' : (i, Value.int v) :: lv.filter (fun z => !(z.1 == i) && !(z.1 + 1 == i && z.2.category == 2)) = lv') (kk : J X Z pr (pc + 3) lv' rest M k n) : J X Z pr pc lv rest M k n := by
  obtain ⟨p, l, e, R, s, m, args, below, meth, co, Γ, D, nL⟩ := X
  intro r hr H locs ls hW hS hl
  exact lv_iinc hC.1 hC.2.1 hd hl hj hv (by have h := Nat.le_of_ble_eq_true hi; rw [← hnl] at h; exact h) hl' (fun ls' hl2 => kk r hr H locs ls' hW hS hl2)
theorem j_iadd (hC : JC X cc own ret fr lc mc ms) {x y : Int32} (hd : decode cc pc = .ok (.iadd, 1))  (kk : J X Z pr (pc + 1) lv (.int (x + y) :: rest) M k n) : J X Z pr pc lv (.int y :: .int x :: rest) M k n := by
  obtain ⟨p, l, e, R, s, m, args, below, meth, co, Γ, D, nL⟩ := X
  intro r hr H locs ls hW hS hl
  exact lv_iadd hC.1 hC.2.1 hd (kk r hr H locs ls hW hS hl)
theorem j_isub (hC : JC X cc own ret fr lc mc ms) {x y : Int32} (hd : decode cc pc = .ok (.isub, 1))  (kk : J X Z pr (pc + 1) lv (.int (x - y) :: rest) M k n) : J X Z pr pc lv (.int y :: .int x :: rest) M k n := by
  obtain ⟨p, l, e, R, s, m, args, below, meth, co, Γ, D, nL⟩ := X
  intro r hr H locs ls hW hS hl
  exact lv_isub hC.1 hC.2.1 hd (kk r hr H locs ls hW hS hl)
theorem j_imul (hC : JC X cc own ret fr lc mc ms) {x y : Int32} (hd : decode cc pc = .ok (.imul, 1))  (kk : J X Z pr (pc + 1) lv (.int (x * y) :: rest) M k n) : J X Z pr pc lv (.int y :: .int x :: rest) M k n := by
  obtain ⟨p, l, e, R, s, m, args, below, meth, co, Γ, D, nL⟩ := X
  intro r hr H locs ls hW hS hl
  exact lv_imul hC.1 hC.2.1 hd (kk r hr H locs ls hW hS hl)
theorem j_iand (hC : JC X cc own ret fr lc mc ms) {x y : Int32} (hd : decode cc pc = .ok (.iand, 1))  (kk : J X Z pr (pc + 1) lv (.int (x &&& y) :: rest) M k n) : J X Z pr pc lv (.int y :: .int x :: rest) M k n := by
  obtain ⟨p, l, e, R, s, m, args, below, meth, co, Γ, D, nL⟩ := X
  intro r hr H locs ls hW hS hl
  exact lv_iand hC.1 hC.2.1 hd (kk r hr H locs ls hW hS hl)
theorem j_ior (hC : JC X cc own ret fr lc mc ms) {x y : Int32} (hd : decode cc pc = .ok (.ior, 1))  (kk : J X Z pr (pc + 1) lv (.int (x ||| y) :: rest) M k n) : J X Z pr pc lv (.int y :: .int x :: rest) M k n := by
  obtain ⟨p, l, e, R, s, m, args, below, meth, co, Γ, D, nL⟩ := X
  intro r hr H locs ls hW hS hl
  exact lv_ior hC.1 hC.2.1 hd (kk r hr H locs ls hW hS hl)
theorem j_ishl (hC : JC X cc own ret fr lc mc ms) {x y : Int32} (hd : decode cc pc = .ok (.ishl, 1))  (kk : J X Z pr (pc + 1) lv (.int (x <<< (y &&& 31)) :: rest) M k n) : J X Z pr pc lv (.int y :: .int x :: rest) M k n := by
  obtain ⟨p, l, e, R, s, m, args, below, meth, co, Γ, D, nL⟩ := X
  intro r hr H locs ls hW hS hl
  exact lv_ishl hC.1 hC.2.1 hd (kk r hr H locs ls hW hS hl)
theorem j_ishr (hC : JC X cc own ret fr lc mc ms) {x y : Int32} (hd : decode cc pc = .ok (.ishr, 1))  (kk : J X Z pr (pc + 1) lv (.int (x >>> (y &&& 31)) :: rest) M k n) : J X Z pr pc lv (.int y :: .int x :: rest) M k n := by
  obtain ⟨p, l, e, R, s, m, args, below, meth, co, Γ, D, nL⟩ := X
  intro r hr H locs ls hW hS hl
  exact lv_ishr hC.1 hC.2.1 hd (kk r hr H locs ls hW hS hl)
theorem j_ineg (hC : JC X cc own ret fr lc mc ms) {x : Int32} (hd : decode cc pc = .ok (.ineg, 1))  (kk : J X Z pr (pc + 1) lv (.int (-x) :: rest) M k n) : J X Z pr pc lv (.int x :: rest) M k n := by
  obtain ⟨p, l, e, R, s, m, args, below, meth, co, Γ, D, nL⟩ := X
  intro r hr H locs ls hW hS hl
  exact lv_ineg hC.1 hC.2.1 hd (kk r hr H locs ls hW hS hl)
theorem j_iushr (hC : JC X cc own ret fr lc mc ms) {x y v : Int32} (hd : decode cc pc = .ok (.iushr, 1)) (hv : (x.toUInt32 >>> (y.toUInt32 &&& Int32.toUInt32 31)).toInt32 = v) (kk : J X Z pr (pc + 1) lv (.int v :: rest) M k n) : J X Z pr pc lv (.int y :: .int x :: rest) M k n := by
  obtain ⟨p, l, e, R, s, m, args, below, meth, co, Γ, D, nL⟩ := X
  intro r hr H locs ls hW hS hl
  exact lv_iushr hC.1 hC.2.1 hd hv (kk r hr H locs ls hW hS hl)
theorem j_i2l (hC : JC X cc own ret fr lc mc ms) {x : Int32} (hd : decode cc pc = .ok (.i2l, 1))  (kk : J X Z pr (pc + 1) lv (.long x.toInt64 :: rest) M k n) : J X Z pr pc lv (.int x :: rest) M k n := by
  obtain ⟨p, l, e, R, s, m, args, below, meth, co, Γ, D, nL⟩ := X
  intro r hr H locs ls hW hS hl
  exact lv_i2l hC.1 hC.2.1 hd rfl (kk r hr H locs ls hW hS hl)
theorem j_l2i (hC : JC X cc own ret fr lc mc ms) {x : Int64} (hd : decode cc pc = .ok (.l2i, 1))  (kk : J X Z pr (pc + 1) lv (.int x.toInt32 :: rest) M k n) : J X Z pr pc lv (.long x :: rest) M k n := by
  obtain ⟨p, l, e, R, s, m, args, below, meth, co, Γ, D, nL⟩ := X
  intro r hr H locs ls hW hS hl
  exact lv_l2i hC.1 hC.2.1 hd rfl (kk r hr H locs ls hW hS hl)
theorem j_i2b (hC : JC X cc own ret fr lc mc ms) {x : Int32} (hd : decode cc pc = .ok (.i2b, 1))  (kk : J X Z pr (pc + 1) lv (.int x.toInt8.toInt32 :: rest) M k n) : J X Z pr pc lv (.int x :: rest) M k n := by
  obtain ⟨p, l, e, R, s, m, args, below, meth, co, Γ, D, nL⟩ := X
  intro r hr H locs ls hW hS hl
  exact lv_i2b hC.1 hC.2.1 hd rfl (kk r hr H locs ls hW hS hl)
theorem j_lmul (hC : JC X cc own ret fr lc mc ms) {x y : Int64} (hd : decode cc pc = .ok (.lmul, 1))  (kk : J X Z pr (pc + 1) lv (.long (x * y) :: rest) M k n) : J X Z pr pc lv (.long y :: .long x :: rest) M k n := by
  obtain ⟨p, l, e, R, s, m, args, below, meth, co, Γ, D, nL⟩ := X
  intro r hr H locs ls hW hS hl
  exact lv_lmul hC.1 hC.2.1 hd (kk r hr H locs ls hW hS hl)
theorem j_ldivL (hC : JC X cc own ret fr lc mc ms) {x y : Int64} (hd : decode cc pc = .ok (.ldiv, 1)) (hne : ¬ y = 0) (kk : J X Z pr (pc + 1) lv (.long (x / y) :: rest) M k n) : J X Z pr pc lv (.long y :: .long x :: rest) M k n := by
  obtain ⟨p, l, e, R, s, m, args, below, meth, co, Γ, D, nL⟩ := X
  intro r hr H locs ls hW hS hl
  exact lv_ldiv hC.1 hC.2.1 hd hne (kk r hr H locs ls hW hS hl)
theorem j_idivL (hC : JC X cc own ret fr lc mc ms) {x y : Int32} (hd : decode cc pc = .ok (.idiv, 1)) (hne : ¬ y = 0) (kk : J X Z pr (pc + 1) lv (.int (x / y) :: rest) M k n) : J X Z pr pc lv (.int y :: .int x :: rest) M k n := by
  obtain ⟨p, l, e, R, s, m, args, below, meth, co, Γ, D, nL⟩ := X
  intro r hr H locs ls hW hS hl
  exact lv_idiv hC.1 hC.2.1 hd hne (kk r hr H locs ls hW hS hl)
theorem j_idiv (hC : JC X cc own ret fr lc mc ms) {x y : Int32} (hd : decode cc pc = .ok (.idiv, 1)) (kk : J X Z pr (pc + 1) lv (.int (x / y) :: rest) M k n) : J X Z (nz y pr) pc lv (.int y :: .int x :: rest) M k n := by
  obtain ⟨p, l, e, R, s, m, args, below, meth, co, Γ, D, nL⟩ := X
  intro r hr H locs ls hW hS hl
  by_cases h0 : y = 0
  · rw [nz, if_pos h0] at hr; cases hr
  · rw [nz, if_neg h0] at hr; exact lv_idiv hC.1 hC.2.1 hd h0 (kk r hr H locs ls hW hS hl)
theorem j_iremL (hC : JC X cc own ret fr lc mc ms) {x y : Int32} (hd : decode cc pc = .ok (.irem, 1)) (hne : ¬ y = 0) (kk : J X Z pr (pc + 1) lv (.int (rm x y) :: rest) M k n) : J X Z pr pc lv (.int y :: .int x :: rest) M k n := by
  obtain ⟨p, l, e, R, s, m, args, below, meth, co, Γ, D, nL⟩ := X
  intro r hr H locs ls hW hS hl
  exact lv_irem hC.1 hC.2.1 hd hne (kk r hr H locs ls hW hS hl)
theorem j_irem (hC : JC X cc own ret fr lc mc ms) {x y : Int32} (hd : decode cc pc = .ok (.irem, 1)) (kk : J X Z pr (pc + 1) lv (.int (rm x y) :: rest) M k n) : J X Z (nz y pr) pc lv (.int y :: .int x :: rest) M k n := by
  obtain ⟨p, l, e, R, s, m, args, below, meth, co, Γ, D, nL⟩ := X
  intro r hr H locs ls hW hS hl
  by_cases h0 : y = 0
  · rw [nz, if_pos h0] at hr; cases hr
  · rw [nz, if_neg h0] at hr; exact lv_irem hC.1 hC.2.1 hd h0 (kk r hr H locs ls hW hS hl)
theorem j_dup (hC : JC X cc own ret fr lc mc ms) {v : Value} (hd : decode cc pc = .ok (.dup, 1)) (hv : v.category = 1) (kk : J X Z pr (pc + 1) lv (v :: v :: rest) M k n) : J X Z pr pc lv (v :: rest) M k n := by
  obtain ⟨p, l, e, R, s, m, args, below, meth, co, Γ, D, nL⟩ := X
  intro r hr H locs ls hW hS hl
  exact lv_dup hC.1 hC.2.1 hd hv (kk r hr H locs ls hW hS hl)
theorem j_pop (hC : JC X cc own ret fr lc mc ms) {v : Value} (hd : decode cc pc = .ok (.pop, 1)) (hv : v.category = 1) (kk : J X Z pr (pc + 1) lv (rest) M k n) : J X Z pr pc lv (v :: rest) M k n := by
  obtain ⟨p, l, e, R, s, m, args, below, meth, co, Γ, D, nL⟩ := X
  intro r hr H locs ls hW hS hl
  exact lv_pop hC.1 hC.2.1 hd hv (kk r hr H locs ls hW hS hl)
theorem j_dup2 (hC : JC X cc own ret fr lc mc ms) {v w : Value} (hd : decode cc pc = .ok (.dup2, 1)) (hv : v.category = 1) (hw : w.category = 1) (kk : J X Z pr (pc + 1) lv (v :: w :: v :: w :: rest) M k n) : J X Z pr pc lv (v :: w :: rest) M k n := by
  obtain ⟨p, l, e, R, s, m, args, below, meth, co, Γ, D, nL⟩ := X
  intro r hr H locs ls hW hS hl
  exact lv_dup2_11 hC.1 hC.2.1 hd hv hw (kk r hr H locs ls hW hS hl)
theorem j_null (hC : JC X cc own ret fr lc mc ms)  (hd : decode cc pc = .ok (.aconst_null, 1))  (kk : J X Z pr (pc + 1) lv (.null :: rest) M k n) : J X Z pr pc lv (rest) M k n := by
  obtain ⟨p, l, e, R, s, m, args, below, meth, co, Γ, D, nL⟩ := X
  intro r hr H locs ls hW hS hl
  exact lv_null hC.1 hC.2.1 hd (kk r hr H locs ls hW hS hl)
theorem j_icmp_eq (hC : JC X cc own ret fr lc mc ms) {x y : Int32} {off : Int} {tgt : Nat} {A B : Option ρ} (hd : decode cc pc = .ok (.if_icmp .eq off, 3)) (ht : (pc : Int) + off = (tgt : Int)) (kt : x = y → J X Z A tgt lv rest M k n) (kf : ¬ x = y → J X Z B (pc + 3) lv rest M k n) : J X Z (if x = y then A else B) pc lv (.int y :: .int x :: rest) M k n := by
  obtain ⟨p, l, e, R, s, m, args, below, meth, co, Γ, D, nL⟩ := X
  intro r hr H locs ls hW hS hl
  by_cases h0 : x = y
  · rw [if_pos h0] at hr; exact lv_icmp_eq hC.1 hC.2.1 hd ht (fun _ => kt h0 r hr H locs ls hW hS hl) (fun z => absurd h0 z)
  · rw [if_neg h0] at hr; exact lv_icmp_eq hC.1 hC.2.1 hd ht (fun z => absurd z h0) (fun _ => kf h0 r hr H locs ls hW hS hl)
theorem j_if_eq (hC : JC X cc own ret fr lc mc ms) {x : Int32} {off : Int} {tgt : Nat} {A B : Option ρ} (hd : decode cc pc = .ok (.ifCond .eq off, 3)) (ht : (pc : Int) + off = (tgt : Int)) (kt : x = 0 → J X Z A tgt lv rest M k n) (kf : ¬ x = 0 → J X Z B (pc + 3) lv rest M k n) : J X Z (if x = 0 then A else B) pc lv (.int x :: rest) M k n := by
  obtain ⟨p, l, e, R, s, m, args, below, meth, co, Γ, D, nL⟩ := X
  intro r hr H locs ls hW hS hl
  by_cases h0 : x = 0
  · rw [if_pos h0] at hr; exact lv_if_eq hC.1 hC.2.1 hd ht (fun _ => kt h0 r hr H locs ls hW hS hl) (fun z => absurd h0 z)
  · rw [if_neg h0] at hr; exact lv_if_eq hC.1 hC.2.1 hd ht (fun z => absurd z h0) (fun _ => kf h0 r hr H locs ls hW hS hl)
theorem j_icmp_lt (hC : JC X cc own ret fr lc mc ms) {x y : Int32} {off : Int} {tgt : Nat} {A B : Option ρ} (hd : decode cc pc = .ok (.if_icmp .lt off, 3)) (ht : (pc : Int) + off = (tgt : Int)) (kt : x < y → J X Z A tgt lv rest M k n) (kf : ¬ x < y → J X Z B (pc + 3) lv rest M k n) : J X Z (if x < y then A else B) pc lv (.int y :: .int x :: rest) M k n := by
  obtain ⟨p, l, e, R, s, m, args, below, meth, co, Γ, D, nL⟩ := X
  intro r hr H locs ls hW hS hl
  by_cases h0 : x < y
  · rw [if_pos h0] at hr; exact lv_icmp_lt hC.1 hC.2.1 hd ht (fun _ => kt h0 r hr H locs ls hW hS hl) (fun z => absurd h0 z)
  · rw [if_neg h0] at hr; exact lv_icmp_lt hC.1 hC.2.1 hd ht (fun z => absurd z h0) (fun _ => kf h0 r hr H locs ls hW hS hl)
theorem j_if_lt (hC : JC X cc own ret fr lc mc ms) {x : Int32} {off : Int} {tgt : Nat} {A B : Option ρ} (hd : decode cc pc = .ok (.ifCond .lt off, 3)) (ht : (pc : Int) + off = (tgt : Int)) (kt : x < 0 → J X Z A tgt lv rest M k n) (kf : ¬ x < 0 → J X Z B (pc + 3) lv rest M k n) : J X Z (if x < 0 then A else B) pc lv (.int x :: rest) M k n := by
  obtain ⟨p, l, e, R, s, m, args, below, meth, co, Γ, D, nL⟩ := X
  intro r hr H locs ls hW hS hl
  by_cases h0 : x < 0
  · rw [if_pos h0] at hr; exact lv_if_lt hC.1 hC.2.1 hd ht (fun _ => kt h0 r hr H locs ls hW hS hl) (fun z => absurd h0 z)
  · rw [if_neg h0] at hr; exact lv_if_lt hC.1 hC.2.1 hd ht (fun z => absurd z h0) (fun _ => kf h0 r hr H locs ls hW hS hl)
theorem j_icmp_ge (hC : JC X cc own ret fr lc mc ms) {x y : Int32} {off : Int} {tgt : Nat} {A B : Option ρ} (hd : decode cc pc = .ok (.if_icmp .ge off, 3)) (ht : (pc : Int) + off = (tgt : Int)) (kt : y ≤ x → J X Z A tgt lv rest M k n) (kf : ¬ y ≤ x → J X Z B (pc + 3) lv rest M k n) : J X Z (if y ≤ x then A else B) pc lv (.int y :: .int x :: rest) M k n := by
  obtain ⟨p, l, e, R, s, m, args, below, meth, co, Γ, D, nL⟩ := X
  intro r hr H locs ls hW hS hl
  by_cases h0 : y ≤ x
  · rw [if_pos h0] at hr; exact lv_icmp_ge hC.1 hC.2.1 hd ht (fun _ => kt h0 r hr H locs ls hW hS hl) (fun z => absurd h0 z)
  · rw [if_neg h0] at hr; exact lv_icmp_ge hC.1 hC.2.1 hd ht (fun z => absurd z h0) (fun _ => kf h0 r hr H locs ls hW hS hl)
theorem j_if_ge (hC : JC X cc own ret fr lc mc ms) {x : Int32} {off : Int} {tgt : Nat} {A B : Option ρ} (hd : decode cc pc = .ok (.ifCond .ge off, 3)) (ht : (pc : Int) + off = (tgt : Int)) (kt : 0 ≤ x → J X Z A tgt lv rest M k n) (kf : ¬ 0 ≤ x → J X Z B (pc + 3) lv rest M k n) : J X Z (if 0 ≤ x then A else B) pc lv (.int x :: rest) M k n := by
  obtain ⟨p, l, e, R, s, m, args, below, meth, co, Γ, D, nL⟩ := X
  intro r hr H locs ls hW hS hl
  by_cases h0 : 0 ≤ x
  · rw [if_pos h0] at hr; exact lv_if_ge hC.1 hC.2.1 hd ht (fun _ => kt h0 r hr H locs ls hW hS hl) (fun z => absurd h0 z)
  · rw [if_neg h0] at hr; exact lv_if_ge hC.1 hC.2.1 hd ht (fun z => absurd z h0) (fun _ => kf h0 r hr H locs ls hW hS hl)
theorem j_icmp_gt (hC : JC X cc own ret fr lc mc ms) {x y : Int32} {off : Int} {tgt : Nat} {A B : Option ρ} (hd : decode cc pc = .ok (.if_icmp .gt off, 3)) (ht : (pc : Int) + off = (tgt : Int)) (kt : y < x → J X Z A tgt lv rest M k n) (kf : ¬ y < x → J X Z B (pc + 3) lv rest M k n) : J X Z (if y < x then A else B) pc lv (.int y :: .int x :: rest) M k n := by
  obtain ⟨p, l, e, R, s, m, args, below, meth, co, Γ, D, nL⟩ := X
  intro r hr H locs ls hW hS hl
  by_cases h0 : y < x
  · rw [if_pos h0] at hr; exact lv_icmp_gt hC.1 hC.2.1 hd ht (fun _ => kt h0 r hr H locs ls hW hS hl) (fun z => absurd h0 z)
  · rw [if_neg h0] at hr; exact lv_icmp_gt hC.1 hC.2.1 hd ht (fun z => absurd z h0) (fun _ => kf h0 r hr H locs ls hW hS hl)
theorem j_if_gt (hC : JC X cc own ret fr lc mc ms) {x : Int32} {off : Int} {tgt : Nat} {A B : Option ρ} (hd : decode cc pc = .ok (.ifCond .gt off, 3)) (ht : (pc : Int) + off = (tgt : Int)) (kt : 0 < x → J X Z A tgt lv rest M k n) (kf : ¬ 0 < x → J X Z B (pc + 3) lv rest M k n) : J X Z (if 0 < x then A else B) pc lv (.int x :: rest) M k n := by
  obtain ⟨p, l, e, R, s, m, args, below, meth, co, Γ, D, nL⟩ := X
  intro r hr H locs ls hW hS hl
  by_cases h0 : 0 < x
  · rw [if_pos h0] at hr; exact lv_if_gt hC.1 hC.2.1 hd ht (fun _ => kt h0 r hr H locs ls hW hS hl) (fun z => absurd h0 z)
  · rw [if_neg h0] at hr; exact lv_if_gt hC.1 hC.2.1 hd ht (fun z => absurd z h0) (fun _ => kf h0 r hr H locs ls hW hS hl)
theorem j_icmp_le (hC : JC X cc own ret fr lc mc ms) {x y : Int32} {off : Int} {tgt : Nat} {A B : Option ρ} (hd : decode cc pc = .ok (.if_icmp .le off, 3)) (ht : (pc : Int) + off = (tgt : Int)) (kt : x ≤ y → J X Z A tgt lv rest M k n) (kf : ¬ x ≤ y → J X Z B (pc + 3) lv rest M k n) : J X Z (if x ≤ y then A else B) pc lv (.int y :: .int x :: rest) M k n := by
  obtain ⟨p, l, e, R, s, m, args, below, meth, co, Γ, D, nL⟩ := X
  intro r hr H locs ls hW hS hl
  by_cases h0 : x ≤ y
  · rw [if_pos h0] at hr; exact lv_icmp_le hC.1 hC.2.1 hd ht (fun _ => kt h0 r hr H locs ls hW hS hl) (fun z => absurd h0 z)
  · rw [if_neg h0] at hr; exact lv_icmp_le hC.1 hC.2.1 hd ht (fun z => absurd z h0) (fun _ => kf h0 r hr H locs ls hW hS hl)
theorem j_if_le (hC : JC X cc own ret fr lc mc ms) {x : Int32} {off : Int} {tgt : Nat} {A B : Option ρ} (hd : decode cc pc = .ok (.ifCond .le off, 3)) (ht : (pc : Int) + off = (tgt : Int)) (kt : x ≤ 0 → J X Z A tgt lv rest M k n) (kf : ¬ x ≤ 0 → J X Z B (pc + 3) lv rest M k n) : J X Z (if x ≤ 0 then A else B) pc lv (.int x :: rest) M k n := by
  obtain ⟨p, l, e, R, s, m, args, below, meth, co, Γ, D, nL⟩ := X
  intro r hr H locs ls hW hS hl
  by_cases h0 : x ≤ 0
  · rw [if_pos h0] at hr; exact lv_if_le hC.1 hC.2.1 hd ht (fun _ => kt h0 r hr H locs ls hW hS hl) (fun z => absurd h0 z)
  · rw [if_neg h0] at hr; exact lv_if_le hC.1 hC.2.1 hd ht (fun z => absurd z h0) (fun _ => kf h0 r hr H locs ls hW hS hl)
theorem j_icmp_ne (hC : JC X cc own ret fr lc mc ms) {x y : Int32} {off : Int} {tgt : Nat} {A B : Option ρ} (hd : decode cc pc = .ok (.if_icmp .ne off, 3)) (ht : (pc : Int) + off = (tgt : Int)) (kf : x = y → J X Z A (pc + 3) lv rest M k n) (kt : ¬ x = y → J X Z B tgt lv rest M k n) : J X Z (if x = y then A else B) pc lv (.int y :: .int x :: rest) M k n := by
  obtain ⟨p, l, e, R, s, m, args, below, meth, co, Γ, D, nL⟩ := X
  intro r hr H locs ls hW hS hl
  by_cases h0 : x = y
  · rw [if_pos h0] at hr; exact lv_icmp_ne hC.1 hC.2.1 hd ht (fun z => absurd h0 z) (fun _ => kf h0 r hr H locs ls hW hS hl)
  · rw [if_neg h0] at hr; exact lv_icmp_ne hC.1 hC.2.1 hd ht (fun _ => kt h0 r hr H locs ls hW hS hl) (fun z => absurd z h0)
theorem j_if_ne (hC : JC X cc own ret fr lc mc ms) {x : Int32} {off : Int} {tgt : Nat} {A B : Option ρ} (hd : decode cc pc = .ok (.ifCond .ne off, 3)) (ht : (pc : Int) + off = (tgt : Int)) (kf : x = 0 → J X Z A (pc + 3) lv rest M k n) (kt : ¬ x = 0 → J X Z B tgt lv rest M k n) : J X Z (if x = 0 then A else B) pc lv (.int x :: rest) M k n := by
  obtain ⟨p, l, e, R, s, m, args, below, meth, co, Γ, D, nL⟩ := X
  intro r hr H locs ls hW hS hl
  by_cases h0 : x = 0
  · rw [if_pos h0] at hr; exact lv_if_ne hC.1 hC.2.1 hd ht (fun z => absurd h0 z) (fun _ => kf h0 r hr H locs ls hW hS hl)
  · rw [if_neg h0] at hr; exact lv_if_ne hC.1 hC.2.1 hd ht (fun _ => kt h0 r hr H locs ls hW hS hl) (fun z => absurd z h0)
theorem j_goto (hC : JC X cc own ret fr lc mc ms) {off : Int} {tgt : Nat} (hd : decode cc pc = .ok (.goto off, 3)) (ht : (pc : Int) + off = (tgt : Int)) (kk : J X Z pr tgt lv rest M k n) : J X Z pr pc lv rest M k n := by
  obtain ⟨p, l, e, R, s, m, args, below, meth, co, Γ, D, nL⟩ := X
  intro r hr H locs ls hW hS hl
  exact lv_goto hC.1 hC.2.1 hd ht (kk r hr H locs ls hW hS hl)
theorem j_ifnull (hC : JC X cc own ret fr lc mc ms) {a : Nat} {off : Int} (hd : decode cc pc = .ok (.ifnull off, 3)) (kk : J X Z pr (pc + 3) lv rest M k n) : J X Z pr pc lv (.ref a :: rest) M k n := by
  obtain ⟨p, l, e, R, s, m, args, below, meth, co, Γ, D, nL⟩ := X
  intro r hr H locs ls hW hS hl
  exact lv_ifnull hC.1 hC.2.1 hd (kk r hr H locs ls hW hS hl)
theorem j_ifnullN (hC : JC X cc own ret fr lc mc ms) {off : Int} {tgt : Nat} (hd : decode cc pc = .ok (.ifnull off, 3)) (ht : (pc : Int) + off = (tgt : Int)) (kk : J X Z pr tgt lv rest M k n) : J X Z pr pc lv (.null :: rest) M k n := by
  obtain ⟨p, l, e, R, s, m, args, below, meth, co, Γ, D, nL⟩ := X
  intro r hr H locs ls hW hS hl
  exact lv_ifnullN hC.1 hC.2.1 hd ht (kk r hr H locs ls hW hS hl)
theorem j_max (hC : JC X cc own ret fr lc mc ms) {x y : Int32} {idx : Nat} (hq : Cond.methodLink own idx Lib.Math.max.name ∈ lw_all) (h1 : Cond.static Lib.Math.max.name ∈ lw_all) (h2 : Cond.initialized "java/lang/Math" ∈ lw_all) (h3 : Cond.code Lib.Math.max.name Lib.Math.max.code 2 (some .int) ∈ lw_all) (hd : decode cc pc = .ok (.invokestatic idx, 3)) (hf : Nat.ble 1 fr = true) (hlc : (rest.map fun v => v.category).sum + 13 ≤ lc) (hk : k ≤ mc) (hn : n ≤ ms) (kk : J X Z pr (pc + 3) lv (.int (mx x y) :: rest) M k n) : J X Z pr pc lv (.int y :: .int x :: rest) M k n := by
  obtain ⟨p, l, e, R, s, m, args, below, meth, co, Γ, D, nL⟩ := X
  intro r hr H locs ls hW hS hl
  have hR := hC.2.2.2.2.2.2.2.1
  exact va_mmax hC.1 hC.2.1 (hC.2.2.1.trans hl.1.symm) hC.2.2.2.1 (hC.2.2.2.2.1 _ hq) (hC.2.2.2.2.1 _ h1) (hC.2.2.2.2.1 _ h2) (hC.2.2.2.2.1 _ h3) (by rw [hR]; exact Nat.le_of_ble_eq_true hf) (by rw [hR]; exact hlc) (by rw [hR]; exact hk) (by rw [hR]; exact hn) hd (kk r hr H locs ls hW hS hl)
theorem j_min (hC : JC X cc own ret fr lc mc ms) {x y : Int32} {idx : Nat} (hq : Cond.methodLink own idx Lib.Math.min.name ∈ lw_all) (h1 : Cond.static Lib.Math.min.name ∈ lw_all) (h2 : Cond.initialized "java/lang/Math" ∈ lw_all) (h3 : Cond.code Lib.Math.min.name Lib.Math.min.code 2 (some .int) ∈ lw_all) (hd : decode cc pc = .ok (.invokestatic idx, 3)) (hf : Nat.ble 1 fr = true) (hlc : (rest.map fun v => v.category).sum + 13 ≤ lc) (hk : k ≤ mc) (hn : n ≤ ms) (kk : J X Z pr (pc + 3) lv (.int (mn x y) :: rest) M k n) : J X Z pr pc lv (.int y :: .int x :: rest) M k n := by
  obtain ⟨p, l, e, R, s, m, args, below, meth, co, Γ, D, nL⟩ := X
  intro r hr H locs ls hW hS hl
  have hR := hC.2.2.2.2.2.2.2.1
  exact va_mmin hC.1 hC.2.1 (hC.2.2.1.trans hl.1.symm) hC.2.2.2.1 (hC.2.2.2.2.1 _ hq) (hC.2.2.2.2.1 _ h1) (hC.2.2.2.2.1 _ h2) (hC.2.2.2.2.1 _ h3) (by rw [hR]; exact Nat.le_of_ble_eq_true hf) (by rw [hR]; exact hlc) (by rw [hR]; exact hk) (by rw [hR]; exact hn) hd (kk r hr H locs ls hW hS hl)
theorem j_abs (hC : JC X cc own ret fr lc mc ms) {x : Int32} {idx : Nat} (hq : Cond.methodLink own idx Lib.Math.abs.name ∈ lw_all) (h1 : Cond.static Lib.Math.abs.name ∈ lw_all) (h2 : Cond.initialized "java/lang/Math" ∈ lw_all) (h3 : Cond.code Lib.Math.abs.name Lib.Math.abs.code 1 (some .int) ∈ lw_all) (hd : decode cc pc = .ok (.invokestatic idx, 3)) (hf : Nat.ble 1 fr = true) (hlc : (rest.map fun v => v.category).sum + 13 ≤ lc) (hk : k ≤ mc) (hn : n ≤ ms) (kk : J X Z pr (pc + 3) lv (.int (ab x) :: rest) M k n) : J X Z pr pc lv (.int x :: rest) M k n := by
  obtain ⟨p, l, e, R, s, m, args, below, meth, co, Γ, D, nL⟩ := X
  intro r hr H locs ls hW hS hl
  have hR := hC.2.2.2.2.2.2.2.1
  exact va_mabs hC.1 hC.2.1 (hC.2.2.1.trans hl.1.symm) hC.2.2.2.1 (hC.2.2.2.2.1 _ hq) (hC.2.2.2.2.1 _ h1) (hC.2.2.2.2.1 _ h2) (hC.2.2.2.2.1 _ h3) (by rw [hR]; exact Nat.le_of_ble_eq_true hf) (by rw [hR]; exact hlc) (by rw [hR]; exact hk) (by rw [hR]; exact hn) hd (kk r hr H locs ls hW hS hl)
theorem j_getI (hC : JC X cc own ret fr lc mc ms) {c : CId} {ci fk idx N : Nat} {C ref : String} {T : u_T}  (hdm : gdm (XG X) c = true) (hk : kd c = .inl ci) (hcl : xcl[ci]? = some (C, T, N)) (hin : ∀ w ∈ u_ws C T N, w ∈ lw_all) (hfk : Nat.ble (fk + 1) N = true) (href : (T fk).1 = ref) (hq : Cond.fieldLink own idx ref (T fk).2.1 (T fk).2.2.1 ∈ lw_all) (hly : ly c fk = .inl 0) (hd : decode cc pc = .ok (.getfield idx, 3)) (kk : J X Z pr (pc + 3) lv (.int (M c fk) :: rest) M k n) : J X Z pr pc lv (.ref (gadr (XG X) c) :: rest) M k n := by
  obtain ⟨p, l, e, R, s, m, args, below, meth, co, Γ, D, nL⟩ := X
  intro r hr H locs ls hW hS hl
  obtain ⟨aL, hW1, hW2⟩ := id hW
  have h1 := hW1 c hdm
  rw [kd_obj hk] at h1
  have hP : va_P (gD Γ) xcl [(gadr Γ c, .inr (ci, (List.range (fN ci)).map (vl Γ aL (M c) c)))] H := fun i q hi => by
    cases i with
    | zero => cases hi; exact h1
    | succ i => cases hi
  have hfk' : fk < N := Nat.le_of_ble_eq_true hfk
  have hN : fN ci = N := by unfold fN; rw [hcl]
  refine va_get (k := fk) hC.1 hC.2.1 hC.2.2.2.2.1 hin hC.2.2.2.1 hC.2.2.2.2.2.1.1 hP 0 rfl hcl hfk' (hC.2.2.2.2.1 _ hq) (fun x hx => by rw [← href]; exact hx) ?_ hd (kk r hr H locs ls hW hS hl)
  rw [hN]
  simp [hfk', vl, hly]
theorem j_getR (hC : JC X cc own ret fr lc mc ms) {c : CId} {ci fk idx N : Nat} {C ref : String} {T : u_T} {d : CId} (hdm : gdm (XG X) c = true) (hk : kd c = .inl ci) (hcl : xcl[ci]? = some (C, T, N)) (hin : ∀ w ∈ u_ws C T N, w ∈ lw_all) (hfk : Nat.ble (fk + 1) N = true) (href : (T fk).1 = ref) (hq : Cond.fieldLink own idx ref (T fk).2.1 (T fk).2.2.1 ∈ lw_all) (hly : ly c fk = .inr d) (hd : decode cc pc = .ok (.getfield idx, 3)) (kk : J X Z pr (pc + 3) lv (.ref (gadr (XG X) d) :: rest) M k n) : J X Z pr pc lv (.ref (gadr (XG X) c) :: rest) M k n := by
  obtain ⟨p, l, e, R, s, m, args, below, meth, co, Γ, D, nL⟩ := X
  intro r hr H locs ls hW hS hl
  obtain ⟨aL, hW1, hW2⟩ := id hW
  have h1 := hW1 c hdm
  rw [kd_obj hk] at h1
  have hP : va_P (gD Γ) xcl [(gadr Γ c, .inr (ci, (List.range (fN ci)).map (vl Γ aL (M c) c)))] H := fun i q hi => by
    cases i with
    | zero => cases hi; exact h1
    | succ i => cases hi
  have hfk' : fk < N := Nat.le_of_ble_eq_true hfk
  have hN : fN ci = N := by unfold fN; rw [hcl]
  refine va_get (k := fk) hC.1 hC.2.1 hC.2.2.2.2.1 hin hC.2.2.2.1 hC.2.2.2.2.2.1.1 hP 0 rfl hcl hfk' (hC.2.2.2.2.1 _ hq) (fun x hx => by rw [← href]; exact hx) ?_ hd (kk r hr H locs ls hW hS hl)
  rw [hN]
  simp [hfk', vl, hly]
theorem j_put (hC : JC X cc own ret fr lc mc ms) {c : CId} {ci fk idx N : Nat} {C ref : String} {T : u_T} {ty : FieldType} {v : Int32} (hdm : gdm (XG X) c = true) (hk : kd c = .inl ci) (hcl : xcl[ci]? = some (C, T, N)) (hin : ∀ w ∈ u_ws C T N, w ∈ lw_all) (hfk : Nat.ble (fk + 1) N = true) (href : (T fk).1 = ref) (hq : Cond.fieldLink own idx ref (T fk).2.1 (T fk).2.2.1 ∈ lw_all) (ty0 : Nat → FieldType) (hty : ∀ k, k < N → parseFieldDescriptor (T k).2.2.1 = some (ty0 k)) (hnm : ∀ a, a < N → ∀ b, b < N → a ≠ b → (T a).2.1 ≠ (T b).2.1) (hly : ly c fk = .inl 0) (hfin : (T fk).2.2.2 = false) (hdesc : parseFieldDescriptor (T fk).2.2.1 = some ty) (hnw : narrow ty (.int v) = .int v) (hft : fits ty (.int v) = true) (hd : decode cc pc = .ok (.putfield idx, 3)) (kk : J X Z pr (pc + 3) lv rest (up M c fk v) k n) : J X Z pr pc lv (.int v :: .ref (gadr (XG X) c) :: rest) M k n := by
  obtain ⟨p, l, e, R, s, m, args, below, meth, co, Γ, D, nL⟩ := X
  intro r hr H locs ls hW hS hl
  obtain ⟨aL, hW1, hW2⟩ := id hW
  have h1 := hW1 c hdm
  rw [kd_obj hk] at h1
  have hfk' : fk < N := Nat.le_of_ble_eq_true hfk
  have hN : fN ci = N := by unfold fN; rw [hcl]
  have hap := va_apart (own := own) hC.2.2.2.2.1 hin ty0 hty hnm hC.2.2.2.2.2.1.1 hcl
  obtain ⟨r9, h19, cell, q1, q2, q3, q4⟩ := h1
  have hr9 : r9 = (C, T, N) := Option.some.inj (h19.symm.trans hcl)
  subst hr9
  obtain ⟨hSl, hfc, kC, hkC, hkind⟩ := hC.2.2.2.2.2.1.1.1 ci _ hcl
  obtain ⟨cf, kf, fi, f, hi, hsl⟩ := hSl fk hfk'
  have hlay := hC.2.2.2.2.1 _ (hin _ (u_in_lay hfk'))
  unfold u_lay at hlay
  rw [if_neg (by rw [hfin]; decide)] at hlay
  have hst := (u_facts hfc hkC (u_lays hC.2.2.2.2.1 hin hfk') hi).1
  have h6 := u_store hfc hkC hkind hlay hi hdesc hnw hft
  have hfk2 : fk < N := hfk'
  refine W.putK hC.1 hC.2.1 (f := f) ⟨hC.2.2.2.1, (hC.2.2.2.2.1 _ hq), ⟨_, _, _, (by rw [href] at hi; exact hi)⟩, hst⟩ (by rw [q2]; exact h6) q1 q3 (by rw [hsl]; exact k2_hasslot (q4 fk hfk2)) rfl rfl hd fun H1 e1 e2 e3 => ?_
  rw [hsl] at e1
  have hcA : AX Γ s.heap.size (gadr Γ c) := Or.inl ⟨c, hdm, rfl⟩
  refine kk r hr H1 _ ls ⟨aL, WdA.set hC.2.2.2.2.2.2.1 ⟨hW1, hW2⟩ hdm (f := fun j => if j = fk then v else M c j) ?_ e3⟩ (hS.put e2 e3 hcA) hl
  rw [kd_obj hk, hN]
  refine ⟨_, hcl, t_OB.to (V := updV (vp_V ((List.range (fN ci)).map (vl Γ aL (M c) c))) fk (.int v)) ⟨_, e1, q2, q3, t_set q4 hap hfk' (.int v)⟩ (fun j hj => ?_)⟩
  rw [vpV_range _ hj]
  by_cases hjk : j = fk
  · subst hjk
    simp [updV, vl, hly]
  · simp only [updV, hjk, if_false]
    rw [vpV_range _ (by rw [hN]; exact hj)]
    simp only [vl]
    split <;> simp [hjk]
theorem j_getNI (hC : JC X cc own ret fr lc mc ms) {c : CId} {ci fk idx N : Nat} {C ref : String} {T : u_T}  (hdm : gdm (XG X) c = true) (hk : kd c = .inl ci) (hcl : xcl[ci]? = some (C, T, N)) (hin : ∀ w ∈ u_ws C T N, w ∈ lw_all) (hfk : Nat.ble (fk + 1) N = true) (href : (T fk).1 = ref) {host : String} (hq : Cond.fieldLinkNest own idx ref (T fk).2.1 (T fk).2.2.1 host ∈ lw_tbl) (hly : ly c fk = .inl 0) (hd : decode cc pc = .ok (.getfield idx, 3)) (kk : J X Z pr (pc + 3) lv (.int (M c fk) :: rest) M k n) : J X Z pr pc lv (.ref (gadr (XG X) c) :: rest) M k n := by
  obtain ⟨p, l, e, R, s, m, args, below, meth, co, Γ, D, nL⟩ := X
  intro r hr H locs ls hW hS hl
  obtain ⟨aL, hW1, hW2⟩ := id hW
  have h1 := hW1 c hdm
  rw [kd_obj hk] at h1
  have hP : va_P (gD Γ) xcl [(gadr Γ c, .inr (ci, (List.range (fN ci)).map (vl Γ aL (M c) c)))] H := fun i q hi => by
    cases i with
    | zero => cases hi; exact h1
    | succ i => cases hi
  have hfk' : fk < N := Nat.le_of_ble_eq_true hfk
  have hN : fN ci = N := by unfold fN; rw [hcl]
  refine va_getN (k := fk) hC.1 hC.2.1 hC.2.2.2.2.1 hin hC.2.2.2.1 hC.2.2.2.2.2.1.1 hP 0 rfl hcl hfk' (va_Nw.use rfl (hC.2.2.2.2.2.1.2.1.2.1 _ hq rfl)) (fun x hx => by rw [← href]; exact hx) ?_ hd (kk r hr H locs ls hW hS hl)
  rw [hN]
  simp [hfk', vl, hly]
theorem j_getNR (hC : JC X cc own ret fr lc mc ms) {c : CId} {ci fk idx N : Nat} {C ref : String} {T : u_T} {d : CId} (hdm : gdm (XG X) c = true) (hk : kd c = .inl ci) (hcl : xcl[ci]? = some (C, T, N)) (hin : ∀ w ∈ u_ws C T N, w ∈ lw_all) (hfk : Nat.ble (fk + 1) N = true) (href : (T fk).1 = ref) {host : String} (hq : Cond.fieldLinkNest own idx ref (T fk).2.1 (T fk).2.2.1 host ∈ lw_tbl) (hly : ly c fk = .inr d) (hd : decode cc pc = .ok (.getfield idx, 3)) (kk : J X Z pr (pc + 3) lv (.ref (gadr (XG X) d) :: rest) M k n) : J X Z pr pc lv (.ref (gadr (XG X) c) :: rest) M k n := by
  obtain ⟨p, l, e, R, s, m, args, below, meth, co, Γ, D, nL⟩ := X
  intro r hr H locs ls hW hS hl
  obtain ⟨aL, hW1, hW2⟩ := id hW
  have h1 := hW1 c hdm
  rw [kd_obj hk] at h1
  have hP : va_P (gD Γ) xcl [(gadr Γ c, .inr (ci, (List.range (fN ci)).map (vl Γ aL (M c) c)))] H := fun i q hi => by
    cases i with
    | zero => cases hi; exact h1
    | succ i => cases hi
  have hfk' : fk < N := Nat.le_of_ble_eq_true hfk
  have hN : fN ci = N := by unfold fN; rw [hcl]
  refine va_getN (k := fk) hC.1 hC.2.1 hC.2.2.2.2.1 hin hC.2.2.2.1 hC.2.2.2.2.2.1.1 hP 0 rfl hcl hfk' (va_Nw.use rfl (hC.2.2.2.2.2.1.2.1.2.1 _ hq rfl)) (fun x hx => by rw [← href]; exact hx) ?_ hd (kk r hr H locs ls hW hS hl)
  rw [hN]
  simp [hfk', vl, hly]
theorem j_putN (hC : JC X cc own ret fr lc mc ms) {c : CId} {ci fk idx N : Nat} {C ref : String} {T : u_T} {ty : FieldType} {v : Int32} (hdm : gdm (XG X) c = true) (hk : kd c = .inl ci) (hcl : xcl[ci]? = some (C, T, N)) (hin : ∀ w ∈ u_ws C T N, w ∈ lw_all) (hfk : Nat.ble (fk + 1) N = true) (href : (T fk).1 = ref) {host : String} (hq : Cond.fieldLinkNest own idx ref (T fk).2.1 (T fk).2.2.1 host ∈ lw_tbl) (ty0 : Nat → FieldType) (hty : ∀ k, k < N → parseFieldDescriptor (T k).2.2.1 = some (ty0 k)) (hnm : ∀ a, a < N → ∀ b, b < N → a ≠ b → (T a).2.1 ≠ (T b).2.1) (hly : ly c fk = .inl 0) (hfin : (T fk).2.2.2 = false) (hdesc : parseFieldDescriptor (T fk).2.2.1 = some ty) (hnw : narrow ty (.int v) = .int v) (hft : fits ty (.int v) = true) (hd : decode cc pc = .ok (.putfield idx, 3)) (kk : J X Z pr (pc + 3) lv rest (up M c fk v) k n) : J X Z pr pc lv (.int v :: .ref (gadr (XG X) c) :: rest) M k n := by
  obtain ⟨p, l, e, R, s, m, args, below, meth, co, Γ, D, nL⟩ := X
  intro r hr H locs ls hW hS hl
  obtain ⟨aL, hW1, hW2⟩ := id hW
  have h1 := hW1 c hdm
  rw [kd_obj hk] at h1
  have hfk' : fk < N := Nat.le_of_ble_eq_true hfk
  have hN : fN ci = N := by unfold fN; rw [hcl]
  have hap := va_apart (own := own) hC.2.2.2.2.1 hin ty0 hty hnm hC.2.2.2.2.2.1.1 hcl
  obtain ⟨r9, h19, cell, q1, q2, q3, q4⟩ := h1
  have hr9 : r9 = (C, T, N) := Option.some.inj (h19.symm.trans hcl)
  subst hr9
  obtain ⟨hSl, hfc, kC, hkC, hkind⟩ := hC.2.2.2.2.2.1.1.1 ci _ hcl
  obtain ⟨cf, kf, fi, f, hi, hsl⟩ := hSl fk hfk'
  have hlay := hC.2.2.2.2.1 _ (hin _ (u_in_lay hfk'))
  unfold u_lay at hlay
  rw [if_neg (by rw [hfin]; decide)] at hlay
  have hst := (u_facts hfc hkC (u_lays hC.2.2.2.2.1 hin hfk') hi).1
  have h6 := u_store hfc hkC hkind hlay hi hdesc hnw hft
  have hfk2 : fk < N := hfk'
  refine va_WputK hC.1 hC.2.1 (f := f) hC.2.2.2.1 (va_Nw.use rfl (hC.2.2.2.2.2.1.2.1.2.1 _ hq rfl)) (by rw [href] at hi; exact hi) hst (by rw [q2]; exact h6) q1 q3 (by rw [hsl]; exact k2_hasslot (q4 fk hfk2)) rfl rfl hd fun H1 e1 e2 e3 => ?_
  rw [hsl] at e1
  have hcA : AX Γ s.heap.size (gadr Γ c) := Or.inl ⟨c, hdm, rfl⟩
  refine kk r hr H1 _ ls ⟨aL, WdA.set hC.2.2.2.2.2.2.1 ⟨hW1, hW2⟩ hdm (f := fun j => if j = fk then v else M c j) ?_ e3⟩ (hS.put e2 e3 hcA) hl
  rw [kd_obj hk, hN]
  refine ⟨_, hcl, t_OB.to (V := updV (vp_V ((List.range (fN ci)).map (vl Γ aL (M c) c))) fk (.int v)) ⟨_, e1, q2, q3, t_set q4 hap hfk' (.int v)⟩ (fun j hj => ?_)⟩
  rw [vpV_range _ hj]
  by_cases hjk : j = fk
  · subst hjk
    simp [updV, vl, hly]
  · simp only [updV, hjk, if_false]
    rw [vpV_range _ (by rw [hN]; exact hj)]
    simp only [vl]
    split <;> simp [hjk]
theorem j_iald (hC : JC X cc own ret fr lc mc ms) {c : CId} {L : Nat} {i : Int32} {pr' : Option ρ} (hdm : gdm (XG X) c = true) (hk : kd c = .inr (0, L)) (hd : decode cc pc = .ok (.iaload, 1)) (kk : vp_in i L → J X Z pr' (pc + 1) lv (.int (M c i.toNatClampNeg) :: rest) M k n) : J X Z (gd i L pr') pc lv (.int i :: .ref (gadr (XG X) c) :: rest) M k n := by
  obtain ⟨p, l, e, R, s, m, args, below, meth, co, Γ, D, nL⟩ := X
  intro r hr H locs ls hW hS hl
  by_cases hin : i < 0 ∨ L ≤ i.toNatClampNeg
  · rw [gd, if_pos hin] at hr; cases hr
  rw [gd, if_neg hin] at hr
  obtain ⟨aL, hW1, hW2⟩ := id hW
  have h1 := hW1 c hdm
  unfold cellE at h1
  rw [hk] at h1
  have hP : va_P (gD Γ) xcl [(gadr Γ c, .inl (gA Γ 0, L, .inl (M c)))] H := fun i q hi => by
    cases i with
    | zero => cases hi; exact h1
    | succ i => cases hi
  exact va_iald hC.1 hC.2.1 hC.2.2.2.2.2.1.1 hP 0 0 rfl rfl hin hd (kk hin r hr H locs ls hW hS hl)
theorem j_iast (hC : JC X cc own ret fr lc mc ms) {c : CId} {L : Nat} {i x : Int32} {pr' : Option ρ} (hdm : gdm (XG X) c = true) (hk : kd c = .inr (0, L)) (hd : decode cc pc = .ok (.iastore, 1)) (kk : vp_in i L → J X Z pr' (pc + 1) lv rest (up M c i.toNatClampNeg (x)) k n) : J X Z (gd i L pr') pc lv (.int x :: .int i :: .ref (gadr (XG X) c) :: rest) M k n := by
  obtain ⟨p, l, e, R, s, m, args, below, meth, co, Γ, D, nL⟩ := X
  intro r hr H locs ls hW hS hl
  by_cases hin : i < 0 ∨ L ≤ i.toNatClampNeg
  · rw [gd, if_pos hin] at hr; cases hr
  rw [gd, if_neg hin] at hr
  obtain ⟨aL, hW1, hW2⟩ := id hW
  have h1 := hW1 c hdm
  unfold cellE at h1
  rw [hk] at h1
  have h1 : H[gadr Γ c]? = some (vp_cell (gA Γ 0) (L, .inl (M c))) := h1
  have hK := hC.2.2.2.2.2.1.1
  have hcA : AX Γ s.heap.size (gadr Γ c) := Or.inl ⟨c, hdm, rfl⟩
  refine W.iast hC.1 hC.2.1 h1 ((hK.2 0 _ rfl).1 L (fun j => .int (M c j))) (fun q => by cases q) (by show ¬ (i < 0 ∨ (arrV _ _ _).slots.size ≤ _); rw [arrV_size]; exact hin) rfl rfl hd fun H1 e1 e2 e3 => ?_
  refine kk hin r hr H1 _ ls ⟨aL, WdA.set hC.2.2.2.2.2.2.1 ⟨hW1, hW2⟩ hdm (f := fun j => if j = i.toNatClampNeg then x else M c j) ?_ e3⟩ (hS.put e2 e3 hcA) hl
  unfold cellE
  rw [hk]
  show H1[gadr Γ c]? = some (vp_cell _ _)
  rw [e1, vp_cell_i, vp_cell_i, arrV_store]
  congr 2
  funext q
  by_cases hq : q = i.toNatClampNeg
  · subst hq
    simp [updV, vp_nar, narrow]
  · simp [updV, hq]
theorem j_bald (hC : JC X cc own ret fr lc mc ms) {c : CId} {L : Nat} {i : Int32} {pr' : Option ρ} (hdm : gdm (XG X) c = true) (hk : kd c = .inr (1, L)) (hd : decode cc pc = .ok (.baload, 1)) (kk : vp_in i L → J X Z pr' (pc + 1) lv (.int (M c i.toNatClampNeg) :: rest) M k n) : J X Z (gd i L pr') pc lv (.int i :: .ref (gadr (XG X) c) :: rest) M k n := by
  obtain ⟨p, l, e, R, s, m, args, below, meth, co, Γ, D, nL⟩ := X
  intro r hr H locs ls hW hS hl
  by_cases hin : i < 0 ∨ L ≤ i.toNatClampNeg
  · rw [gd, if_pos hin] at hr; cases hr
  rw [gd, if_neg hin] at hr
  obtain ⟨aL, hW1, hW2⟩ := id hW
  have h1 := hW1 c hdm
  unfold cellE at h1
  rw [hk] at h1
  have hP : va_P (gD Γ) xcl [(gadr Γ c, .inl (gA Γ 1, L, .inl (M c)))] H := fun i q hi => by
    cases i with
    | zero => cases hi; exact h1
    | succ i => cases hi
  exact va_bald hC.1 hC.2.1 hC.2.2.2.2.2.1.1 hP 0 1 rfl rfl hin hd (kk hin r hr H locs ls hW hS hl)
theorem j_bast (hC : JC X cc own ret fr lc mc ms) {c : CId} {L : Nat} {i x : Int32} {pr' : Option ρ} (hdm : gdm (XG X) c = true) (hk : kd c = .inr (1, L)) (hd : decode cc pc = .ok (.bastore, 1)) (kk : vp_in i L → J X Z pr' (pc + 1) lv rest (up M c i.toNatClampNeg (vp_nar .byte x)) k n) : J X Z (gd i L pr') pc lv (.int x :: .int i :: .ref (gadr (XG X) c) :: rest) M k n := by
  obtain ⟨p, l, e, R, s, m, args, below, meth, co, Γ, D, nL⟩ := X
  intro r hr H locs ls hW hS hl
  by_cases hin : i < 0 ∨ L ≤ i.toNatClampNeg
  · rw [gd, if_pos hin] at hr; cases hr
  rw [gd, if_neg hin] at hr
  obtain ⟨aL, hW1, hW2⟩ := id hW
  have h1 := hW1 c hdm
  unfold cellE at h1
  rw [hk] at h1
  have h1 : H[gadr Γ c]? = some (vp_cell (gA Γ 1) (L, .inl (M c))) := h1
  have hK := hC.2.2.2.2.2.1.1
  have hcA : AX Γ s.heap.size (gadr Γ c) := Or.inl ⟨c, hdm, rfl⟩
  refine W.bast hC.1 hC.2.1 h1 ((hK.2 1 _ rfl).1 L (fun j => .int (M c j))) (fun q => by cases q) (by show ¬ (i < 0 ∨ (arrV _ _ _).slots.size ≤ _); rw [arrV_size]; exact hin) rfl rfl hd fun H1 e1 e2 e3 => ?_
  refine kk hin r hr H1 _ ls ⟨aL, WdA.set hC.2.2.2.2.2.2.1 ⟨hW1, hW2⟩ hdm (f := fun j => if j = i.toNatClampNeg then vp_nar .byte x else M c j) ?_ e3⟩ (hS.put e2 e3 hcA) hl
  unfold cellE
  rw [hk]
  show H1[gadr Γ c]? = some (vp_cell _ _)
  rw [e1, vp_cell_i, vp_cell_i, arrV_store]
  congr 2
  funext q
  by_cases hq : q = i.toNatClampNeg
  · subst hq
    simp [updV, vp_nar, narrow]
  · simp [updV, hq]
theorem j_zald (hC : JC X cc own ret fr lc mc ms) {c : CId} {L : Nat} {i : Int32} {pr' : Option ρ} (hdm : gdm (XG X) c = true) (hk : kd c = .inr (2, L)) (hd : decode cc pc = .ok (.baload, 1)) (kk : vp_in i L → J X Z pr' (pc + 1) lv (.int (M c i.toNatClampNeg) :: rest) M k n) : J X Z (gd i L pr') pc lv (.int i :: .ref (gadr (XG X) c) :: rest) M k n := by
  obtain ⟨p, l, e, R, s, m, args, below, meth, co, Γ, D, nL⟩ := X
  intro r hr H locs ls hW hS hl
  by_cases hin : i < 0 ∨ L ≤ i.toNatClampNeg
  · rw [gd, if_pos hin] at hr; cases hr
  rw [gd, if_neg hin] at hr
  obtain ⟨aL, hW1, hW2⟩ := id hW
  have h1 := hW1 c hdm
  unfold cellE at h1
  rw [hk] at h1
  have hP : va_P (gD Γ) xcl [(gadr Γ c, .inl (gA Γ 2, L, .inl (M c)))] H := fun i q hi => by
    cases i with
    | zero => cases hi; exact h1
    | succ i => cases hi
  exact va_zald hC.1 hC.2.1 hC.2.2.2.2.2.1.1 hP 0 2 rfl rfl hin hd (kk hin r hr H locs ls hW hS hl)
theorem j_zast (hC : JC X cc own ret fr lc mc ms) {c : CId} {L : Nat} {i x : Int32} {pr' : Option ρ} (hdm : gdm (XG X) c = true) (hk : kd c = .inr (2, L)) (hd : decode cc pc = .ok (.bastore, 1)) (kk : vp_in i L → J X Z pr' (pc + 1) lv rest (up M c i.toNatClampNeg (vp_nar .boolean x)) k n) : J X Z (gd i L pr') pc lv (.int x :: .int i :: .ref (gadr (XG X) c) :: rest) M k n := by
  obtain ⟨p, l, e, R, s, m, args, below, meth, co, Γ, D, nL⟩ := X
  intro r hr H locs ls hW hS hl
  by_cases hin : i < 0 ∨ L ≤ i.toNatClampNeg
  · rw [gd, if_pos hin] at hr; cases hr
  rw [gd, if_neg hin] at hr
  obtain ⟨aL, hW1, hW2⟩ := id hW
  have h1 := hW1 c hdm
  unfold cellE at h1
  rw [hk] at h1
  have h1 : H[gadr Γ c]? = some (vp_cell (gA Γ 2) (L, .inl (M c))) := h1
  have hK := hC.2.2.2.2.2.1.1
  have hcA : AX Γ s.heap.size (gadr Γ c) := Or.inl ⟨c, hdm, rfl⟩
  refine W.zast hC.1 hC.2.1 h1 ((hK.2 2 _ rfl).1 L (fun j => .int (M c j))) (fun q => by cases q) (by show ¬ (i < 0 ∨ (arrV _ _ _).slots.size ≤ _); rw [arrV_size]; exact hin) rfl rfl hd fun H1 e1 e2 e3 => ?_
  refine kk hin r hr H1 _ ls ⟨aL, WdA.set hC.2.2.2.2.2.2.1 ⟨hW1, hW2⟩ hdm (f := fun j => if j = i.toNatClampNeg then vp_nar .boolean x else M c j) ?_ e3⟩ (hS.put e2 e3 hcA) hl
  unfold cellE
  rw [hk]
  show H1[gadr Γ c]? = some (vp_cell _ _)
  rw [e1, vp_cell_i, vp_cell_i, arrV_store]
  congr 2
  funext q
  by_cases hq : q = i.toNatClampNeg
  · subst hq
    simp [updV, vp_nar, narrow]
  · simp [updV, hq]
theorem j_alen (hC : JC X cc own ret fr lc mc ms) {c : CId} {t L : Nat} {v : Int32} (hdm : gdm (XG X) c = true) (hk : kd c = .inr (t, L)) (ht : Nat.ble (t + 1) 3 = true) (hv : Int32.ofNat L = v) (hd : decode cc pc = .ok (.arraylength, 1)) (kk : J X Z pr (pc + 1) lv (.int v :: rest) M k n) : J X Z pr pc lv (.ref (gadr (XG X) c) :: rest) M k n := by
  obtain ⟨p, l, e, R, s, m, args, below, meth, co, Γ, D, nL⟩ := X
  intro r hr H locs ls hW hS hl
  obtain ⟨aL, hW1, hW2⟩ := id hW
  have h1 := hW1 c hdm
  unfold cellE at h1
  rw [hk] at h1
  have ht := Nat.le_of_ble_eq_true ht
  have hK := hC.2.2.2.2.2.1.1
  match t, ht with
  | 0, _ => exact va_alen hC.1 hC.2.1 hK (ws := [(gadr Γ c, .inl (gA Γ 0, L, .inl (M c)))]) (fun i q hi => by cases i with | zero => cases hi; exact h1 | succ i => cases hi) 0 0 rfl (ty := .int) rfl hv hd (kk r hr H locs ls hW hS hl)
  | 1, _ => exact va_alen hC.1 hC.2.1 hK (ws := [(gadr Γ c, .inl (gA Γ 1, L, .inl (M c)))]) (fun i q hi => by cases i with | zero => cases hi; exact h1 | succ i => cases hi) 0 1 rfl (ty := .byte) rfl hv hd (kk r hr H locs ls hW hS hl)
  | 2, _ => exact va_alen hC.1 hC.2.1 hK (ws := [(gadr Γ c, .inl (gA Γ 2, L, .inl (M c)))]) (fun i q hi => by cases i with | zero => cases hi; exact h1 | succ i => cases hi) 0 2 rfl (ty := .boolean) rfl hv hd (kk r hr H locs ls hW hS hl)
theorem j_aald3 (hC : JC X cc own ret fr lc mc ms) {c : CId} {d : CId} {L : Nat} {i : Int32} {pr' : Option ρ} (hdm : gdm (XG X) c = true) (hk : kd c = .inr (3, L)) (hly : ly c i.toNatClampNeg = .inr d) (hd : decode cc pc = .ok (.aaload, 1)) (kk : vp_in i L → J X Z pr' (pc + 1) lv (.ref (gadr (XG X) d) :: rest) M k n) : J X Z (gd i L pr') pc lv (.int i :: .ref (gadr (XG X) c) :: rest) M k n := by
  obtain ⟨p, l, e, R, s, m, args, below, meth, co, Γ, D, nL⟩ := X
  intro r hr H locs ls hW hS hl
  by_cases hin : i < 0 ∨ L ≤ i.toNatClampNeg
  · rw [gd, if_pos hin] at hr; cases hr
  rw [gd, if_neg hin] at hr
  obtain ⟨aL, hW1, hW2⟩ := id hW
  have h1 := hW1 c hdm
  unfold cellE at h1
  rw [hk] at h1
  have hP : va_P (gD Γ) xcl [(gadr Γ c, .inl (gA Γ 3, L, .inr (.inr (.inr (.inr (vq Γ aL (M c) c))))))] H := fun i q hi => by
    cases i with
    | zero => cases hi; exact h1
    | succ i => cases hi
  refine va_aldq (C := RX4) hC.1 hC.2.1 hC.2.2.2.2.2.1.1 hP 0 3 rfl rfl hin hd ?_
  have e : va_rf (vq Γ aL (M c) c i.toNatClampNeg) = .ref (gadr Γ d) := by simp [vq, hly, va_rf]
  rw [e]
  exact kk hin r hr H locs ls hW hS hl
theorem j_aald4 (hC : JC X cc own ret fr lc mc ms) {c : CId} {d : CId} {L : Nat} {i : Int32} {pr' : Option ρ} (hdm : gdm (XG X) c = true) (hk : kd c = .inr (4, L)) (hly : ly c i.toNatClampNeg = .inr d) (hd : decode cc pc = .ok (.aaload, 1)) (kk : vp_in i L → J X Z pr' (pc + 1) lv (.ref (gadr (XG X) d) :: rest) M k n) : J X Z (gd i L pr') pc lv (.int i :: .ref (gadr (XG X) c) :: rest) M k n := by
  obtain ⟨p, l, e, R, s, m, args, below, meth, co, Γ, D, nL⟩ := X
  intro r hr H locs ls hW hS hl
  by_cases hin : i < 0 ∨ L ≤ i.toNatClampNeg
  · rw [gd, if_pos hin] at hr; cases hr
  rw [gd, if_neg hin] at hr
  obtain ⟨aL, hW1, hW2⟩ := id hW
  have h1 := hW1 c hdm
  unfold cellE at h1
  rw [hk] at h1
  have hP : va_P (gD Γ) xcl [(gadr Γ c, .inl (gA Γ 4, L, .inr (.inr (.inr (.inr (vq Γ aL (M c) c))))))] H := fun i q hi => by
    cases i with
    | zero => cases hi; exact h1
    | succ i => cases hi
  refine va_aldq (C := RX5) hC.1 hC.2.1 hC.2.2.2.2.2.1.1 hP 0 4 rfl rfl hin hd ?_
  have e : va_rf (vq Γ aL (M c) c i.toNatClampNeg) = .ref (gadr Γ d) := by simp [vq, hly, va_rf]
  rw [e]
  exact kk hin r hr H locs ls hW hS hl
theorem j_aald6 (hC : JC X cc own ret fr lc mc ms) {c : CId} {d : CId} {L : Nat} {i : Int32} {pr' : Option ρ} (hdm : gdm (XG X) c = true) (hk : kd c = .inr (6, L)) (hly : ly c i.toNatClampNeg = .inr d) (hd : decode cc pc = .ok (.aaload, 1)) (kk : vp_in i L → J X Z pr' (pc + 1) lv (.ref (gadr (XG X) d) :: rest) M k n) : J X Z (gd i L pr') pc lv (.int i :: .ref (gadr (XG X) c) :: rest) M k n := by
  obtain ⟨p, l, e, R, s, m, args, below, meth, co, Γ, D, nL⟩ := X
  intro r hr H locs ls hW hS hl
  by_cases hin : i < 0 ∨ L ≤ i.toNatClampNeg
  · rw [gd, if_pos hin] at hr; cases hr
  rw [gd, if_neg hin] at hr
  obtain ⟨aL, hW1, hW2⟩ := id hW
  have h1 := hW1 c hdm
  unfold cellE at h1
  rw [hk] at h1
  have hP : va_P (gD Γ) xcl [(gadr Γ c, .inl (gA Γ 6, L, .inr (.inr (.inr (.inr (vq Γ aL (M c) c))))))] H := fun i q hi => by
    cases i with
    | zero => cases hi; exact h1
    | succ i => cases hi
  refine va_aldq (C := RX3) hC.1 hC.2.1 hC.2.2.2.2.2.1.1 hP 0 6 rfl rfl hin hd ?_
  have e : va_rf (vq Γ aL (M c) c i.toNatClampNeg) = .ref (gadr Γ d) := by simp [vq, hly, va_rf]
  rw [e]
  exact kk hin r hr H locs ls hW hS hl
theorem j_aald7 (hC : JC X cc own ret fr lc mc ms) {c : CId} {d : CId} {L : Nat} {i : Int32} {pr' : Option ρ} (hdm : gdm (XG X) c = true) (hk : kd c = .inr (7, L)) (hly : ly c i.toNatClampNeg = .inr d) (hd : decode cc pc = .ok (.aaload, 1)) (kk : vp_in i L → J X Z pr' (pc + 1) lv (.ref (gadr (XG X) d) :: rest) M k n) : J X Z (gd i L pr') pc lv (.int i :: .ref (gadr (XG X) c) :: rest) M k n := by
  obtain ⟨p, l, e, R, s, m, args, below, meth, co, Γ, D, nL⟩ := X
  intro r hr H locs ls hW hS hl
  by_cases hin : i < 0 ∨ L ≤ i.toNatClampNeg
  · rw [gd, if_pos hin] at hr; cases hr
  rw [gd, if_neg hin] at hr
  obtain ⟨aL, hW1, hW2⟩ := id hW
  have h1 := hW1 c hdm
  unfold cellE at h1
  rw [hk] at h1
  have hP : va_P (gD Γ) xcl [(gadr Γ c, .inl (gA Γ 7, L, .inr (.inr (.inr (.inr (vq Γ aL (M c) c))))))] H := fun i q hi => by
    cases i with
    | zero => cases hi; exact h1
    | succ i => cases hi
  refine va_aldq (C := "java/lang/String") hC.1 hC.2.1 hC.2.2.2.2.2.1.1 hP 0 7 rfl rfl hin hd ?_
  have e : va_rf (vq Γ aL (M c) c i.toNatClampNeg) = .ref (gadr Γ d) := by simp [vq, hly, va_rf]
  rw [e]
  exact kk hin r hr H locs ls hW hS hl
theorem j_sub {lv' : List (Nat × Value)} (ks : List Nat) (h : lv_pick lv ks = lv') (kk : J X Z pr pc lv' rest M k n) : J X Z pr pc lv rest M k n := by
  obtain ⟨p, l, e, R, s, m, args, below, meth, co, Γ, D, nL⟩ := X
  intro r hr H locs ls hW hS hl
  exact kk r hr H locs ls hW hS (lv_sub hl ks h)
theorem j_none : J X Z (none : Option ρ) pc lv rest M k n := by
  obtain ⟨p, l, e, R, s, m, args, below, meth, co, Γ, D, nL⟩ := X
  intro r hr
  cases hr
theorem j_lp {σ : Type} {body : (σ → Option ρ) → σ → Option ρ} {lvf : σ → List (Nat × Value)} {Mf : σ → Mem} (hb : ∀ kn : σ → Option ρ, (∀ x, J X Z (kn x) pc (lvf x) [] (Mf x) k n) → ∀ x, J X Z (body kn x) pc (lvf x) [] (Mf x) k n) : ∀ (fu : Nat) (x : σ), J X Z (lp body fu x) pc (lvf x) [] (Mf x) k n := by
  intro fu
  induction fu with
  | zero => intro x; exact j_none
  | succ fu ih => intro x; exact hb (lp body fu) ih x
end JROWS
section JENDS
variable {X : JX} {pc : Nat} {lv : List (Nat × Value)} {M : Mem} {cc : ByteArray} {own : String} {fr lc mc ms : Nat}
theorem j_iret (hC : JC X cc own (some .int) fr lc mc ms) {v : Int32} (hd : decode cc pc = .ok (.ireturn, 1)) : J X (ZN X foI) (some (v, M)) pc lv [.int v] M 0 0 := by
  obtain ⟨p, l, e, R, s, m, args, below, meth, co, Γ, D, nL⟩ := X
  intro r hr H locs ls hW hS hl
  cases hr
  exact W.iret hC.1 hC.2.1 hC.2.2.2.2.2.2.2.2.1 (fun t ht _ => ⟨rfl, by rw [ht]; exact hW, hS.F ht⟩) hS.2.2 hd hC.2.2.2.2.2.2.2.2.2
theorem j_vret (hC : JC X cc own none fr lc mc ms) (hd : decode cc pc = .ok (.return_, 1)) : J X (ZN X foV) (some ((0 : Int32), M)) pc lv [] M 0 0 := by
  obtain ⟨p, l, e, R, s, m, args, below, meth, co, Γ, D, nL⟩ := X
  intro r hr H locs ls hW hS hl
  cases hr
  exact W.vret hC.1 hC.2.1 hC.2.2.2.2.2.2.2.2.1 (fun t ht _ => ⟨rfl, by rw [ht]; exact hW, hS.F ht⟩) hS.2.2 hd hC.2.2.2.2.2.2.2.2.2
end JENDS
