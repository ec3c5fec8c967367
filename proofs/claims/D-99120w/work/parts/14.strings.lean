set_option maxRecDepth 100000
/-! String.length and String.charAt of the program's texts; Integer.bitCount -/
section JSTR
variable {ρ : Type} {X : JX} {Z : ρ → State → Prop} {pr : Option ρ} {pc : Nat} {lv : List (Nat × Value)} {rest st : List Value} {M : Mem} {k n : Nat} {cc : ByteArray} {own : String} {ret : Option FieldType} {fr lc mc ms : Nat}
theorem j_strValue (hC : JC X cc own ret fr lc mc ms) {i idx : Nat} (hi : i < 27) (hq : Cond.fieldLink own idx "java/lang/String" "value" "[B" ∈ lw_all) (hd : decode cc pc = .ok (.getfield idx, 3)) (kk : J X Z pr (pc + 3) lv (.ref (gsV (XG X) i) :: rest) M k n) : J X Z pr pc lv (.ref (gadr (XG X) (6, 0, i)) :: rest) M k n := by
  obtain ⟨p, l, e, R, s, m, args, below, meth, co, Γ, D, nL⟩ := X
  intro r hr H locs ls hW hS hl
  exact vk_getf hC.1 hC.2.1 (hC.2.2.2.2.2.1.2.2.2.1 i hi).2.2.1 hS hC.2.2.2.1 (hC.2.2.2.2.1 _ hq) (fun _ h => h) hd (kk r hr H locs ls hW hS hl)
theorem j_strCoder (hC : JC X cc own ret fr lc mc ms) {i idx : Nat} (hi : i < 27) (hq : Cond.fieldLink own idx "java/lang/String" "coder" "B" ∈ lw_all) (hd : decode cc pc = .ok (.getfield idx, 3)) (kk : J X Z pr (pc + 3) lv (.int 0 :: rest) M k n) : J X Z pr pc lv (.ref (gadr (XG X) (6, 0, i)) :: rest) M k n := by
  obtain ⟨p, l, e, R, s, m, args, below, meth, co, Γ, D, nL⟩ := X
  intro r hr H locs ls hW hS hl
  exact vk_getf hC.1 hC.2.1 (hC.2.2.2.2.2.1.2.2.2.1 i hi).2.1 hS hC.2.2.2.1 (hC.2.2.2.2.1 _ hq) (fun _ h => h) hd (kk r hr H locs ls hW hS hl)
theorem j_strLen (hC : JC X cc own ret fr lc mc ms) {i : Nat} (hi : i < 27) (hd : decode cc pc = .ok (.arraylength, 1)) (kk : J X Z pr (pc + 1) lv (.int (Int32.ofNat (sLen i)) :: rest) M k n) : J X Z pr pc lv (.ref (gsV (XG X) i) :: rest) M k n := by
  obtain ⟨p, l, e, R, s, m, args, below, meth, co, Γ, D, nL⟩ := X
  intro r hr H locs ls hW hS hl
  obtain ⟨cell, h1, h2, h3, h4, h5, h6, h7⟩ := ((hC.2.2.2.2.2.1.2.2.2.1 i hi).2.2.2).kept hS.2.1
  exact W.alen (n := Int32.ofNat (sLen i)) hC.1 hC.2.1 h1 h2 h5 rfl rfl hd (kk r hr H locs ls hW hS hl)
theorem j_strByte (hC : JC X cc own ret fr lc mc ms) {i : Nat} {x : Int32} (hi : i < 27) (hx : vp_in x (sLen i)) (hd : decode cc pc = .ok (.baload, 1)) (kk : J X Z pr (pc + 1) lv (.int (sCh i x.toNatClampNeg) :: rest) M k n) : J X Z pr pc lv (.int x :: .ref (gsV (XG X) i) :: rest) M k n := by
  obtain ⟨p, l, e, R, s, m, args, below, meth, co, Γ, D, nL⟩ := X
  intro r hr H locs ls hW hS hl
  obtain ⟨cell, h1, h2, h3, h4, h5, h6, h7⟩ := ((hC.2.2.2.2.2.1.2.2.2.1 i hi).2.2.2).kept hS.2.1
  have hlt := vin_lt hx
  exact W.bald (v := .int (sCh i x.toNatClampNeg)) hC.1 hC.2.1 h1 h2 h3 (fun q => q.elim (fun q => hx (Or.inl q)) (fun q => by omega)) (h6 _ hlt) rfl rfl hd (kk r hr H locs ls hW hS hl)
theorem j_compact (hC : JC X cc own ret fr lc mc ms) {idx : Nat} (hq : Cond.fieldLink own idx "java/lang/String" "COMPACT_STRINGS" "Z" ∈ lw_all) (hd : decode cc pc = .ok (.getstatic idx, 3)) (kk : J X Z pr (pc + 3) lv (.int 1 :: rest) M k n) : J X Z pr pc lv rest M k n := by
  obtain ⟨p, l, e, R, s, m, args, below, meth, co, Γ, D, nL⟩ := X
  intro r hr H locs ls hW hS hl
  exact va_gets hC.1 hC.2.1 hC.2.2.2.2.2.1.2.2.2.2.1 hS hC.2.2.2.1 (hC.2.2.2.2.1 _ hq) (fun _ h => h) hd (kk r hr H locs ls hW hS hl)
theorem j_formatter (hC : JC X cc own ret fr lc mc ms) {idx : Nat} (hq : Cond.fieldLink own idx "jdk/internal/util/Preconditions" "SIOOBE_FORMATTER" "Ljava/util/function/BiFunction;" ∈ lw_all) (hd : decode cc pc = .ok (.getstatic idx, 3)) (kk : ∀ v : Value, v.category = 1 → J X Z pr (pc + 3) lv (v :: rest) M k n) : J X Z pr pc lv rest M k n := by
  obtain ⟨p, l, e, R, s, m, args, below, meth, co, Γ, D, nL⟩ := X
  intro r hr H locs ls hW hS hl
  rcases hC.2.2.2.2.2.1.2.2.2.2.2.2.2 with h | ⟨t, h⟩
  · exact va_gets hC.1 hC.2.1 h hS hC.2.2.2.1 (hC.2.2.2.2.1 _ hq) (fun _ h => h) hd (kk .null rfl r hr H locs ls hW hS hl)
  · exact va_gets hC.1 hC.2.1 h hS hC.2.2.2.1 (hC.2.2.2.2.1 _ hq) (fun _ h => h) hd (kk (.ref t) rfl r hr H locs ls hW hS hl)
theorem j_i2c (hC : JC X cc own ret fr lc mc ms) {x : Int32} (hd : decode cc pc = .ok (.i2c, 1)) (kk : J X Z pr (pc + 1) lv (.int (x.toUInt32 % 65536).toInt32 :: rest) M k n) : J X Z pr pc lv (.int x :: rest) M k n := by
  obtain ⟨p, l, e, R, s, m, args, below, meth, co, Γ, D, nL⟩ := X
  intro r hr H locs ls hW hS hl
  exact lv_i2c hC.1 hC.2.1 hd rfl (kk r hr H locs ls hW hS hl)
/-- a call upon a text -/
theorem j_callStr {y : MethodName} {bytes : ByteArray} {maxL fr' lc' idx : Nat} {retc : Option FieldType} {i : Nat} {fo : Int32 → Option Value} {g : Option (Int32 × Mem)} {kont : Int32 → Mem → Option ρ} (hi : i < 27)
    (hC : JC X cc own ret fr lc mc ms) (As : List Value) {nA : Nat} (hnA : As.length = nA) (hM : ∀ r, g = some r → CN (XL X) y (ws_ y bytes maxL retc) fr' lc' (XG X) (XD X) (.ref (gadr (XG X) (6, 0, i)) :: As) M (fo r.1) r.2)
    (h1 : Cond.methodLink own idx y ∈ lw_all) (h2 : Cond.instanceMethod y ∈ lw_all) (h3 : Cond.selects "java/lang/String" y y ∈ lw_all) (h4 : Cond.initialized "java/lang/String" ∈ lw_all) (h5 : Cond.code y bytes maxL retc ∈ lw_all)
    (hdesc : y.cls = "java/lang/String" ∧ y.cls ≠ "java/lang/invoke/MethodHandle" ∧ y.cls ≠ "java/lang/invoke/VarHandle" ∧ (parseMethodDescriptor y.desc).map (fun d => d.parameters.length) = some nA)
    (hfr : Nat.ble (fr' + 1) fr = true) (hlc : Nat.ble (8 + (maxL + 11) + lc') lc = true) (hst : st = As.reverse ++ .ref (gadr (XG X) (6, 0, i)) :: rest) (hrm : Nat.ble ((rest.map fun v => v.category).sum) 8 = true) (hk : Nat.ble k mc = true) (hn : Nat.ble n ms = true)
    (hd : decode cc pc = .ok (.invokevirtual idx, 3)) (st2 : Int32 → List Value) (hs2 : ∀ v, (fo v).toList ++ rest = st2 v) (kk : ∀ v M1, J X Z (kont v M1) (pc + 3) lv (st2 v) M1 k n) : J X Z (bd g kont) pc lv st M k n := by
  obtain ⟨p, l, e, R, s, m, args, below, meth, co, Γ, D, nL⟩ := X
  subst hst
  intro r hr H locs ls hW hS hl
  cases hg : g with
  | none => rw [hg] at hr; cases hr
  | some q =>
    obtain ⟨v, M1⟩ := q
    rw [hg] at hr
    have hr : kont v M1 = some r := hr
    have hR := hC.2.2.2.2.2.2.2.1
    obtain ⟨cell, g1, g2, g3, -⟩ := (hC.2.2.2.2.2.1.2.2.2.1 i hi).1.kept hS.2.1
    have run := va_runV (l := l) (R := R) (e := e) (below := below) (meth := meth) (rest := rest) (As := As) (g := F0 m pc ls (As.reverse ++ .ref (gadr Γ (6, 0, i)) :: rest)) (locs := locs) (cells := k) (slots := n) ⟨hC.1, hC.2.1, hC.2.2.1, hC.2.2.2.1, hC.2.2.2.2.1⟩ (hM (v, M1) hg H.size) (cwV nA hC.2.2.2.2.1 (lw_V h1 h2 h3 h4 h5) rfl rfl rfl hdesc ⟨by rw [hR]; exact Nat.le_of_ble_eq_true hfr, by rw [hR]; exact Nat.le_of_ble_eq_true hlc⟩)
      ⟨Pre.blind, ⟨cell, g1, g2, g3⟩, fun U hU hWm => ⟨rfl, by rw [hU], by rw [hU]; exact hW, hC.2.2.2.2.2.1.pass hS hU hWm, hC.2.2.2.2.2.2.1⟩⟩ rfl hnA hl.1 rfl (lv_room (Nat.le_of_ble_eq_true hrm)) hd ⟨by rw [hR]; exact Nat.le_of_ble_eq_true hk, by rw [hR]; exact Nat.le_of_ble_eq_true hn⟩
    intro T0 hT X0
    obtain ⟨v0, st₀, t, T', L, e0, X', hL, e1, e2, ⟨hv, hWd, hF⟩, hgo⟩ := run T0 hT X0
    cases hv
    obtain ⟨-, -, k3⟩ := vx_keep e0 e1 hS (fun q _ h => AX_mono hS.1 q h) (fun q h => AX_mono hS.1 q h) hL hF
    have kk := kk v M1
    rw [← hs2] at kk
    obtain ⟨t2, a1, b1⟩ := kk r hr T'.heap (locs ++ L) ls (by rw [e1]; exact hWd) k3 hl T' rfl X'
    exact ⟨t2, hgo t2 a1, b1⟩
end JSTR
theorem j_retG {X : JX} {pc : Nat} {lv : List (Nat × Value)} {M : Mem} {cc : ByteArray} {own : String} {fr lc mc ms : Nat} {ty : FieldType} (hC : JC X cc own (some ty) fr lc mc ms) {v w : Int32} (hw : narrow ty (.int v) = .int w) (hd : decode cc pc = .ok (.ireturn, 1)) : J X (ZN X foI) (some (w, M)) pc lv [.int v] M 0 0 := by
  obtain ⟨p, l, e, R, s, m, args, below, meth, co, Γ, D, nL⟩ := X
  intro r hr H locs ls hW hS hl
  cases hr
  exact W_zretG hC.1 hC.2.1 hC.2.2.2.2.2.2.2.2.1 hw (fun t ht _ => ⟨rfl, by rw [ht]; exact hW, hS.F ht⟩) hS.2.2 hd hC.2.2.2.2.2.2.2.2.2
/-- the pure programs -/
def FJ3_length (q : Nat) (M : Mem) : Option (Int32 × Mem) := some (Int32.ofNat (sLen q), M)
def FJ3_charAt (q : Nat) (M : Mem) (x : Int32) : Option (Int32 × Mem) := gd x (sLen q) (some (sCh q x.toNatClampNeg, M))
theorem sCh_char (q j : Nat) : narrow .char (.int ((sCh q j &&& 255).toUInt32 % 65536).toInt32) = .int (sCh q j) := by
  by_cases hq : q < 27
  · by_cases hj : j < 8
    · have h : ∀ q, q < 27 → ∀ j, j < 8 → narrow .char (.int ((sCh q j &&& 255).toUInt32 % 65536).toInt32) = .int (sCh q j) := by decide +kernel
      exact h q hq j hj
    · have e : sCh q j = 0 := by
        have h : ∀ q, q < 27 → (strB.getD q []).length ≤ 8 := by decide +kernel
        have := h q hq
        unfold sCh
        rw [List.getD_eq_getElem?_getD, List.getElem?_eq_none (by omega)]
        rfl
      rw [e]; decide
  · have e : sCh q j = 0 := by
      have hl : strB.length = 27 := by decide
      have e0 : strB.getD q [] = [] := by
        rw [List.getD_eq_getElem?_getD, List.getElem?_eq_none (by rw [hl]; omega)]
        rfl
      unfold sCh
      rw [e0]
      rfl
    rw [e]; decide
section JSTR2
theorem mJ3_coder (l : Launch) (Γ : xG) (D : List LDen) (q : Nat) (hq : q < 27) (M : Mem) (r : Int32 × Mem) (hr : some ((0 : Int32), M) = some r) : CN l yJ3_coder (ws_ yJ3_coder cJ3_coder 1 (some .byte)) 1 12 Γ D [.ref (gadr Γ (6, 0, q))] M (foI r.1) r.2 := by
  refine CN.of (own := RJ3) (lv0 := lv_args 0 [.ref (gadr Γ (6, 0, q))]) (by decide +kernel) rfl (Nat.le_of_ble_eq_true rfl) rfl (fun X e1 e2 e3 e4 hC => ?_) r hr
  subst e1
  refine j_compact hC q783 dJ3_coder_0 ?_
  have hh : (if (1 : Int32) = 0 then (none : Option (Int32 × Mem)) else some ((0 : Int32), M)) = some ((0 : Int32), M) := rfl
  rw [← hh]
  refine j_if_eq (tgt := 13) hC dJ3_coder_3 (by decide) (fun h => absurd h (by decide)) (fun _ => ?_)
  refine j_aload_n hC 0 dJ3_coder_6 rfl ?_
  refine j_strCoder hC hq q2142 dJ3_coder_7 ?_
  refine j_goto (tgt := 14) hC dJ3_coder_10 (by decide) ?_
  exact j_retG hC rfl dJ3_coder_14
theorem mJ3_isLatin1 (l : Launch) (Γ : xG) (D : List LDen) (q : Nat) (hq : q < 27) (M : Mem) (r : Int32 × Mem) (hr : some ((1 : Int32), M) = some r) : CN l yJ3_isLatin1 (ws_ yJ3_isLatin1 cJ3_isLatin1 1 (some .boolean)) 1 12 Γ D [.ref (gadr Γ (6, 0, q))] M (foI r.1) r.2 := by
  refine CN.of (own := RJ3) (lv0 := lv_args 0 [.ref (gadr Γ (6, 0, q))]) (by decide +kernel) rfl (Nat.le_of_ble_eq_true rfl) rfl (fun X e1 e2 e3 e4 hC => ?_) r hr
  subst e1
  refine j_compact hC q783 dJ3_isLatin1_0 ?_
  have hh : (if (1 : Int32) = 0 then (none : Option (Int32 × Mem)) else some ((1 : Int32), M)) = some ((1 : Int32), M) := rfl
  have hh2 : (if (0 : Int32) = 0 then some ((1 : Int32), M) else (none : Option (Int32 × Mem))) = some ((1 : Int32), M) := rfl
  rw [← hh]
  refine j_if_eq (tgt := 17) hC dJ3_isLatin1_3 (by decide) (fun h => absurd h (by decide)) (fun _ => ?_)
  refine j_aload_n hC 0 dJ3_isLatin1_6 rfl ?_
  refine j_strCoder hC hq q2142 dJ3_isLatin1_7 ?_
  rw [← hh2]
  refine j_if_ne (tgt := 17) hC dJ3_isLatin1_10 (by decide) (fun _ => ?_) (fun h => absurd rfl h)
  refine j_iconst (v := 1) hC dJ3_isLatin1_13 (by decide) ?_
  refine j_goto (tgt := 18) hC dJ3_isLatin1_14 (by decide) ?_
  exact j_retG hC rfl dJ3_isLatin1_18
theorem mJ3_length (l : Launch) (Γ : xG) (D : List LDen) (q : Nat) (hq : q < 27) (M : Mem) (r : Int32 × Mem) (hr : FJ3_length q M = some r) : CN l yJ3_length (ws_ yJ3_length cJ3_length 1 (some .int)) 2 40 Γ D [.ref (gadr Γ (6, 0, q))] M (foI r.1) r.2 := by
  refine CN.of (own := RJ3) (lv0 := lv_args 0 [.ref (gadr Γ (6, 0, q))]) (by decide +kernel) rfl (Nat.le_of_ble_eq_true rfl) rfl (fun X e1 e2 e3 e4 hC => ?_) r hr
  subst e1
  subst e2
  unfold FJ3_length
  have hh : bd (some ((0 : Int32), M)) (fun v M1 => if v = 0 then some (Int32.ofNat (sLen q), M1) else none) = some (Int32.ofNat (sLen q), M) := rfl
  rw [← hh]
  refine j_aload_n hC 0 dJ3_length_0 rfl ?_
  refine j_strValue hC hq q2141 dJ3_length_1 ?_
  refine j_strLen hC hq dJ3_length_4 ?_
  refine j_aload_n hC 0 dJ3_length_5 rfl ?_
  refine j_callStr (nA := 0) hq (rest := [.int (Int32.ofNat (sLen q))]) hC [] rfl (fun r hr => mJ3_coder (XL X) (XG X) (XD X) q hq M r hr) q779 q780 q781 q138 q782 (by decide +kernel) rfl rfl rfl rfl rfl rfl dJ3_length_6 (fun v => [.int v, .int (Int32.ofNat (sLen q))]) (fun _ => rfl) (fun v M1 => ?_)
  by_cases hv : v = 0
  · subst hv
    rw [if_pos rfl]
    refine j_ishr hC dJ3_length_9 ?_
    have e : Int32.ofNat (sLen q) >>> ((0 : Int32) &&& 31) = Int32.ofNat (sLen q) := by
      have h : ∀ q, q < 27 → Int32.ofNat (sLen q) >>> ((0 : Int32) &&& 31) = Int32.ofNat (sLen q) := by decide +kernel
      exact h q hq
    rw [e]
    exact j_iret hC dJ3_length_10
  · rw [if_neg hv]; exact j_none
/-- Preconditions.checkIndex of an index within -/
theorem mJ5_checkIndex (l : Launch) (Γ : xG) (D : List LDen) (M : Mem) (x y : Int32) (w : Value) (hw : w.category = 1) (h0 : ¬ x < 0) (h1 : x < y) (r : Int32 × Mem) (hr : some (x, M) = some r) : CN l yJ5_checkIndex (ws_ yJ5_checkIndex cJ5_checkIndex 3 (some .int)) 1 12 Γ D [.int x, .int y, w] M (foI r.1) r.2 := by
  have hlv : lv_args 0 [.int x, .int y, w] = [(0, .int x), (1, .int y), (2, w)] := by simp [lv_args, hw, Value.category]
  have hlen : (lg_sl [.int x, .int y, w]).length ≤ 3 := by
    cases w <;> first | exact Nat.le_of_ble_eq_true rfl | (exfalso; simp [Value.category] at hw)
  refine CN.of (own := RJ5) (lv0 := [(0, .int x), (1, .int y), (2, w)]) (by decide +kernel) rfl hlen hlv (fun X e1 e2 e3 e4 hC => ?_) r hr
  have hh : (if x < 0 then (none : Option (Int32 × Mem)) else if x < y then some (x, M) else none) = some (x, M) := by rw [if_neg h0, if_pos h1]
  rw [← hh]
  refine j_iload_n hC 0 dJ5_checkIndex_0 rfl ?_
  refine j_if_lt (tgt := 9) hC dJ5_checkIndex_1 (by decide) (fun h => absurd h h0) (fun _ => ?_)
  refine j_iload_n hC 0 dJ5_checkIndex_4 rfl ?_
  refine j_iload_n hC 1 dJ5_checkIndex_5 rfl ?_
  refine j_icmp_lt (tgt := 16) hC dJ5_checkIndex_6 (by decide) (fun _ => ?_) (fun h => absurd h1 h)
  refine j_iload_n hC 0 dJ5_checkIndex_16 rfl ?_
  exact j_iret hC dJ5_checkIndex_17
theorem mJ3_checkIndex (l : Launch) (Γ : xG) (D : List LDen) (M : Mem) (x y : Int32) (h0 : ¬ x < 0) (h1 : x < y) (r : Int32 × Mem) (hr : some ((0 : Int32), M) = some r) : CN l yJ3_checkIndex (ws_ yJ3_checkIndex cJ3_checkIndex 2 none) 2 40 Γ D [.int x, .int y] M (foV r.1) r.2 := by
  refine CN.of (own := RJ3) (lv0 := lv_args 0 [.int x, .int y]) (by decide +kernel) rfl (Nat.le_of_ble_eq_true rfl) rfl (fun X e1 e2 e3 e4 hC => ?_) r hr
  subst e1
  subst e2
  have hh : bd (some (x, M)) (fun v M1 => some ((0 : Int32), M1)) = some ((0 : Int32), M) := rfl
  rw [← hh]
  refine j_iload_n hC 0 dJ3_checkIndex_0 rfl ?_
  refine j_iload_n hC 1 dJ3_checkIndex_1 rfl ?_
  refine j_formatter hC q799 dJ3_checkIndex_2 (fun w hw => ?_)
  refine j_callS (nA := 3) (rest := []) hC [.int x, .int y, w] rfl (fun r hr => mJ5_checkIndex (XL X) (XG X) (XD X) M x y w hw h0 h1 r hr) q801 q802 q140 q803 (by decide +kernel) rfl rfl rfl rfl rfl rfl dJ3_checkIndex_5 (fun v => [.int v]) (fun _ => rfl) (fun v M1 => ?_)
  refine j_pop hC dJ3_checkIndex_8 rfl ?_
  exact j_vret hC dJ3_checkIndex_9
theorem sLen_pos {q : Nat} (hq : q < 27) {x : Int32} (h : vp_in x (sLen q)) : x < Int32.ofNat (sLen q) := by
  have h27 : ∀ q, q < 27 → sLen q < 100 := by decide +kernel
  have h1 := vin_lt h
  have h2 := h27 q hq
  have h0 : ¬ x < 0 := fun z => h (Or.inl z)
  rw [Int32.lt_iff_toInt_lt] at h0 ⊢
  have e : (Int32.ofNat (sLen q)).toInt = (sLen q : Int) := by
    rw [Int32.toInt_ofNat_of_lt (by omega)]
  rw [e]
  have : (0 : Int32).toInt = 0 := by decide
  have hx : x.toNatClampNeg = x.toInt.toNat := rfl
  omega
theorem mJ4_charAt (l : Launch) (Γ : xG) (D : List LDen) (q : Nat) (hq : q < 27) (M : Mem) (x : Int32) (hx : vp_in x (sLen q)) (r : Int32 × Mem) (hr : some (sCh q x.toNatClampNeg, M) = some r) : CN l yJ4_charAt (ws_ yJ4_charAt cJ4_charAt 2 (some .char)) 3 80 Γ D [.ref (gsV Γ q), .int x] M (foI r.1) r.2 := by
  refine CN.of (own := RJ4) (lv0 := lv_args 0 [.ref (gsV Γ q), .int x]) (by decide +kernel) rfl (Nat.le_of_ble_eq_true rfl) rfl (fun X e1 e2 e3 e4 hC => ?_) r hr
  subst e1
  subst e2
  have hh : bd (some ((0 : Int32), M)) (fun v M1 => some (sCh q x.toNatClampNeg, M1)) = some (sCh q x.toNatClampNeg, M) := rfl
  rw [← hh]
  refine j_iload_n hC 1 dJ4_charAt_0 rfl ?_
  refine j_aload_n hC 0 dJ4_charAt_1 rfl ?_
  refine j_strLen hC hq dJ4_charAt_2 ?_
  refine j_callS (nA := 2) (rest := []) hC [.int x, .int (Int32.ofNat (sLen q))] rfl (fun r hr => mJ3_checkIndex (XL X) (XG X) (XD X) M x _ (fun z => hx (Or.inl z)) (sLen_pos hq hx) r hr) q796 q797 q138 q798 (by decide +kernel) rfl rfl rfl rfl rfl rfl dJ4_charAt_3 (fun _ => []) (fun _ => rfl) (fun v M1 => ?_)
  refine j_aload_n hC 0 dJ4_charAt_6 rfl ?_
  refine j_iload_n hC 1 dJ4_charAt_7 rfl ?_
  refine j_strByte hC hq hx dJ4_charAt_8 ?_
  refine j_sipush (v := 255) hC dJ4_charAt_9 (by decide) ?_
  refine j_iand hC dJ4_charAt_12 ?_
  refine j_i2c hC dJ4_charAt_13 ?_
  exact j_retG hC (sCh_char q _) dJ4_charAt_14
theorem narrow_idem_char (q j : Nat) : narrow .char (.int (sCh q j)) = .int (sCh q j) := by
  by_cases hq : q < 27
  · by_cases hj : j < 8
    · have h : ∀ q, q < 27 → ∀ j, j < 8 → narrow .char (.int (sCh q j)) = .int (sCh q j) := by decide +kernel
      exact h q hq j hj
    · have e : sCh q j = 0 := by
        have h : ∀ q, q < 27 → (strB.getD q []).length ≤ 8 := by decide +kernel
        have := h q hq
        unfold sCh
        rw [List.getD_eq_getElem?_getD, List.getElem?_eq_none (by omega)]
        rfl
      rw [e]; decide
  · have e : sCh q j = 0 := by
      have hl : strB.length = 27 := by decide
      have e0 : strB.getD q [] = [] := by
        rw [List.getD_eq_getElem?_getD, List.getElem?_eq_none (by rw [hl]; omega)]
        rfl
      unfold sCh
      rw [e0]
      rfl
    rw [e]; decide
theorem mJ3_charAt (l : Launch) (Γ : xG) (D : List LDen) (q : Nat) (hq : q < 27) (M : Mem) (x : Int32) (r : Int32 × Mem) (hr : FJ3_charAt q M x = some r) : CN l yJ3_charAt (ws_ yJ3_charAt cJ3_charAt 2 (some .char)) 4 120 Γ D [.ref (gadr Γ (6, 0, q)), .int x] M (foI r.1) r.2 := by
  refine CN.of (own := RJ3) (lv0 := lv_args 0 [.ref (gadr Γ (6, 0, q)), .int x]) (by decide +kernel) rfl (Nat.le_of_ble_eq_true rfl) rfl (fun X e1 e2 e3 e4 hC => ?_) r hr
  subst e1
  subst e2
  unfold FJ3_charAt
  refine j_gd (fun hx => ?_)
  have hh : bd (some ((1 : Int32), M)) (fun v M1 => if v = 0 then none else bd (some (sCh q x.toNatClampNeg, M1)) (fun v2 M2 => if v2 = sCh q x.toNatClampNeg then some (v2, M2) else none)) = some (sCh q x.toNatClampNeg, M) := by
    show (if (1 : Int32) = 0 then (none : Option (Int32 × Mem)) else if sCh q x.toNatClampNeg = sCh q x.toNatClampNeg then some (sCh q x.toNatClampNeg, M) else none) = _
    rw [if_neg (by decide), if_pos rfl]
  rw [← hh]
  refine j_aload_n hC 0 dJ3_charAt_0 rfl ?_
  refine j_callStr (nA := 0) hq (rest := []) hC [] rfl (fun r hr => mJ3_isLatin1 (XL X) (XG X) (XD X) q hq M r hr) q789 q790 q791 q138 q792 (by decide +kernel) rfl rfl rfl rfl rfl rfl dJ3_charAt_1 (fun v => [.int v]) (fun _ => rfl) (fun v M1 => ?_)
  refine j_if_eq (tgt := 16) hC dJ3_charAt_4 (by decide) (fun _ => j_none) (fun _ => ?_)
  refine j_aload_n hC 0 dJ3_charAt_7 rfl ?_
  refine j_strValue hC hq q2141 dJ3_charAt_8 ?_
  refine j_iload_n hC 1 dJ3_charAt_11 rfl ?_
  refine j_callS (nA := 2) (rest := []) hC [.ref (gsV (XG X) q), .int x] rfl (fun r hr => mJ4_charAt (XL X) (XG X) (XD X) q hq M1 x hx r hr) q793 q794 q139 q795 (by decide +kernel) rfl rfl rfl rfl rfl rfl dJ3_charAt_12 (fun v => [.int v]) (fun _ => rfl) (fun v2 M2 => ?_)
  by_cases hv : v2 = sCh q x.toNatClampNeg
  · rw [if_pos hv, hv]
    exact j_retG hC (narrow_idem_char q _) dJ3_charAt_15
  · rw [if_neg hv]; exact j_none
end JSTR2
