set_option maxRecDepth 100000
/-! the start (printed by gen/mkStart.py) -/
def rIx : List Nat := [17, 19, 21, 23, 25, 27, 33, 35, 170, 178, 186, 120, 125, 211, 130, 134, 142, 147, 151, 153, 155, 216, 218, 220, 250, 242, 244]
def mIx : List Nat := [156, 198, 200, 132, 186, 202, 211, 213, 130, 138, 144, 162, 166, 146, 171, 148, 176, 150, 181, 152, 154, 242, 244, 246, 221, 235, 240]
abbrev rTm (i : Nat) : Term := .string "FeatherYard$Reader" (rIx.getD i 0)
abbrev mTm (i : Nat) : Term := .string "FeatherYardModel" (mIx.getD i 0)
abbrev rVal (i : Nat) : Term := .field (rTm i) "java/lang/String" "value" "[B"
/-- what the Statement gives of text i -/
def needS (i : Nat) : List Cond := [.exactly (rTm i) "java/lang/String", .eq (.field (rTm i) "java/lang/String" "coder" "B") (.int 0), .arrayOf (rVal i) .byte, .eq (.length (rVal i)) (.int (Int32.ofNat (sLen i))), .eq (rTm i) (mTm i)] ++ (List.range (sLen i)).map fun j => .eq (.elem (rVal i) (.int (Int32.ofNat j))) (.int (sCh i j))
theorem need_0 : ∀ c ∈ needS 0, c ∈ flatC (Jvm.Cond.and given_1 narrow_1) := by decide +kernel
theorem need_1 : ∀ c ∈ needS 1, c ∈ flatC (Jvm.Cond.and given_1 narrow_1) := by decide +kernel
theorem need_2 : ∀ c ∈ needS 2, c ∈ flatC (Jvm.Cond.and given_1 narrow_1) := by decide +kernel
theorem need_3 : ∀ c ∈ needS 3, c ∈ flatC (Jvm.Cond.and given_1 narrow_1) := by decide +kernel
theorem need_4 : ∀ c ∈ needS 4, c ∈ flatC (Jvm.Cond.and given_1 narrow_1) := by decide +kernel
theorem need_5 : ∀ c ∈ needS 5, c ∈ flatC (Jvm.Cond.and given_1 narrow_1) := by decide +kernel
theorem need_6 : ∀ c ∈ needS 6, c ∈ flatC (Jvm.Cond.and given_1 narrow_1) := by decide +kernel
theorem need_7 : ∀ c ∈ needS 7, c ∈ flatC (Jvm.Cond.and given_1 narrow_1) := by decide +kernel
theorem need_8 : ∀ c ∈ needS 8, c ∈ flatC (Jvm.Cond.and given_1 narrow_1) := by decide +kernel
theorem need_9 : ∀ c ∈ needS 9, c ∈ flatC (Jvm.Cond.and given_1 narrow_1) := by decide +kernel
theorem need_10 : ∀ c ∈ needS 10, c ∈ flatC (Jvm.Cond.and given_1 narrow_1) := by decide +kernel
theorem need_11 : ∀ c ∈ needS 11, c ∈ flatC (Jvm.Cond.and given_1 narrow_1) := by decide +kernel
theorem need_12 : ∀ c ∈ needS 12, c ∈ flatC (Jvm.Cond.and given_1 narrow_1) := by decide +kernel
theorem need_13 : ∀ c ∈ needS 13, c ∈ flatC (Jvm.Cond.and given_1 narrow_1) := by decide +kernel
theorem need_14 : ∀ c ∈ needS 14, c ∈ flatC (Jvm.Cond.and given_1 narrow_1) := by decide +kernel
theorem need_15 : ∀ c ∈ needS 15, c ∈ flatC (Jvm.Cond.and given_1 narrow_1) := by decide +kernel
theorem need_16 : ∀ c ∈ needS 16, c ∈ flatC (Jvm.Cond.and given_1 narrow_1) := by decide +kernel
theorem need_17 : ∀ c ∈ needS 17, c ∈ flatC (Jvm.Cond.and given_1 narrow_1) := by decide +kernel
theorem need_18 : ∀ c ∈ needS 18, c ∈ flatC (Jvm.Cond.and given_1 narrow_1) := by decide +kernel
theorem need_19 : ∀ c ∈ needS 19, c ∈ flatC (Jvm.Cond.and given_1 narrow_1) := by decide +kernel
theorem need_20 : ∀ c ∈ needS 20, c ∈ flatC (Jvm.Cond.and given_1 narrow_1) := by decide +kernel
theorem need_21 : ∀ c ∈ needS 21, c ∈ flatC (Jvm.Cond.and given_1 narrow_1) := by decide +kernel
theorem need_22 : ∀ c ∈ needS 22, c ∈ flatC (Jvm.Cond.and given_1 narrow_1) := by decide +kernel
theorem need_23 : ∀ c ∈ needS 23, c ∈ flatC (Jvm.Cond.and given_1 narrow_1) := by decide +kernel
theorem need_24 : ∀ c ∈ needS 24, c ∈ flatC (Jvm.Cond.and given_1 narrow_1) := by decide +kernel
theorem need_25 : ∀ c ∈ needS 25, c ∈ flatC (Jvm.Cond.and given_1 narrow_1) := by decide +kernel
theorem need_26 : ∀ c ∈ needS 26, c ∈ flatC (Jvm.Cond.and given_1 narrow_1) := by decide +kernel
theorem need_all : ∀ i, i < 27 → ∀ c ∈ needS i, c ∈ flatC (Jvm.Cond.and given_1 narrow_1) := by
  intro i hi
  match i, hi with
  | 0, _ => exact need_0
  | 1, _ => exact need_1
  | 2, _ => exact need_2
  | 3, _ => exact need_3
  | 4, _ => exact need_4
  | 5, _ => exact need_5
  | 6, _ => exact need_6
  | 7, _ => exact need_7
  | 8, _ => exact need_8
  | 9, _ => exact need_9
  | 10, _ => exact need_10
  | 11, _ => exact need_11
  | 12, _ => exact need_12
  | 13, _ => exact need_13
  | 14, _ => exact need_14
  | 15, _ => exact need_15
  | 16, _ => exact need_16
  | 17, _ => exact need_17
  | 18, _ => exact need_18
  | 19, _ => exact need_19
  | 20, _ => exact need_20
  | 21, _ => exact need_21
  | 22, _ => exact need_22
  | 23, _ => exact need_23
  | 24, _ => exact need_24
  | 25, _ => exact need_25
  | 26, _ => exact need_26
  | n + 27, h => exact absurd h (by omega)
theorem eval_eq {args : Array Value} {s : State} {t u : Term} {a : Nat} (h : (Cond.eq t u).before args s = true) (ht : t.eval args s none [] s = some (.ref a)) : u.eval args s none [] s = some (.ref a) := by
  cases hu : u.eval args s none [] s with
  | none => simp [Cond.before, Cond.holds, Cond.value, ht, hu] at h
  | some w =>
    simp only [Cond.before, Cond.holds, Cond.value, ht, hu] at h
    cases w <;> simp_all
theorem field_of {args : Array Value} {s : State} {t : Term} {a : Nat} {c n d : String} {v : Value} {A : Nat → Prop} (ht : t.eval args s none [] s = some (.ref a)) (hv : (Term.field t c n d).eval args s none [] s = some v) (hA : ∀ a : Nat, a < s.heap.size → ¬ A a) : va_OF c n d v a A s s.heap := by
  cases hfo : s.fieldFound? c n d with
  | none =>
    rw [va_fe ht] at hv
    simp [State.fieldOf?, State.fieldNamed?, hfo] at hv
  | some x =>
    obtain ⟨cf, k, fi, f⟩ := x
    obtain ⟨g1, cell, g2, g3, -, -, g6⟩ := Term.field_spec hfo ht hv
    exact ⟨cf, k, fi, f, cell, hfo, g1, g2, g3, g6, hA _ (Array.getElem?_eq_some_iff.mp g2).1⟩
theorem str_start {b : Nat} {s : State} (hgv : (Jvm.Cond.and given_1 narrow_1).before #[Value.ref b] s = true) {A : Nat → Prop} (hA : ∀ a : Nat, a < s.heap.size → ¬ A a) : ∃ (ad vs : Nat → Nat), ∀ i, i < 27 → ((rTm i).eval #[Value.ref b] s none [] s = some (.ref (ad i)) ∧ (mTm i).eval #[Value.ref b] s none [] s = some (.ref (ad i))) ∧ va_O "java/lang/String" (ad i) A s s.heap ∧ va_OF "java/lang/String" "coder" "B" (.int 0) (ad i) A s s.heap ∧ va_OF "java/lang/String" "value" "[B" (.ref (vs i)) (ad i) A s s.heap ∧ va_T .byte (vs i) (sLen i) (fun j => .int (sCh i j)) A s s.heap := by
  have hs := flat_of_before _ hgv
  have h0 : ∀ i : Nat, ∃ t : Nat × Nat, i < 27 → ((rTm i).eval #[Value.ref b] s none [] s = some (.ref t.1) ∧ (mTm i).eval #[Value.ref b] s none [] s = some (.ref t.1)) ∧ va_O "java/lang/String" t.1 A s s.heap ∧ va_OF "java/lang/String" "coder" "B" (.int 0) t.1 A s s.heap ∧ va_OF "java/lang/String" "value" "[B" (.ref t.2) t.1 A s s.heap ∧ va_T .byte t.2 (sLen i) (fun j => .int (sCh i j)) A s s.heap := by
    intro i
    by_cases hi : i < 27
    · have hn : ∀ c ∈ needS i, c.before #[Value.ref b] s = true := fun c hc => hs c (need_all i hi c hc)
      have hex := hn (.exactly (rTm i) "java/lang/String") (by simp [needS])
      have hco := hn (.eq (.field (rTm i) "java/lang/String" "coder" "B") (.int 0)) (by simp [needS])
      have har := hn (.arrayOf (rVal i) .byte) (by simp [needS])
      have hle := hn (.eq (.length (rVal i)) (.int (Int32.ofNat (sLen i)))) (by simp [needS])
      have heq := hn (.eq (rTm i) (mTm i)) (by simp [needS])
      have hel : ∀ j, j < sLen i → (Cond.eq (.elem (rVal i) (.int (Int32.ofNat j))) (.int (sCh i j))).before #[Value.ref b] s = true := fun j hj => hn _ (List.mem_append.mpr (Or.inr (List.mem_map.mpr ⟨j, List.mem_range.mpr hj, rfl⟩)))
      obtain ⟨a, c, cA, kA, q1, q2, q3, q4, q5, q6, -⟩ := Cond.exactly_spec (args := #[Value.ref b]) (first := s) (o := none) (s := s) (idx := []) (t := rTm i) (cls := "java/lang/String") hex
      have hlen : sLen i < 2 ^ 31 := by
        have : ∀ i, i < 27 → sLen i < 2 ^ 31 := by decide +kernel
        exact this i hi
      obtain ⟨v, hv, hT⟩ := va_Tof (N := sLen i) (f := fun j => .int (sCh i j)) hlen har (va_eqt hle) (fun j hj => va_eqt (hel j hj)) hA
      exact ⟨(a, v), fun _ => ⟨⟨q1, eval_eq heq q1⟩, va_Oof hex q1 hA, field_of q1 (va_eqt hco) hA, field_of q1 hv hA, hT⟩⟩
    · exact ⟨(0, 0), fun h => absurd h hi⟩
  obtain ⟨f, hf⟩ := Classical.axiomOfChoice h0
  exact ⟨fun i => (f i).1, fun i => (f i).2, fun i hi => hf i hi⟩
theorem cls_start {b : Nat} {s : State} (hts : ∀ w ∈ lw_tbl, w.before #[Value.ref b] s = true) : ∃ (dC : Nat → ClassId) (dI : Nat → Nat → Nat), ∀ (k : Nat) (q : vw_C), xcl[k]? = some q → u_Kn s q.1 q.2.1 q.2.2 (dC k) (dI k) := by
  have hts : ∀ w ∈ lw_all, w.before #[Value.ref b] s = true := fun w h => hts w (lw_all_tbl h)
  have h0 : ∀ k : Nat, ∃ t : ClassId × (Nat → Nat), ∀ q : vw_C, xcl[k]? = some q → u_Kn s q.1 q.2.1 q.2.2 t.1 t.2 := by
    intro k
    match k with
    | 0 =>
      obtain ⟨c, i, h⟩ := u_known (C := RX1) (T := TX1) (N := 16) hts in_X1 (hts _ q159)
      exact ⟨(c, i), fun q hq => by cases hq; exact h⟩
    | 1 =>
      obtain ⟨c, i, h⟩ := u_known (C := RX2) (T := TX2) (N := 10) hts in_X2 (hts _ q167)
      exact ⟨(c, i), fun q hq => by cases hq; exact h⟩
    | 2 =>
      obtain ⟨c, i, h⟩ := u_known (C := RX3) (T := TX3) (N := 20) hts in_X3 (hts _ q185)
      exact ⟨(c, i), fun q hq => by cases hq; exact h⟩
    | 3 =>
      obtain ⟨c, i, h⟩ := u_known (C := RX4) (T := TX4) (N := 4) hts in_X4 (hts _ q195)
      exact ⟨(c, i), fun q hq => by cases hq; exact h⟩
    | 4 =>
      obtain ⟨c, i, h⟩ := u_known (C := RX5) (T := TX5) (N := 4) hts in_X5 (hts _ q226)
      exact ⟨(c, i), fun q hq => by cases hq; exact h⟩
    | 5 =>
      obtain ⟨c, i, h⟩ := u_known (C := RX6) (T := TX6) (N := 7) hts in_X6 (hts _ q350)
      exact ⟨(c, i), fun q hq => by cases hq; exact h⟩
    | 6 =>
      obtain ⟨c, i, h⟩ := u_known (C := RX7) (T := TX7) (N := 8) hts in_X7 (hts _ q460)
      exact ⟨(c, i), fun q hq => by cases hq; exact h⟩
    | 7 =>
      obtain ⟨c, i, h⟩ := u_known (C := RX8) (T := TX8) (N := 30) hts in_X8 (hts _ q1459)
      exact ⟨(c, i), fun q hq => by cases hq; exact h⟩
    | 8 =>
      obtain ⟨c, i, h⟩ := u_known (C := RX9) (T := TX9) (N := 3) hts in_X9 (hts _ q930)
      exact ⟨(c, i), fun q hq => by cases hq; exact h⟩
    | 9 =>
      obtain ⟨c, i, h⟩ := u_known (C := RX10) (T := TX10) (N := 1) hts in_X10 (hts _ q941)
      exact ⟨(c, i), fun q hq => by cases hq; exact h⟩
    | 10 =>
      obtain ⟨c, i, h⟩ := u_known (C := RX11) (T := TX11) (N := 2) hts in_X11 (hts _ q955)
      exact ⟨(c, i), fun q hq => by cases hq; exact h⟩
    | 11 =>
      obtain ⟨c, i, h⟩ := u_known (C := RX12) (T := TX12) (N := 2) hts in_X12 (hts _ q978)
      exact ⟨(c, i), fun q hq => by cases hq; exact h⟩
    | 12 =>
      obtain ⟨c, i, h⟩ := u_known (C := RX13) (T := TX13) (N := 1) hts in_X13 (hts _ q991)
      exact ⟨(c, i), fun q hq => by cases hq; exact h⟩
    | 13 =>
      obtain ⟨c, i, h⟩ := u_known (C := RX15) (T := TX15) (N := 3) hts in_X15 (hts _ q1018)
      exact ⟨(c, i), fun q hq => by cases hq; exact h⟩
    | 14 =>
      obtain ⟨c, i, h⟩ := u_known (C := RX16) (T := TX16) (N := 3) hts in_X16 (hts _ q1037)
      exact ⟨(c, i), fun q hq => by cases hq; exact h⟩
    | k + 15 => exact ⟨((0 : Nat), fun _ => 0), fun q hq => by simp [xcl] at hq⟩
  obtain ⟨f, hf⟩ := Classical.axiomOfChoice h0
  exact ⟨fun k => (f k).1, fun k => (f k).2, fun k q hq => hf k q hq⟩
theorem arr_prim {b : Nat} {s : State} {ty : FieldType} (h : (Cond.arrayClass ty).before #[Value.ref b] s = true) : ∃ cA : ClassId, ArrOfT s cA ty ∧ s.vm.findClass ("[" ++ ty.toString) = some cA := by
  obtain ⟨cA, kA, comp, h1, h2, h3⟩ := Cond.arrayClass_spec h
  exact ⟨cA, fun n z => ⟨fun k h => (by cases h), kA, h2, comp, h3⟩, h1⟩
theorem arr_obj {s : State} {C : String} (h : va_AO C s) : ∃ cA : ClassId, ArrOfT s cA (.object C) ∧ va_RA s cA (.object C) := by
  obtain ⟨comp, c, k, h1, h2, h3, h4, h5⟩ := Cond.arrayOver_spec h
  exact ⟨c, fun n z => ⟨fun k h => (by cases h), k, h3, comp, h4⟩, k, comp, h3, h4, h1, h5⟩
theorem cs_of {b : Nat} {s : State} {C T : String} (h : (Cond.castable C T).before #[Value.ref b] s = true) : va_Cs C T s := by
  obtain ⟨c0, t1, f1, f2, f3⟩ := Cond.castable_spec h
  exact ⟨c0, t1, f1, f2, f3⟩
/-- all at once -/
theorem EN_start {b : Nat} {s : State} (hts0 : ∀ w ∈ lw_tbl, w.before #[Value.ref b] s = true) (hgv : (Jvm.Cond.and given_1 narrow_1).before #[Value.ref b] s = true) : ∃ Γ : xG, gdm Γ = (fun _ => false) ∧ gP Γ = [] ∧ EN Γ s.heap.size s := by
  have hts : ∀ w ∈ lw_all, w.before #[Value.ref b] s = true := fun w h => hts0 w (lw_all_tbl h)
  have hs := flat_of_before _ hgv
  have hA : ∀ a : Nat, a < s.heap.size → ¬ (fun q => s.heap.size ≤ q) a := fun a h => Nat.not_le.mpr h
  obtain ⟨ad, vs, hstr⟩ := str_start hgv hA
  obtain ⟨dC, dI, hcl⟩ := cls_start hts0
  obtain ⟨a0, b0, d0⟩ := arr_prim (hts _ q225)
  obtain ⟨a1, b1, d1⟩ := arr_prim (hts _ q224)
  obtain ⟨a2, b2, d2⟩ := arr_prim (hts _ q545)
  obtain ⟨a8, b8, d8⟩ := arr_prim (hts _ q2113)
  have ao3 : va_AO RX4 s := va_AO.of (hts0 _ q191)
  obtain ⟨a3, b3, d3⟩ := arr_obj ao3
  have ao4 : va_AO RX5 s := va_AO.of (hts0 _ q193)
  obtain ⟨a4, b4, d4⟩ := arr_obj ao4
  have ao5 : va_AO RX14 s := va_AO.of (hts0 _ q183)
  obtain ⟨a5, b5, d5⟩ := arr_obj ao5
  have ao6 : va_AO RX3 s := va_AO.of (hts0 _ q458)
  obtain ⟨a6, b6, d6⟩ := arr_obj ao6
  have ao7 : va_AO "java/lang/String" s := va_AO.of (hts0 _ q173)
  obtain ⟨a7, b7, d7⟩ := arr_obj ao7
  refine ⟨(dC, dI, (fun k => [a0, a1, a2, a3, a4, a5, a6, a7, a8].getD k a0), (fun c => ad c.2.2), (fun _ => false), vs, []), rfl, rfl, ⟨hcl, fun k q hq => ?_⟩, ⟨⟨fun q hq => ?_, fun q hq => ?_⟩, fun w hw hn => va_Nw.of (xnest_tabs hn) (hts0 w hw), ao6, ao3, ao4, ao5, ao7, ?_, ?_, ?_, ?_⟩, fun q hq => ?_, ?_, ?_⟩
  · match k, hq with
    | 0, hq => cases hq; exact ⟨b0, d0⟩
    | 1, hq => cases hq; exact ⟨b1, d1⟩
    | 2, hq => cases hq; exact ⟨b2, d2⟩
    | 3, hq => cases hq; exact ⟨b3, d3⟩
    | 4, hq => cases hq; exact ⟨b4, d4⟩
    | 5, hq => cases hq; exact ⟨b5, d5⟩
    | 6, hq => cases hq; exact ⟨b6, d6⟩
    | 7, hq => cases hq; exact ⟨b7, d7⟩
    | 8, hq => cases hq; exact ⟨b8, d8⟩
    | k + 9, hq => simp [xtys] at hq
  · simp only [xcast, List.mem_cons, List.not_mem_nil, or_false] at hq
    rcases hq with rfl | rfl | rfl | rfl | rfl | rfl | rfl | rfl
    · exact cs_of (hts0 _ q2139)
    · exact cs_of (hts0 _ q2140)
    · exact cs_of (hts0 _ q874)
    · exact cs_of (hts0 _ q898)
    · exact cs_of (hts0 _ q1098)
    · exact cs_of (hts0 _ q1113)
    · exact cs_of (hts0 _ q1185)
    · exact cs_of (hts0 _ q351)
  · simp only [xncast, List.mem_cons, List.not_mem_nil, or_false] at hq
    rcases hq with rfl | rfl | rfl | rfl
    · exact va_Nc.of (hs _ (by decide +kernel))
    · exact va_Nc.of (hs _ (by decide +kernel))
    · exact va_Nc.of (hs _ (by decide +kernel))
    · exact va_Nc.of (hs _ (by decide +kernel))
  · exact va_Fw.of (hts0 _ q605) (hts0 _ q604) (hts0 _ q610) (hts0 _ q608) (hts0 _ q606)
  · exact va_Fw.of (hts0 _ q605) (hts0 _ q604) (hts0 _ q636) (hts0 _ q634) (hts0 _ q632)
  · exact va_Fw.of (hts0 _ q605) (hts0 _ q604) (hts0 _ q618) (hts0 _ q616) (hts0 _ q614)
  · exact va_Fw.of (hts0 _ q605) (hts0 _ q604) (hts0 _ q628) (hts0 _ q626) (hts0 _ q624)
  · simp only [strR, List.mem_cons, List.not_mem_nil, or_false] at hq
    rcases hq with rfl | rfl | rfl | rfl | rfl | rfl | rfl | rfl | rfl | rfl | rfl | rfl | rfl | rfl | rfl | rfl | rfl | rfl | rfl | rfl | rfl | rfl | rfl | rfl | rfl | rfl | rfl | rfl | rfl | rfl | rfl | rfl | rfl | rfl | rfl | rfl | rfl | rfl | rfl | rfl | rfl | rfl | rfl | rfl | rfl | rfl | rfl | rfl | rfl | rfl | rfl | rfl | rfl | rfl
    · exact vk_R.of (A := #[Value.ref b]) (hts0 _ q174) (hstr 0 (by decide)).1.1
    · exact vk_R.of (A := #[Value.ref b]) (hts0 _ q175) (hstr 1 (by decide)).1.1
    · exact vk_R.of (A := #[Value.ref b]) (hts0 _ q176) (hstr 2 (by decide)).1.1
    · exact vk_R.of (A := #[Value.ref b]) (hts0 _ q177) (hstr 3 (by decide)).1.1
    · exact vk_R.of (A := #[Value.ref b]) (hts0 _ q178) (hstr 4 (by decide)).1.1
    · exact vk_R.of (A := #[Value.ref b]) (hts0 _ q179) (hstr 5 (by decide)).1.1
    · exact vk_R.of (A := #[Value.ref b]) (hts0 _ q180) (hstr 6 (by decide)).1.1
    · exact vk_R.of (A := #[Value.ref b]) (hts0 _ q181) (hstr 7 (by decide)).1.1
    · exact vk_R.of (A := #[Value.ref b]) (hts0 _ q827) (hstr 8 (by decide)).1.1
    · exact vk_R.of (A := #[Value.ref b]) (hts0 _ q844) (hstr 9 (by decide)).1.1
    · exact vk_R.of (A := #[Value.ref b]) (hts0 _ q849) (hstr 10 (by decide)).1.1
    · exact vk_R.of (A := #[Value.ref b]) (hts0 _ q850) (hstr 11 (by decide)).1.1
    · exact vk_R.of (A := #[Value.ref b]) (hts0 _ q855) (hstr 12 (by decide)).1.1
    · exact vk_R.of (A := #[Value.ref b]) (hts0 _ q860) (hstr 13 (by decide)).1.1
    · exact vk_R.of (A := #[Value.ref b]) (hts0 _ q861) (hstr 14 (by decide)).1.1
    · exact vk_R.of (A := #[Value.ref b]) (hts0 _ q862) (hstr 15 (by decide)).1.1
    · exact vk_R.of (A := #[Value.ref b]) (hts0 _ q863) (hstr 16 (by decide)).1.1
    · exact vk_R.of (A := #[Value.ref b]) (hts0 _ q864) (hstr 17 (by decide)).1.1
    · exact vk_R.of (A := #[Value.ref b]) (hts0 _ q865) (hstr 18 (by decide)).1.1
    · exact vk_R.of (A := #[Value.ref b]) (hts0 _ q866) (hstr 19 (by decide)).1.1
    · exact vk_R.of (A := #[Value.ref b]) (hts0 _ q867) (hstr 20 (by decide)).1.1
    · exact vk_R.of (A := #[Value.ref b]) (hts0 _ q922) (hstr 21 (by decide)).1.1
    · exact vk_R.of (A := #[Value.ref b]) (hts0 _ q923) (hstr 22 (by decide)).1.1
    · exact vk_R.of (A := #[Value.ref b]) (hts0 _ q924) (hstr 23 (by decide)).1.1
    · exact vk_R.of (A := #[Value.ref b]) (hts0 _ q935) (hstr 24 (by decide)).1.1
    · exact vk_R.of (A := #[Value.ref b]) (hts0 _ q1015) (hstr 25 (by decide)).1.1
    · exact vk_R.of (A := #[Value.ref b]) (hts0 _ q1016) (hstr 26 (by decide)).1.1
    · exact vk_R.of (A := #[Value.ref b]) (hts0 _ q1611) (hstr 0 (by decide)).1.2
    · exact vk_R.of (A := #[Value.ref b]) (hts0 _ q1743) (hstr 1 (by decide)).1.2
    · exact vk_R.of (A := #[Value.ref b]) (hts0 _ q1744) (hstr 2 (by decide)).1.2
    · exact vk_R.of (A := #[Value.ref b]) (hts0 _ q1631) (hstr 3 (by decide)).1.2
    · exact vk_R.of (A := #[Value.ref b]) (hts0 _ q1692) (hstr 4 (by decide)).1.2
    · exact vk_R.of (A := #[Value.ref b]) (hts0 _ q1745) (hstr 5 (by decide)).1.2
    · exact vk_R.of (A := #[Value.ref b]) (hts0 _ q1733) (hstr 6 (by decide)).1.2
    · exact vk_R.of (A := #[Value.ref b]) (hts0 _ q1734) (hstr 7 (by decide)).1.2
    · exact vk_R.of (A := #[Value.ref b]) (hts0 _ q1626) (hstr 8 (by decide)).1.2
    · exact vk_R.of (A := #[Value.ref b]) (hts0 _ q1636) (hstr 9 (by decide)).1.2
    · exact vk_R.of (A := #[Value.ref b]) (hts0 _ q1647) (hstr 10 (by decide)).1.2
    · exact vk_R.of (A := #[Value.ref b]) (hts0 _ q1651) (hstr 11 (by decide)).1.2
    · exact vk_R.of (A := #[Value.ref b]) (hts0 _ q1660) (hstr 12 (by decide)).1.2
    · exact vk_R.of (A := #[Value.ref b]) (hts0 _ q1669) (hstr 13 (by decide)).1.2
    · exact vk_R.of (A := #[Value.ref b]) (hts0 _ q1673) (hstr 14 (by decide)).1.2
    · exact vk_R.of (A := #[Value.ref b]) (hts0 _ q1678) (hstr 15 (by decide)).1.2
    · exact vk_R.of (A := #[Value.ref b]) (hts0 _ q1679) (hstr 16 (by decide)).1.2
    · exact vk_R.of (A := #[Value.ref b]) (hts0 _ q1684) (hstr 17 (by decide)).1.2
    · exact vk_R.of (A := #[Value.ref b]) (hts0 _ q1685) (hstr 18 (by decide)).1.2
    · exact vk_R.of (A := #[Value.ref b]) (hts0 _ q1690) (hstr 19 (by decide)).1.2
    · exact vk_R.of (A := #[Value.ref b]) (hts0 _ q1691) (hstr 20 (by decide)).1.2
    · exact vk_R.of (A := #[Value.ref b]) (hts0 _ q1701) (hstr 21 (by decide)).1.2
    · exact vk_R.of (A := #[Value.ref b]) (hts0 _ q1702) (hstr 22 (by decide)).1.2
    · exact vk_R.of (A := #[Value.ref b]) (hts0 _ q1703) (hstr 23 (by decide)).1.2
    · exact vk_R.of (A := #[Value.ref b]) (hts0 _ q1724) (hstr 24 (by decide)).1.2
    · exact vk_R.of (A := #[Value.ref b]) (hts0 _ q1746) (hstr 25 (by decide)).1.2
    · exact vk_R.of (A := #[Value.ref b]) (hts0 _ q1747) (hstr 26 (by decide)).1.2
  · intro i hi
    obtain ⟨-, h1, h2, h3, h4⟩ := hstr i hi
    have hn : ∀ q, AX (dC, dI, (fun k => [a0, a1, a2, a3, a4, a5, a6, a7, a8].getD k a0), (fun c => ad c.2.2), (fun _ => false), vs, []) s.heap.size q → s.heap.size ≤ q := fun q h => h.elim (fun ⟨c, h1, _⟩ => by cases h1) id
    exact ⟨h1.narrow hn, h2.narrow hn, h3.narrow hn, h4.narrow hn⟩
  · have hA2 : ∀ a : Nat, a < s.heap.size → ¬ AX (dC, dI, (fun k => [a0, a1, a2, a3, a4, a5, a6, a7, a8].getD k a0), (fun c => ad c.2.2), (fun _ => false), vs, []) s.heap.size a := fun a h h9 => h9.elim (fun ⟨c, h1, _⟩ => by cases h1) (fun h1 => by omega)
    exact ⟨va_Zof (hts0 _ q784) (hts _ q138) (va_eqi (hs _ (by decide +kernel))) hA2, vx_Zqof (hts0 _ q376) (hts _ q131) (hs _ (by decide +kernel)) hA2, vx_Zqof (hts0 _ q378) (hts _ q131) (hs _ (by decide +kernel)) hA2, va_Zqof (hts0 _ q800) (hts _ q140) (hs _ (by decide +kernel)) hA2⟩
