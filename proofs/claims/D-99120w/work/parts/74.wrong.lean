set_option maxRecDepth 100000
/-! Wrong: Throwable's constructor of four (printed by gen/mkCtor.py) -/
theorem kcJ0 (l : Launch) (Γ : xG) (hg : gdm Γ = fun _ => false) (sz0 a : Nat) : CK l yJ0_init_2 (ws_ yJ0_init_2 cJ0_init_2 5 none) 1 32 0 0 Γ sz0 [.ref a, .null, .null, .int 0, .int 0] a (.inr (5, [.null, .null, .null, .null, .null, .int 0, .int 0])) (fun w => w = [(a, .inr (5, [.null, .null, .null, .null, .null, .int 0, .int 0]))]) := by
  refine CK.of hg (own := RJ0) (lv0 := lv_args 0 [.ref a, .null, .null, .int 0, .int 0]) (by decide +kernel) rfl rfl (Nat.le_of_ble_eq_true rfl) rfl (fun X e1 e2 hnl hC hI hE => ?_)
  subst e1
  refine k_aload_n hC 0 dJ0_init_2_0 rfl ?_
  refine k_objInit hC q374 rfl rfl rfl dJ0_init_2_1 ?_
  refine k_aload_n hC 0 dJ0_init_2_4 rfl ?_
  refine k_aload_n hC 0 dJ0_init_2_5 rfl ?_
  refine k_put (fk := 0) (ty := (.object "java/lang/Throwable")) (P' := ([(a, .inr (5, [.ref a, .null, .null, .null, .null, .int 0, .int 0]))] ++ [])) hC 0 rfl rfl in_X6 rfl (Or.inl rfl) q410 tyX6 tyX6_ok nmX6 rfl (by decide +kernel) rfl rfl rfl rfl dJ0_init_2_6 ?_
  refine k_aload_n hC 0 dJ0_init_2_9 rfl ?_
  refine k_gets hC hE (fun _ _ _ h => h.2.1.1) q375 rfl dJ0_init_2_10 (fun b10 => ?_)
  refine k_put (fk := 1) (ty := (.array (.object "java/lang/StackTraceElement"))) (P' := ([(a, .inr (5, [.ref a, va_rf b10, .null, .null, .null, .int 0, .int 0]))] ++ [])) hC 0 rfl rfl in_X6 rfl (Or.inl rfl) q411 tyX6 tyX6_ok nmX6 rfl (by decide +kernel) (by cases b10 <;> rfl) (by cases b10 <;> rfl) rfl rfl dJ0_init_2_13 ?_
  refine k_aload_n hC 0 dJ0_init_2_16 rfl ?_
  refine k_gets hC hE (fun _ _ _ h => h.2.2.1.1) q377 rfl dJ0_init_2_17 (fun b17 => ?_)
  refine k_put (fk := 2) (ty := (.object "java/util/List")) (P' := ([(a, .inr (5, [.ref a, va_rf b10, va_rf b17, .null, .null, .int 0, .int 0]))] ++ [])) hC 0 rfl rfl in_X6 rfl (Or.inl rfl) q412 tyX6 tyX6_ok nmX6 rfl (by decide +kernel) (by cases b17 <;> rfl) (by cases b17 <;> rfl) rfl rfl dJ0_init_2_20 ?_
  refine k_iload hC 4 dJ0_init_2_23 rfl ?_
  refine k_ifeqT (tgt := 36) hC dJ0_init_2_25 (by decide) rfl ?_
  refine k_aload_n hC 0 dJ0_init_2_36 rfl ?_
  refine k_null hC dJ0_init_2_37 ?_
  refine k_put (fk := 1) (ty := (.array (.object "java/lang/StackTraceElement"))) (P' := ([(a, .inr (5, [.ref a, .null, va_rf b17, .null, .null, .int 0, .int 0]))] ++ [])) hC 0 rfl rfl in_X6 rfl (Or.inl rfl) q411 tyX6 tyX6_ok nmX6 rfl (by decide +kernel) rfl rfl rfl rfl dJ0_init_2_38 ?_
  refine k_aload_n hC 0 dJ0_init_2_41 rfl ?_
  refine k_aload_nN hC 1 dJ0_init_2_42 rfl ?_
  refine k_put (fk := 3) (ty := (.object "java/lang/String")) (P' := ([(a, .inr (5, [.ref a, .null, va_rf b17, .null, .null, .int 0, .int 0]))] ++ [])) hC 0 rfl rfl in_X6 rfl (Or.inl rfl) q409 tyX6 tyX6_ok nmX6 rfl (by decide +kernel) rfl rfl rfl rfl dJ0_init_2_43 ?_
  refine k_aload_n hC 0 dJ0_init_2_46 rfl ?_
  refine k_aload_nN hC 2 dJ0_init_2_47 rfl ?_
  refine k_put (fk := 0) (ty := (.object "java/lang/Throwable")) (P' := ([(a, .inr (5, [.null, .null, va_rf b17, .null, .null, .int 0, .int 0]))] ++ [])) hC 0 rfl rfl in_X6 rfl (Or.inl rfl) q410 tyX6 tyX6_ok nmX6 rfl (by decide +kernel) rfl rfl rfl rfl dJ0_init_2_48 ?_
  refine k_iload_n hC 3 dJ0_init_2_51 rfl ?_
  refine k_ifneF (tgt := 60) hC dJ0_init_2_52 (by decide) rfl ?_
  refine k_aload_n hC 0 dJ0_init_2_55 rfl ?_
  refine k_null hC dJ0_init_2_56 ?_
  refine k_put (fk := 2) (ty := (.object "java/util/List")) (P' := ([(a, .inr (5, [.null, .null, .null, .null, .null, .int 0, .int 0]))] ++ [])) hC 0 rfl rfl in_X6 rfl (Or.inl rfl) q412 tyX6 tyX6_ok nmX6 rfl (by decide +kernel) rfl rfl rfl rfl dJ0_init_2_57 ?_
  exact k_vret hC rfl rfl rfl dJ0_init_2_60
theorem kcJ1 (l : Launch) (Γ : xG) (hg : gdm Γ = fun _ => false) (sz0 a : Nat) : CK l yJ1_init (ws_ yJ1_init cJ1_init 5 none) 2 56 0 0 Γ sz0 [.ref a, .null, .null, .int 0, .int 0] a (.inr (5, [.null, .null, .null, .null, .null, .int 0, .int 0])) (fun w => w = [(a, .inr (5, [.null, .null, .null, .null, .null, .int 0, .int 0]))]) := by
  refine CK.of hg (own := RJ1) (lv0 := lv_args 0 [.ref a, .null, .null, .int 0, .int 0]) (by decide +kernel) rfl rfl (Nat.le_of_ble_eq_true rfl) rfl (fun X e1 e2 hnl hC hI hE => ?_)
  subst e1
  refine k_aload_n hC 0 dJ1_init_0 rfl ?_
  refine k_aload_nN hC 1 dJ1_init_1 rfl ?_
  refine k_aload_nN hC 2 dJ1_init_2 rfl ?_
  refine k_iload_n hC 3 dJ1_init_3 rfl ?_
  refine k_iload hC 4 dJ1_init_4 rfl ?_
  refine k_init (nA := 4) (rest := []) hC hE (Or.inl rfl) [.null, .null, .int 0, .int 0] rfl (kcJ0 (XL X) (XG X) hg sz0 a) q403 q404 q131 q405 rfl (by decide +kernel) rfl rfl rfl rfl rfl rfl dJ1_init_6 (fun w6_a hw6_a => ?_)
  subst hw6_a
  exact k_vret hC rfl rfl rfl dJ1_init_9
theorem kcJ2 (l : Launch) (Γ : xG) (hg : gdm Γ = fun _ => false) (sz0 a : Nat) : CK l yJ2_init (ws_ yJ2_init cJ2_init 5 none) 3 80 0 0 Γ sz0 [.ref a, .null, .null, .int 0, .int 0] a (.inr (5, [.null, .null, .null, .null, .null, .int 0, .int 0])) (fun w => w = [(a, .inr (5, [.null, .null, .null, .null, .null, .int 0, .int 0]))]) := by
  refine CK.of hg (own := RJ2) (lv0 := lv_args 0 [.ref a, .null, .null, .int 0, .int 0]) (by decide +kernel) rfl rfl (Nat.le_of_ble_eq_true rfl) rfl (fun X e1 e2 hnl hC hI hE => ?_)
  subst e1
  refine k_aload_n hC 0 dJ2_init_0 rfl ?_
  refine k_aload_nN hC 1 dJ2_init_1 rfl ?_
  refine k_aload_nN hC 2 dJ2_init_2 rfl ?_
  refine k_iload_n hC 3 dJ2_init_3 rfl ?_
  refine k_iload hC 4 dJ2_init_4 rfl ?_
  refine k_init (nA := 4) (rest := []) hC hE (Or.inl rfl) [.null, .null, .int 0, .int 0] rfl (kcJ1 (XL X) (XG X) hg sz0 a) q400 q401 q132 q402 rfl (by decide +kernel) rfl rfl rfl rfl rfl rfl dJ2_init_6 (fun w6_a hw6_a => ?_)
  subst hw6_a
  exact k_vret hC rfl rfl rfl dJ2_init_9
theorem kcX6 (l : Launch) (Γ : xG) (hg : gdm Γ = fun _ => false) (sz0 a : Nat) : CK l yX6_init (ws_ yX6_init cX6_init 1 none) 4 104 0 0 Γ sz0 [.ref a] a (.inr (5, [.null, .null, .null, .null, .null, .int 0, .int 0])) (fun w => w = [(a, .inr (5, [.null, .null, .null, .null, .null, .int 0, .int 0]))]) := by
  refine CK.of hg (own := RX6) (lv0 := lv_args 0 [.ref a]) (by decide +kernel) rfl rfl (Nat.le_of_ble_eq_true rfl) rfl (fun X e1 e2 hnl hC hI hE => ?_)
  subst e1
  refine k_aload_n hC 0 dX6_init_0 rfl ?_
  refine k_null hC dX6_init_1 ?_
  refine k_null hC dX6_init_2 ?_
  refine k_iconst (v := 0) hC dX6_init_3 (by decide) ?_
  refine k_iconst (v := 0) hC dX6_init_4 (by decide) ?_
  refine k_init (nA := 4) (rest := []) hC hE (Or.inl rfl) [.null, .null, .int 0, .int 0] rfl (kcJ2 (XL X) (XG X) hg sz0 a) q397 q398 q133 q399 rfl (by decide +kernel) rfl rfl rfl rfl rfl rfl dX6_init_5 (fun w5_a hw5_a => ?_)
  subst hw5_a
  exact k_vret hC rfl rfl rfl dX6_init_8
