set_option maxRecDepth 100000
/-! the constructors of Bird, Case, State, Ways (printed by gen/mkCtor.py) -/
theorem kcX4 (l : Launch) (Γ : xG) (hg : gdm Γ = fun _ => false) (sz0 a : Nat) : CK l yX4_init (ws_ yX4_init cX4_init 1 none) 1 32 0 0 Γ sz0 [.ref a] a (.inr (3, [.int 0, .int 0, .int 0, .int 0])) (fun w => w = [(a, .inr (3, [.int 0, .int 0, .int 0, .int 0]))]) := by
  refine CK.of hg (own := RX4) (lv0 := lv_args 0 [.ref a]) (by decide +kernel) rfl rfl (Nat.le_of_ble_eq_true rfl) rfl (fun X e1 e2 hnl hC hI hE => ?_)
  subst e1
  refine k_aload_n hC 0 dX4_init_0 rfl ?_
  refine k_objInit hC q199 rfl rfl rfl dX4_init_1 ?_
  exact k_vret hC rfl rfl rfl dX4_init_4
theorem kcX5 (l : Launch) (Γ : xG) (hg : gdm Γ = fun _ => false) (sz0 a : Nat) : CK l yX5_init (ws_ yX5_init cX5_init 1 none) 1 32 0 0 Γ sz0 [.ref a] a (.inr (4, [.int 0, .int 0, .int 0, .int 0])) (fun w => w = [(a, .inr (4, [.int 0, .int 0, .int 0, .int 0]))]) := by
  refine CK.of hg (own := RX5) (lv0 := lv_args 0 [.ref a]) (by decide +kernel) rfl rfl (Nat.le_of_ble_eq_true rfl) rfl (fun X e1 e2 hnl hC hI hE => ?_)
  subst e1
  refine k_aload_n hC 0 dX5_init_0 rfl ?_
  refine k_objInit hC q230 rfl rfl rfl dX5_init_1 ?_
  exact k_vret hC rfl rfl rfl dX5_init_4
/-- a State and what is its own: seven arrays, birds, cases -/
def stL (Γ : xG) (a : Nat) (ad : Nat → Nat) : va_W := [(a, .inr (2, [.ref (ad 0), .ref (ad 1), .ref (ad 2), .ref (ad 3), .ref (ad 4), .ref (ad 5), .ref (ad 6), .int 0, .int 0, .int 0, .int (-1), .int 0, .int 7, .int 8, .int 5, .int 9, .int 12, .int 0, .int 1, .int 0])), ((ad 0), .inl (gA Γ 3, 6, .inr (.inr (.inr (.inr (fun j => some (ad (7 + j)))))))), ((ad 1), .inl (gA Γ 4, 12, .inr (.inr (.inr (.inr (fun j => some (ad (13 + j)))))))), ((ad 2), .inl (gA Γ 5, 12, .inr (.inr (.inr (.inr (fun _ => none)))))), ((ad 3), .inl (gA Γ 0, 24, .inl fun _ => 0)), ((ad 4), .inl (gA Γ 0, 13, .inl fun _ => 0)), ((ad 5), .inl (gA Γ 0, 8, .inl fun _ => 0)), ((ad 6), .inl (gA Γ 0, 360, .inl fun _ => 0)), ((ad 7), .inr (3, [.int 0, .int 0, .int 0, .int 0])), ((ad 8), .inr (3, [.int 0, .int 0, .int 0, .int 0])), ((ad 9), .inr (3, [.int 0, .int 0, .int 0, .int 0])), ((ad 10), .inr (3, [.int 0, .int 0, .int 0, .int 0])), ((ad 11), .inr (3, [.int 0, .int 0, .int 0, .int 0])), ((ad 12), .inr (3, [.int 0, .int 0, .int 0, .int 0])), ((ad 13), .inr (4, [.int 0, .int 0, .int 0, .int 0])), ((ad 14), .inr (4, [.int 0, .int 0, .int 0, .int 0])), ((ad 15), .inr (4, [.int 0, .int 0, .int 0, .int 0])), ((ad 16), .inr (4, [.int 0, .int 0, .int 0, .int 0])), ((ad 17), .inr (4, [.int 0, .int 0, .int 0, .int 0])), ((ad 18), .inr (4, [.int 0, .int 0, .int 0, .int 0])), ((ad 19), .inr (4, [.int 0, .int 0, .int 0, .int 0])), ((ad 20), .inr (4, [.int 0, .int 0, .int 0, .int 0])), ((ad 21), .inr (4, [.int 0, .int 0, .int 0, .int 0])), ((ad 22), .inr (4, [.int 0, .int 0, .int 0, .int 0])), ((ad 23), .inr (4, [.int 0, .int 0, .int 0, .int 0])), ((ad 24), .inr (4, [.int 0, .int 0, .int 0, .int 0]))]
theorem kcX3 (l : Launch) (Γ : xG) (hg : gdm Γ = fun _ => false) (sz0 a : Nat) : CK l yX3_init (ws_ yX3_init cX3_init 2 none) 2 52 25 507 Γ sz0 [.ref a] a (.inr (2, [.null, .null, .null, .null, .null, .null, .null, .int 0, .int 0, .int 0, .int 0, .int 0, .int 0, .int 0, .int 0, .int 0, .int 0, .int 0, .int 0, .int 0])) (fun w => ∃ ad : Nat → Nat, w = stL Γ a ad) := by
  refine CK.of hg (own := RX3) (lv0 := lv_args 0 [.ref a]) (by decide +kernel) rfl rfl (Nat.le_of_ble_eq_true rfl) rfl (fun X e1 e2 hnl hC hI hE => ?_)
  subst e1
  refine k_aload_n hC 0 dX3_init_0 rfl ?_
  refine k_objInit hC q189 rfl rfl rfl dX3_init_1 ?_
  refine k_aload_n hC 0 dX3_init_4 rfl ?_
  refine k_bipush (v := 6) hC dX3_init_5 (by decide) ?_
  refine k_anew (N := 6) (t := 3) (C := RX4) hC hE (fun _ => rfl) (by decide) (fun _ h => h.2.2.2.1) q190 (by decide) (by decide) rfl rfl rfl dX3_init_7 (fun q1 => ?_)
  refine k_putF (fk := 0) (ty := (.array (.object "FeatherYard$Bird"))) (P' := ([(q1, .inl (gA (XG X) 3, 6, .inr (.inr (.inr (.inr (fun _ => none)))))), (a, .inr (2, [.ref q1, .null, .null, .null, .null, .null, .null, .int 0, .int 0, .int 0, .int 0, .int 0, .int 0, .int 0, .int 0, .int 0, .int 0, .int 0, .int 0, .int 0]))] ++ [])) hC hI 1 rfl rfl in_X3 rfl rfl rfl q255 tyX3 tyX3_ok nmX3 rfl (by decide +kernel) rfl rfl rfl rfl dX3_init_10 ?_
  refine k_aload_n hC 0 dX3_init_13 rfl ?_
  refine k_bipush (v := 12) hC dX3_init_14 (by decide) ?_
  refine k_anew (N := 12) (t := 4) (C := RX5) hC hE (fun _ => rfl) (by decide) (fun _ h => h.2.2.2.2.1) q192 (by decide) (by decide) rfl rfl rfl dX3_init_16 (fun q2 => ?_)
  refine k_putF (fk := 1) (ty := (.array (.object "FeatherYard$Case"))) (P' := ([(q2, .inl (gA (XG X) 4, 12, .inr (.inr (.inr (.inr (fun _ => none)))))), (q1, .inl (gA (XG X) 3, 6, .inr (.inr (.inr (.inr (fun _ => none)))))), (a, .inr (2, [.ref q1, .ref q2, .null, .null, .null, .null, .null, .int 0, .int 0, .int 0, .int 0, .int 0, .int 0, .int 0, .int 0, .int 0, .int 0, .int 0, .int 0, .int 0]))] ++ [])) hC hI 2 rfl rfl in_X3 rfl rfl rfl q259 tyX3 tyX3_ok nmX3 rfl (by decide +kernel) rfl rfl rfl rfl dX3_init_19 ?_
  refine k_aload_n hC 0 dX3_init_22 rfl ?_
  refine k_bipush (v := 12) hC dX3_init_23 (by decide) ?_
  refine k_anew (N := 12) (t := 5) (C := RX14) hC hE (fun _ => rfl) (by decide) (fun _ h => h.2.2.2.2.2.1) q194 (by decide) (by decide) rfl rfl rfl dX3_init_25 (fun q3 => ?_)
  refine k_putF (fk := 2) (ty := (.array (.object "FeatherYard$Line"))) (P' := ([(q3, .inl (gA (XG X) 5, 12, .inr (.inr (.inr (.inr (fun _ => none)))))), (q2, .inl (gA (XG X) 4, 12, .inr (.inr (.inr (.inr (fun _ => none)))))), (q1, .inl (gA (XG X) 3, 6, .inr (.inr (.inr (.inr (fun _ => none)))))), (a, .inr (2, [.ref q1, .ref q2, .ref q3, .null, .null, .null, .null, .int 0, .int 0, .int 0, .int 0, .int 0, .int 0, .int 0, .int 0, .int 0, .int 0, .int 0, .int 0, .int 0]))] ++ [])) hC hI 3 rfl rfl in_X3 rfl rfl rfl q262 tyX3 tyX3_ok nmX3 rfl (by decide +kernel) rfl rfl rfl rfl dX3_init_28 ?_
  refine k_aload_n hC 0 dX3_init_31 rfl ?_
  refine k_bipush (v := 24) hC dX3_init_32 (by decide) ?_
  refine k_newaI (N := 24) hC hE q225 (by decide) (by decide) rfl rfl rfl dX3_init_34 (fun q4 => ?_)
  refine k_putF (fk := 3) (ty := (.array .int)) (P' := ([(q4, .inl (gA (XG X) 0, 24, .inl fun _ => 0)), (q3, .inl (gA (XG X) 5, 12, .inr (.inr (.inr (.inr (fun _ => none)))))), (q2, .inl (gA (XG X) 4, 12, .inr (.inr (.inr (.inr (fun _ => none)))))), (q1, .inl (gA (XG X) 3, 6, .inr (.inr (.inr (.inr (fun _ => none)))))), (a, .inr (2, [.ref q1, .ref q2, .ref q3, .ref q4, .null, .null, .null, .int 0, .int 0, .int 0, .int 0, .int 0, .int 0, .int 0, .int 0, .int 0, .int 0, .int 0, .int 0, .int 0]))] ++ [])) hC hI 4 rfl rfl in_X3 rfl rfl rfl q264 tyX3 tyX3_ok nmX3 rfl (by decide +kernel) rfl rfl rfl rfl dX3_init_36 ?_
  refine k_aload_n hC 0 dX3_init_39 rfl ?_
  refine k_bipush (v := 13) hC dX3_init_40 (by decide) ?_
  refine k_newaI (N := 13) hC hE q225 (by decide) (by decide) rfl rfl rfl dX3_init_42 (fun q5 => ?_)
  refine k_putF (fk := 4) (ty := (.array .int)) (P' := ([(q5, .inl (gA (XG X) 0, 13, .inl fun _ => 0)), (q4, .inl (gA (XG X) 0, 24, .inl fun _ => 0)), (q3, .inl (gA (XG X) 5, 12, .inr (.inr (.inr (.inr (fun _ => none)))))), (q2, .inl (gA (XG X) 4, 12, .inr (.inr (.inr (.inr (fun _ => none)))))), (q1, .inl (gA (XG X) 3, 6, .inr (.inr (.inr (.inr (fun _ => none)))))), (a, .inr (2, [.ref q1, .ref q2, .ref q3, .ref q4, .ref q5, .null, .null, .int 0, .int 0, .int 0, .int 0, .int 0, .int 0, .int 0, .int 0, .int 0, .int 0, .int 0, .int 0, .int 0]))] ++ [])) hC hI 5 rfl rfl in_X3 rfl rfl rfl q267 tyX3 tyX3_ok nmX3 rfl (by decide +kernel) rfl rfl rfl rfl dX3_init_44 ?_
  refine k_aload_n hC 0 dX3_init_47 rfl ?_
  refine k_bipush (v := 8) hC dX3_init_48 (by decide) ?_
  refine k_newaI (N := 8) hC hE q225 (by decide) (by decide) rfl rfl rfl dX3_init_50 (fun q6 => ?_)
  refine k_putF (fk := 5) (ty := (.array .int)) (P' := ([(q6, .inl (gA (XG X) 0, 8, .inl fun _ => 0)), (q5, .inl (gA (XG X) 0, 13, .inl fun _ => 0)), (q4, .inl (gA (XG X) 0, 24, .inl fun _ => 0)), (q3, .inl (gA (XG X) 5, 12, .inr (.inr (.inr (.inr (fun _ => none)))))), (q2, .inl (gA (XG X) 4, 12, .inr (.inr (.inr (.inr (fun _ => none)))))), (q1, .inl (gA (XG X) 3, 6, .inr (.inr (.inr (.inr (fun _ => none)))))), (a, .inr (2, [.ref q1, .ref q2, .ref q3, .ref q4, .ref q5, .ref q6, .null, .int 0, .int 0, .int 0, .int 0, .int 0, .int 0, .int 0, .int 0, .int 0, .int 0, .int 0, .int 0, .int 0]))] ++ [])) hC hI 6 rfl rfl in_X3 rfl rfl rfl q270 tyX3 tyX3_ok nmX3 rfl (by decide +kernel) rfl rfl rfl rfl dX3_init_52 ?_
  refine k_aload_n hC 0 dX3_init_55 rfl ?_
  refine k_sipush (v := 360) hC dX3_init_56 (by decide) ?_
  refine k_newaI (N := 360) hC hE q225 (by decide) (by decide) rfl rfl rfl dX3_init_59 (fun q7 => ?_)
  refine k_putF (fk := 6) (ty := (.array .int)) (P' := ([(q7, .inl (gA (XG X) 0, 360, .inl fun _ => 0)), (q6, .inl (gA (XG X) 0, 8, .inl fun _ => 0)), (q5, .inl (gA (XG X) 0, 13, .inl fun _ => 0)), (q4, .inl (gA (XG X) 0, 24, .inl fun _ => 0)), (q3, .inl (gA (XG X) 5, 12, .inr (.inr (.inr (.inr (fun _ => none)))))), (q2, .inl (gA (XG X) 4, 12, .inr (.inr (.inr (.inr (fun _ => none)))))), (q1, .inl (gA (XG X) 3, 6, .inr (.inr (.inr (.inr (fun _ => none)))))), (a, .inr (2, [.ref q1, .ref q2, .ref q3, .ref q4, .ref q5, .ref q6, .ref q7, .int 0, .int 0, .int 0, .int 0, .int 0, .int 0, .int 0, .int 0, .int 0, .int 0, .int 0, .int 0, .int 0]))] ++ [])) hC hI 7 rfl rfl in_X3 rfl rfl rfl q271 tyX3 tyX3_ok nmX3 rfl (by decide +kernel) rfl rfl rfl rfl dX3_init_61 ?_
  refine k_aload_n hC 0 dX3_init_64 rfl ?_
  refine k_iconst (v := (-1)) hC dX3_init_65 (by decide) ?_
  refine k_put (fk := 10) (ty := .int) (P' := ([(q7, .inl (gA (XG X) 0, 360, .inl fun _ => 0)), (q6, .inl (gA (XG X) 0, 8, .inl fun _ => 0)), (q5, .inl (gA (XG X) 0, 13, .inl fun _ => 0)), (q4, .inl (gA (XG X) 0, 24, .inl fun _ => 0)), (q3, .inl (gA (XG X) 5, 12, .inr (.inr (.inr (.inr (fun _ => none)))))), (q2, .inl (gA (XG X) 4, 12, .inr (.inr (.inr (.inr (fun _ => none)))))), (q1, .inl (gA (XG X) 3, 6, .inr (.inr (.inr (.inr (fun _ => none)))))), (a, .inr (2, [.ref q1, .ref q2, .ref q3, .ref q4, .ref q5, .ref q6, .ref q7, .int 0, .int 0, .int 0, .int (-1), .int 0, .int 0, .int 0, .int 0, .int 0, .int 0, .int 0, .int 0, .int 0]))] ++ [])) hC 7 rfl rfl in_X3 rfl (Or.inl rfl) q281 tyX3 tyX3_ok nmX3 rfl (by decide +kernel) rfl rfl rfl rfl dX3_init_66 ?_
  refine k_aload_n hC 0 dX3_init_69 rfl ?_
  refine k_bipush (v := 7) hC dX3_init_70 (by decide) ?_
  refine k_put (fk := 12) (ty := .int) (P' := ([(q7, .inl (gA (XG X) 0, 360, .inl fun _ => 0)), (q6, .inl (gA (XG X) 0, 8, .inl fun _ => 0)), (q5, .inl (gA (XG X) 0, 13, .inl fun _ => 0)), (q4, .inl (gA (XG X) 0, 24, .inl fun _ => 0)), (q3, .inl (gA (XG X) 5, 12, .inr (.inr (.inr (.inr (fun _ => none)))))), (q2, .inl (gA (XG X) 4, 12, .inr (.inr (.inr (.inr (fun _ => none)))))), (q1, .inl (gA (XG X) 3, 6, .inr (.inr (.inr (.inr (fun _ => none)))))), (a, .inr (2, [.ref q1, .ref q2, .ref q3, .ref q4, .ref q5, .ref q6, .ref q7, .int 0, .int 0, .int 0, .int (-1), .int 0, .int 7, .int 0, .int 0, .int 0, .int 0, .int 0, .int 0, .int 0]))] ++ [])) hC 7 rfl rfl in_X3 rfl (Or.inl rfl) q285 tyX3 tyX3_ok nmX3 rfl (by decide +kernel) rfl rfl rfl rfl dX3_init_72 ?_
  refine k_aload_n hC 0 dX3_init_75 rfl ?_
  refine k_bipush (v := 8) hC dX3_init_76 (by decide) ?_
  refine k_put (fk := 13) (ty := .int) (P' := ([(q7, .inl (gA (XG X) 0, 360, .inl fun _ => 0)), (q6, .inl (gA (XG X) 0, 8, .inl fun _ => 0)), (q5, .inl (gA (XG X) 0, 13, .inl fun _ => 0)), (q4, .inl (gA (XG X) 0, 24, .inl fun _ => 0)), (q3, .inl (gA (XG X) 5, 12, .inr (.inr (.inr (.inr (fun _ => none)))))), (q2, .inl (gA (XG X) 4, 12, .inr (.inr (.inr (.inr (fun _ => none)))))), (q1, .inl (gA (XG X) 3, 6, .inr (.inr (.inr (.inr (fun _ => none)))))), (a, .inr (2, [.ref q1, .ref q2, .ref q3, .ref q4, .ref q5, .ref q6, .ref q7, .int 0, .int 0, .int 0, .int (-1), .int 0, .int 7, .int 8, .int 0, .int 0, .int 0, .int 0, .int 0, .int 0]))] ++ [])) hC 7 rfl rfl in_X3 rfl (Or.inl rfl) q289 tyX3 tyX3_ok nmX3 rfl (by decide +kernel) rfl rfl rfl rfl dX3_init_78 ?_
  refine k_aload_n hC 0 dX3_init_81 rfl ?_
  refine k_iconst (v := 5) hC dX3_init_82 (by decide) ?_
  refine k_put (fk := 14) (ty := .int) (P' := ([(q7, .inl (gA (XG X) 0, 360, .inl fun _ => 0)), (q6, .inl (gA (XG X) 0, 8, .inl fun _ => 0)), (q5, .inl (gA (XG X) 0, 13, .inl fun _ => 0)), (q4, .inl (gA (XG X) 0, 24, .inl fun _ => 0)), (q3, .inl (gA (XG X) 5, 12, .inr (.inr (.inr (.inr (fun _ => none)))))), (q2, .inl (gA (XG X) 4, 12, .inr (.inr (.inr (.inr (fun _ => none)))))), (q1, .inl (gA (XG X) 3, 6, .inr (.inr (.inr (.inr (fun _ => none)))))), (a, .inr (2, [.ref q1, .ref q2, .ref q3, .ref q4, .ref q5, .ref q6, .ref q7, .int 0, .int 0, .int 0, .int (-1), .int 0, .int 7, .int 8, .int 5, .int 0, .int 0, .int 0, .int 0, .int 0]))] ++ [])) hC 7 rfl rfl in_X3 rfl (Or.inl rfl) q293 tyX3 tyX3_ok nmX3 rfl (by decide +kernel) rfl rfl rfl rfl dX3_init_83 ?_
  refine k_aload_n hC 0 dX3_init_86 rfl ?_
  refine k_bipush (v := 9) hC dX3_init_87 (by decide) ?_
  refine k_put (fk := 15) (ty := .int) (P' := ([(q7, .inl (gA (XG X) 0, 360, .inl fun _ => 0)), (q6, .inl (gA (XG X) 0, 8, .inl fun _ => 0)), (q5, .inl (gA (XG X) 0, 13, .inl fun _ => 0)), (q4, .inl (gA (XG X) 0, 24, .inl fun _ => 0)), (q3, .inl (gA (XG X) 5, 12, .inr (.inr (.inr (.inr (fun _ => none)))))), (q2, .inl (gA (XG X) 4, 12, .inr (.inr (.inr (.inr (fun _ => none)))))), (q1, .inl (gA (XG X) 3, 6, .inr (.inr (.inr (.inr (fun _ => none)))))), (a, .inr (2, [.ref q1, .ref q2, .ref q3, .ref q4, .ref q5, .ref q6, .ref q7, .int 0, .int 0, .int 0, .int (-1), .int 0, .int 7, .int 8, .int 5, .int 9, .int 0, .int 0, .int 0, .int 0]))] ++ [])) hC 7 rfl rfl in_X3 rfl (Or.inl rfl) q296 tyX3 tyX3_ok nmX3 rfl (by decide +kernel) rfl rfl rfl rfl dX3_init_89 ?_
  refine k_aload_n hC 0 dX3_init_92 rfl ?_
  refine k_bipush (v := 12) hC dX3_init_93 (by decide) ?_
  refine k_put (fk := 16) (ty := .int) (P' := ([(q7, .inl (gA (XG X) 0, 360, .inl fun _ => 0)), (q6, .inl (gA (XG X) 0, 8, .inl fun _ => 0)), (q5, .inl (gA (XG X) 0, 13, .inl fun _ => 0)), (q4, .inl (gA (XG X) 0, 24, .inl fun _ => 0)), (q3, .inl (gA (XG X) 5, 12, .inr (.inr (.inr (.inr (fun _ => none)))))), (q2, .inl (gA (XG X) 4, 12, .inr (.inr (.inr (.inr (fun _ => none)))))), (q1, .inl (gA (XG X) 3, 6, .inr (.inr (.inr (.inr (fun _ => none)))))), (a, .inr (2, [.ref q1, .ref q2, .ref q3, .ref q4, .ref q5, .ref q6, .ref q7, .int 0, .int 0, .int 0, .int (-1), .int 0, .int 7, .int 8, .int 5, .int 9, .int 12, .int 0, .int 0, .int 0]))] ++ [])) hC 7 rfl rfl in_X3 rfl (Or.inl rfl) q299 tyX3 tyX3_ok nmX3 rfl (by decide +kernel) rfl rfl rfl rfl dX3_init_95 ?_
  refine k_aload_n hC 0 dX3_init_98 rfl ?_
  refine k_iconst (v := 1) hC dX3_init_99 (by decide) ?_
  refine k_put (fk := 18) (ty := .int) (P' := ([(q7, .inl (gA (XG X) 0, 360, .inl fun _ => 0)), (q6, .inl (gA (XG X) 0, 8, .inl fun _ => 0)), (q5, .inl (gA (XG X) 0, 13, .inl fun _ => 0)), (q4, .inl (gA (XG X) 0, 24, .inl fun _ => 0)), (q3, .inl (gA (XG X) 5, 12, .inr (.inr (.inr (.inr (fun _ => none)))))), (q2, .inl (gA (XG X) 4, 12, .inr (.inr (.inr (.inr (fun _ => none)))))), (q1, .inl (gA (XG X) 3, 6, .inr (.inr (.inr (.inr (fun _ => none)))))), (a, .inr (2, [.ref q1, .ref q2, .ref q3, .ref q4, .ref q5, .ref q6, .ref q7, .int 0, .int 0, .int 0, .int (-1), .int 0, .int 7, .int 8, .int 5, .int 9, .int 12, .int 0, .int 1, .int 0]))] ++ [])) hC 7 rfl rfl in_X3 rfl (Or.inl rfl) q304 tyX3 tyX3_ok nmX3 rfl (by decide +kernel) rfl rfl rfl rfl dX3_init_100 ?_
  refine k_iconst (v := 0) hC dX3_init_103 (by decide) ?_
  refine k_istore_n hC [(1, .int 0), (0, .ref a)] hnl dX3_init_104 rfl rfl ?_
  refine k_iload_n hC 0 dX3_init_105 rfl ?_
  refine k_bipush (v := 6) hC dX3_init_106 (by decide) ?_
  refine k_icmp_geF (tgt := 130) hC dX3_init_108 (by decide) (by decide) ?_
  refine k_aload_n hC 1 dX3_init_111 rfl ?_
  refine k_get (fk := 0) hC 7 rfl rfl in_X3 rfl rfl q255 rfl dX3_init_112 ?_
  refine k_iload_n hC 0 dX3_init_115 rfl ?_
  refine k_new (ci := 3) (fs := [.int 0, .int 0, .int 0, .int 0]) hC hE rfl in_X4 tyX4 tyX4_ok (fun j hj => by match j, hj with | 0, _ => rfl | 1, _ => rfl | 2, _ => rfl | 3, _ => rfl) q190 q195 q129 rfl rfl dX3_init_116 (fun q8 hq8 => ?_)
  refine k_dup hC dX3_init_119 rfl ?_
  refine k_initN (nA := 0) (rest := [.ref q8, .int 0, .ref q1]) hC hE (Or.inr hq8) [] rfl (kcX4 (XL X) (XG X) hg sz0 q8) q196 q197 q129 q198 rfl (by decide +kernel) rfl rfl rfl rfl rfl rfl dX3_init_120 (fun w120_q8 hw120_q8 => ?_)
  subst hw120_q8
  refine k_aast (P' := ([(q8, .inr (3, [.int 0, .int 0, .int 0, .int 0])), (q7, .inl (gA (XG X) 0, 360, .inl fun _ => 0)), (q6, .inl (gA (XG X) 0, 8, .inl fun _ => 0)), (q5, .inl (gA (XG X) 0, 13, .inl fun _ => 0)), (q4, .inl (gA (XG X) 0, 24, .inl fun _ => 0)), (q3, .inl (gA (XG X) 5, 12, .inr (.inr (.inr (.inr (fun _ => none)))))), (q2, .inl (gA (XG X) 4, 12, .inr (.inr (.inr (.inr (fun _ => none)))))), (q1, .inl (gA (XG X) 3, 6, .inr (.inr (.inr (.inr (va_up (fun _ => none) 0 (some q8))))))), (a, .inr (2, [.ref q1, .ref q2, .ref q3, .ref q4, .ref q5, .ref q6, .ref q7, .int 0, .int 0, .int 0, .int (-1), .int 0, .int 7, .int 8, .int 5, .int 9, .int 12, .int 0, .int 1, .int 0]))] ++ [])) hC 7 0 3 rfl (fun _ => rfl) rfl rfl (by unfold vp_in; decide) rfl dX3_init_123 ?_
  refine k_iinc hC 0 [(1, .int 1), (0, .ref a)] hnl dX3_init_124 rfl (by decide) rfl rfl ?_
  refine k_goto (tgt := 105) hC dX3_init_127 (by decide) ?_
  refine k_iload_n hC 0 dX3_init_105 rfl ?_
  refine k_bipush (v := 6) hC dX3_init_106 (by decide) ?_
  refine k_icmp_geF (tgt := 130) hC dX3_init_108 (by decide) (by decide) ?_
  refine k_aload_n hC 1 dX3_init_111 rfl ?_
  refine k_get (fk := 0) hC 8 rfl rfl in_X3 rfl rfl q255 rfl dX3_init_112 ?_
  refine k_iload_n hC 0 dX3_init_115 rfl ?_
  refine k_new (ci := 3) (fs := [.int 0, .int 0, .int 0, .int 0]) hC hE rfl in_X4 tyX4 tyX4_ok (fun j hj => by match j, hj with | 0, _ => rfl | 1, _ => rfl | 2, _ => rfl | 3, _ => rfl) q190 q195 q129 rfl rfl dX3_init_116 (fun q9 hq9 => ?_)
  refine k_dup hC dX3_init_119 rfl ?_
  refine k_initN (nA := 0) (rest := [.ref q9, .int 1, .ref q1]) hC hE (Or.inr hq9) [] rfl (kcX4 (XL X) (XG X) hg sz0 q9) q196 q197 q129 q198 rfl (by decide +kernel) rfl rfl rfl rfl rfl rfl dX3_init_120 (fun w120_q9 hw120_q9 => ?_)
  subst hw120_q9
  refine k_aast (P' := ([(q9, .inr (3, [.int 0, .int 0, .int 0, .int 0])), (q8, .inr (3, [.int 0, .int 0, .int 0, .int 0])), (q7, .inl (gA (XG X) 0, 360, .inl fun _ => 0)), (q6, .inl (gA (XG X) 0, 8, .inl fun _ => 0)), (q5, .inl (gA (XG X) 0, 13, .inl fun _ => 0)), (q4, .inl (gA (XG X) 0, 24, .inl fun _ => 0)), (q3, .inl (gA (XG X) 5, 12, .inr (.inr (.inr (.inr (fun _ => none)))))), (q2, .inl (gA (XG X) 4, 12, .inr (.inr (.inr (.inr (fun _ => none)))))), (q1, .inl (gA (XG X) 3, 6, .inr (.inr (.inr (.inr (va_up (va_up (fun _ => none) 0 (some q8)) 1 (some q9))))))), (a, .inr (2, [.ref q1, .ref q2, .ref q3, .ref q4, .ref q5, .ref q6, .ref q7, .int 0, .int 0, .int 0, .int (-1), .int 0, .int 7, .int 8, .int 5, .int 9, .int 12, .int 0, .int 1, .int 0]))] ++ [])) hC 8 0 3 rfl (fun _ => rfl) rfl rfl (by unfold vp_in; decide) rfl dX3_init_123 ?_
  refine k_iinc hC 0 [(1, .int 2), (0, .ref a)] hnl dX3_init_124 rfl (by decide) rfl rfl ?_
  refine k_goto (tgt := 105) hC dX3_init_127 (by decide) ?_
  refine k_iload_n hC 0 dX3_init_105 rfl ?_
  refine k_bipush (v := 6) hC dX3_init_106 (by decide) ?_
  refine k_icmp_geF (tgt := 130) hC dX3_init_108 (by decide) (by decide) ?_
  refine k_aload_n hC 1 dX3_init_111 rfl ?_
  refine k_get (fk := 0) hC 9 rfl rfl in_X3 rfl rfl q255 rfl dX3_init_112 ?_
  refine k_iload_n hC 0 dX3_init_115 rfl ?_
  refine k_new (ci := 3) (fs := [.int 0, .int 0, .int 0, .int 0]) hC hE rfl in_X4 tyX4 tyX4_ok (fun j hj => by match j, hj with | 0, _ => rfl | 1, _ => rfl | 2, _ => rfl | 3, _ => rfl) q190 q195 q129 rfl rfl dX3_init_116 (fun q10 hq10 => ?_)
  refine k_dup hC dX3_init_119 rfl ?_
  refine k_initN (nA := 0) (rest := [.ref q10, .int 2, .ref q1]) hC hE (Or.inr hq10) [] rfl (kcX4 (XL X) (XG X) hg sz0 q10) q196 q197 q129 q198 rfl (by decide +kernel) rfl rfl rfl rfl rfl rfl dX3_init_120 (fun w120_q10 hw120_q10 => ?_)
  subst hw120_q10
  refine k_aast (P' := ([(q10, .inr (3, [.int 0, .int 0, .int 0, .int 0])), (q9, .inr (3, [.int 0, .int 0, .int 0, .int 0])), (q8, .inr (3, [.int 0, .int 0, .int 0, .int 0])), (q7, .inl (gA (XG X) 0, 360, .inl fun _ => 0)), (q6, .inl (gA (XG X) 0, 8, .inl fun _ => 0)), (q5, .inl (gA (XG X) 0, 13, .inl fun _ => 0)), (q4, .inl (gA (XG X) 0, 24, .inl fun _ => 0)), (q3, .inl (gA (XG X) 5, 12, .inr (.inr (.inr (.inr (fun _ => none)))))), (q2, .inl (gA (XG X) 4, 12, .inr (.inr (.inr (.inr (fun _ => none)))))), (q1, .inl (gA (XG X) 3, 6, .inr (.inr (.inr (.inr (va_up (va_up (va_up (fun _ => none) 0 (some q8)) 1 (some q9)) 2 (some q10))))))), (a, .inr (2, [.ref q1, .ref q2, .ref q3, .ref q4, .ref q5, .ref q6, .ref q7, .int 0, .int 0, .int 0, .int (-1), .int 0, .int 7, .int 8, .int 5, .int 9, .int 12, .int 0, .int 1, .int 0]))] ++ [])) hC 9 0 3 rfl (fun _ => rfl) rfl rfl (by unfold vp_in; decide) rfl dX3_init_123 ?_
  refine k_iinc hC 0 [(1, .int 3), (0, .ref a)] hnl dX3_init_124 rfl (by decide) rfl rfl ?_
  refine k_goto (tgt := 105) hC dX3_init_127 (by decide) ?_
  refine k_iload_n hC 0 dX3_init_105 rfl ?_
  refine k_bipush (v := 6) hC dX3_init_106 (by decide) ?_
  refine k_icmp_geF (tgt := 130) hC dX3_init_108 (by decide) (by decide) ?_
  refine k_aload_n hC 1 dX3_init_111 rfl ?_
  refine k_get (fk := 0) hC 10 rfl rfl in_X3 rfl rfl q255 rfl dX3_init_112 ?_
  refine k_iload_n hC 0 dX3_init_115 rfl ?_
  refine k_new (ci := 3) (fs := [.int 0, .int 0, .int 0, .int 0]) hC hE rfl in_X4 tyX4 tyX4_ok (fun j hj => by match j, hj with | 0, _ => rfl | 1, _ => rfl | 2, _ => rfl | 3, _ => rfl) q190 q195 q129 rfl rfl dX3_init_116 (fun q11 hq11 => ?_)
  refine k_dup hC dX3_init_119 rfl ?_
  refine k_initN (nA := 0) (rest := [.ref q11, .int 3, .ref q1]) hC hE (Or.inr hq11) [] rfl (kcX4 (XL X) (XG X) hg sz0 q11) q196 q197 q129 q198 rfl (by decide +kernel) rfl rfl rfl rfl rfl rfl dX3_init_120 (fun w120_q11 hw120_q11 => ?_)
  subst hw120_q11
  refine k_aast (P' := ([(q11, .inr (3, [.int 0, .int 0, .int 0, .int 0])), (q10, .inr (3, [.int 0, .int 0, .int 0, .int 0])), (q9, .inr (3, [.int 0, .int 0, .int 0, .int 0])), (q8, .inr (3, [.int 0, .int 0, .int 0, .int 0])), (q7, .inl (gA (XG X) 0, 360, .inl fun _ => 0)), (q6, .inl (gA (XG X) 0, 8, .inl fun _ => 0)), (q5, .inl (gA (XG X) 0, 13, .inl fun _ => 0)), (q4, .inl (gA (XG X) 0, 24, .inl fun _ => 0)), (q3, .inl (gA (XG X) 5, 12, .inr (.inr (.inr (.inr (fun _ => none)))))), (q2, .inl (gA (XG X) 4, 12, .inr (.inr (.inr (.inr (fun _ => none)))))), (q1, .inl (gA (XG X) 3, 6, .inr (.inr (.inr (.inr (va_up (va_up (va_up (va_up (fun _ => none) 0 (some q8)) 1 (some q9)) 2 (some q10)) 3 (some q11))))))), (a, .inr (2, [.ref q1, .ref q2, .ref q3, .ref q4, .ref q5, .ref q6, .ref q7, .int 0, .int 0, .int 0, .int (-1), .int 0, .int 7, .int 8, .int 5, .int 9, .int 12, .int 0, .int 1, .int 0]))] ++ [])) hC 10 0 3 rfl (fun _ => rfl) rfl rfl (by unfold vp_in; decide) rfl dX3_init_123 ?_
  refine k_iinc hC 0 [(1, .int 4), (0, .ref a)] hnl dX3_init_124 rfl (by decide) rfl rfl ?_
  refine k_goto (tgt := 105) hC dX3_init_127 (by decide) ?_
  refine k_iload_n hC 0 dX3_init_105 rfl ?_
  refine k_bipush (v := 6) hC dX3_init_106 (by decide) ?_
  refine k_icmp_geF (tgt := 130) hC dX3_init_108 (by decide) (by decide) ?_
  refine k_aload_n hC 1 dX3_init_111 rfl ?_
  refine k_get (fk := 0) hC 11 rfl rfl in_X3 rfl rfl q255 rfl dX3_init_112 ?_
  refine k_iload_n hC 0 dX3_init_115 rfl ?_
  refine k_new (ci := 3) (fs := [.int 0, .int 0, .int 0, .int 0]) hC hE rfl in_X4 tyX4 tyX4_ok (fun j hj => by match j, hj with | 0, _ => rfl | 1, _ => rfl | 2, _ => rfl | 3, _ => rfl) q190 q195 q129 rfl rfl dX3_init_116 (fun q12 hq12 => ?_)
  refine k_dup hC dX3_init_119 rfl ?_
  refine k_initN (nA := 0) (rest := [.ref q12, .int 4, .ref q1]) hC hE (Or.inr hq12) [] rfl (kcX4 (XL X) (XG X) hg sz0 q12) q196 q197 q129 q198 rfl (by decide +kernel) rfl rfl rfl rfl rfl rfl dX3_init_120 (fun w120_q12 hw120_q12 => ?_)
  subst hw120_q12
  refine k_aast (P' := ([(q12, .inr (3, [.int 0, .int 0, .int 0, .int 0])), (q11, .inr (3, [.int 0, .int 0, .int 0, .int 0])), (q10, .inr (3, [.int 0, .int 0, .int 0, .int 0])), (q9, .inr (3, [.int 0, .int 0, .int 0, .int 0])), (q8, .inr (3, [.int 0, .int 0, .int 0, .int 0])), (q7, .inl (gA (XG X) 0, 360, .inl fun _ => 0)), (q6, .inl (gA (XG X) 0, 8, .inl fun _ => 0)), (q5, .inl (gA (XG X) 0, 13, .inl fun _ => 0)), (q4, .inl (gA (XG X) 0, 24, .inl fun _ => 0)), (q3, .inl (gA (XG X) 5, 12, .inr (.inr (.inr (.inr (fun _ => none)))))), (q2, .inl (gA (XG X) 4, 12, .inr (.inr (.inr (.inr (fun _ => none)))))), (q1, .inl (gA (XG X) 3, 6, .inr (.inr (.inr (.inr (va_up (va_up (va_up (va_up (va_up (fun _ => none) 0 (some q8)) 1 (some q9)) 2 (some q10)) 3 (some q11)) 4 (some q12))))))), (a, .inr (2, [.ref q1, .ref q2, .ref q3, .ref q4, .ref q5, .ref q6, .ref q7, .int 0, .int 0, .int 0, .int (-1), .int 0, .int 7, .int 8, .int 5, .int 9, .int 12, .int 0, .int 1, .int 0]))] ++ [])) hC 11 0 3 rfl (fun _ => rfl) rfl rfl (by unfold vp_in; decide) rfl dX3_init_123 ?_
  refine k_iinc hC 0 [(1, .int 5), (0, .ref a)] hnl dX3_init_124 rfl (by decide) rfl rfl ?_
  refine k_goto (tgt := 105) hC dX3_init_127 (by decide) ?_
  refine k_iload_n hC 0 dX3_init_105 rfl ?_
  refine k_bipush (v := 6) hC dX3_init_106 (by decide) ?_
  refine k_icmp_geF (tgt := 130) hC dX3_init_108 (by decide) (by decide) ?_
  refine k_aload_n hC 1 dX3_init_111 rfl ?_
  refine k_get (fk := 0) hC 12 rfl rfl in_X3 rfl rfl q255 rfl dX3_init_112 ?_
  refine k_iload_n hC 0 dX3_init_115 rfl ?_
  refine k_new (ci := 3) (fs := [.int 0, .int 0, .int 0, .int 0]) hC hE rfl in_X4 tyX4 tyX4_ok (fun j hj => by match j, hj with | 0, _ => rfl | 1, _ => rfl | 2, _ => rfl | 3, _ => rfl) q190 q195 q129 rfl rfl dX3_init_116 (fun q13 hq13 => ?_)
  refine k_dup hC dX3_init_119 rfl ?_
  refine k_initN (nA := 0) (rest := [.ref q13, .int 5, .ref q1]) hC hE (Or.inr hq13) [] rfl (kcX4 (XL X) (XG X) hg sz0 q13) q196 q197 q129 q198 rfl (by decide +kernel) rfl rfl rfl rfl rfl rfl dX3_init_120 (fun w120_q13 hw120_q13 => ?_)
  subst hw120_q13
  refine k_aast (P' := ([(q13, .inr (3, [.int 0, .int 0, .int 0, .int 0])), (q12, .inr (3, [.int 0, .int 0, .int 0, .int 0])), (q11, .inr (3, [.int 0, .int 0, .int 0, .int 0])), (q10, .inr (3, [.int 0, .int 0, .int 0, .int 0])), (q9, .inr (3, [.int 0, .int 0, .int 0, .int 0])), (q8, .inr (3, [.int 0, .int 0, .int 0, .int 0])), (q7, .inl (gA (XG X) 0, 360, .inl fun _ => 0)), (q6, .inl (gA (XG X) 0, 8, .inl fun _ => 0)), (q5, .inl (gA (XG X) 0, 13, .inl fun _ => 0)), (q4, .inl (gA (XG X) 0, 24, .inl fun _ => 0)), (q3, .inl (gA (XG X) 5, 12, .inr (.inr (.inr (.inr (fun _ => none)))))), (q2, .inl (gA (XG X) 4, 12, .inr (.inr (.inr (.inr (fun _ => none)))))), (q1, .inl (gA (XG X) 3, 6, .inr (.inr (.inr (.inr (va_up (va_up (va_up (va_up (va_up (va_up (fun _ => none) 0 (some q8)) 1 (some q9)) 2 (some q10)) 3 (some q11)) 4 (some q12)) 5 (some q13))))))), (a, .inr (2, [.ref q1, .ref q2, .ref q3, .ref q4, .ref q5, .ref q6, .ref q7, .int 0, .int 0, .int 0, .int (-1), .int 0, .int 7, .int 8, .int 5, .int 9, .int 12, .int 0, .int 1, .int 0]))] ++ [])) hC 12 0 3 rfl (fun _ => rfl) rfl rfl (by unfold vp_in; decide) rfl dX3_init_123 ?_
  refine k_iinc hC 0 [(1, .int 6), (0, .ref a)] hnl dX3_init_124 rfl (by decide) rfl rfl ?_
  refine k_goto (tgt := 105) hC dX3_init_127 (by decide) ?_
  refine k_iload_n hC 0 dX3_init_105 rfl ?_
  refine k_bipush (v := 6) hC dX3_init_106 (by decide) ?_
  refine k_icmp_geT (tgt := 130) hC dX3_init_108 (by decide) (by decide) ?_
  refine k_iconst (v := 0) hC dX3_init_130 (by decide) ?_
  refine k_istore_n hC [(1, .int 0), (0, .ref a)] hnl dX3_init_131 rfl rfl ?_
  refine k_iload_n hC 0 dX3_init_132 rfl ?_
  refine k_bipush (v := 12) hC dX3_init_133 (by decide) ?_
  refine k_icmp_geF (tgt := 157) hC dX3_init_135 (by decide) (by decide) ?_
  refine k_aload_n hC 1 dX3_init_138 rfl ?_
  refine k_get (fk := 1) hC 13 rfl rfl in_X3 rfl rfl q259 rfl dX3_init_139 ?_
  refine k_iload_n hC 0 dX3_init_142 rfl ?_
  refine k_new (ci := 4) (fs := [.int 0, .int 0, .int 0, .int 0]) hC hE rfl in_X5 tyX5 tyX5_ok (fun j hj => by match j, hj with | 0, _ => rfl | 1, _ => rfl | 2, _ => rfl | 3, _ => rfl) q192 q226 q130 rfl rfl dX3_init_143 (fun q14 hq14 => ?_)
  refine k_dup hC dX3_init_146 rfl ?_
  refine k_initN (nA := 0) (rest := [.ref q14, .int 0, .ref q2]) hC hE (Or.inr hq14) [] rfl (kcX5 (XL X) (XG X) hg sz0 q14) q227 q228 q130 q229 rfl (by decide +kernel) rfl rfl rfl rfl rfl rfl dX3_init_147 (fun w147_q14 hw147_q14 => ?_)
  subst hw147_q14
  refine k_aast (P' := ([(q14, .inr (4, [.int 0, .int 0, .int 0, .int 0])), (q13, .inr (3, [.int 0, .int 0, .int 0, .int 0])), (q12, .inr (3, [.int 0, .int 0, .int 0, .int 0])), (q11, .inr (3, [.int 0, .int 0, .int 0, .int 0])), (q10, .inr (3, [.int 0, .int 0, .int 0, .int 0])), (q9, .inr (3, [.int 0, .int 0, .int 0, .int 0])), (q8, .inr (3, [.int 0, .int 0, .int 0, .int 0])), (q7, .inl (gA (XG X) 0, 360, .inl fun _ => 0)), (q6, .inl (gA (XG X) 0, 8, .inl fun _ => 0)), (q5, .inl (gA (XG X) 0, 13, .inl fun _ => 0)), (q4, .inl (gA (XG X) 0, 24, .inl fun _ => 0)), (q3, .inl (gA (XG X) 5, 12, .inr (.inr (.inr (.inr (fun _ => none)))))), (q2, .inl (gA (XG X) 4, 12, .inr (.inr (.inr (.inr (va_up (fun _ => none) 0 (some q14))))))), (q1, .inl (gA (XG X) 3, 6, .inr (.inr (.inr (.inr (va_up (va_up (va_up (va_up (va_up (va_up (fun _ => none) 0 (some q8)) 1 (some q9)) 2 (some q10)) 3 (some q11)) 4 (some q12)) 5 (some q13))))))), (a, .inr (2, [.ref q1, .ref q2, .ref q3, .ref q4, .ref q5, .ref q6, .ref q7, .int 0, .int 0, .int 0, .int (-1), .int 0, .int 7, .int 8, .int 5, .int 9, .int 12, .int 0, .int 1, .int 0]))] ++ [])) hC 12 0 4 rfl (fun _ => rfl) rfl rfl (by unfold vp_in; decide) rfl dX3_init_150 ?_
  refine k_iinc hC 0 [(1, .int 1), (0, .ref a)] hnl dX3_init_151 rfl (by decide) rfl rfl ?_
  refine k_goto (tgt := 132) hC dX3_init_154 (by decide) ?_
  refine k_iload_n hC 0 dX3_init_132 rfl ?_
  refine k_bipush (v := 12) hC dX3_init_133 (by decide) ?_
  refine k_icmp_geF (tgt := 157) hC dX3_init_135 (by decide) (by decide) ?_
  refine k_aload_n hC 1 dX3_init_138 rfl ?_
  refine k_get (fk := 1) hC 14 rfl rfl in_X3 rfl rfl q259 rfl dX3_init_139 ?_
  refine k_iload_n hC 0 dX3_init_142 rfl ?_
  refine k_new (ci := 4) (fs := [.int 0, .int 0, .int 0, .int 0]) hC hE rfl in_X5 tyX5 tyX5_ok (fun j hj => by match j, hj with | 0, _ => rfl | 1, _ => rfl | 2, _ => rfl | 3, _ => rfl) q192 q226 q130 rfl rfl dX3_init_143 (fun q15 hq15 => ?_)
  refine k_dup hC dX3_init_146 rfl ?_
  refine k_initN (nA := 0) (rest := [.ref q15, .int 1, .ref q2]) hC hE (Or.inr hq15) [] rfl (kcX5 (XL X) (XG X) hg sz0 q15) q227 q228 q130 q229 rfl (by decide +kernel) rfl rfl rfl rfl rfl rfl dX3_init_147 (fun w147_q15 hw147_q15 => ?_)
  subst hw147_q15
  refine k_aast (P' := ([(q15, .inr (4, [.int 0, .int 0, .int 0, .int 0])), (q14, .inr (4, [.int 0, .int 0, .int 0, .int 0])), (q13, .inr (3, [.int 0, .int 0, .int 0, .int 0])), (q12, .inr (3, [.int 0, .int 0, .int 0, .int 0])), (q11, .inr (3, [.int 0, .int 0, .int 0, .int 0])), (q10, .inr (3, [.int 0, .int 0, .int 0, .int 0])), (q9, .inr (3, [.int 0, .int 0, .int 0, .int 0])), (q8, .inr (3, [.int 0, .int 0, .int 0, .int 0])), (q7, .inl (gA (XG X) 0, 360, .inl fun _ => 0)), (q6, .inl (gA (XG X) 0, 8, .inl fun _ => 0)), (q5, .inl (gA (XG X) 0, 13, .inl fun _ => 0)), (q4, .inl (gA (XG X) 0, 24, .inl fun _ => 0)), (q3, .inl (gA (XG X) 5, 12, .inr (.inr (.inr (.inr (fun _ => none)))))), (q2, .inl (gA (XG X) 4, 12, .inr (.inr (.inr (.inr (va_up (va_up (fun _ => none) 0 (some q14)) 1 (some q15))))))), (q1, .inl (gA (XG X) 3, 6, .inr (.inr (.inr (.inr (va_up (va_up (va_up (va_up (va_up (va_up (fun _ => none) 0 (some q8)) 1 (some q9)) 2 (some q10)) 3 (some q11)) 4 (some q12)) 5 (some q13))))))), (a, .inr (2, [.ref q1, .ref q2, .ref q3, .ref q4, .ref q5, .ref q6, .ref q7, .int 0, .int 0, .int 0, .int (-1), .int 0, .int 7, .int 8, .int 5, .int 9, .int 12, .int 0, .int 1, .int 0]))] ++ [])) hC 13 0 4 rfl (fun _ => rfl) rfl rfl (by unfold vp_in; decide) rfl dX3_init_150 ?_
  refine k_iinc hC 0 [(1, .int 2), (0, .ref a)] hnl dX3_init_151 rfl (by decide) rfl rfl ?_
  refine k_goto (tgt := 132) hC dX3_init_154 (by decide) ?_
  refine k_iload_n hC 0 dX3_init_132 rfl ?_
  refine k_bipush (v := 12) hC dX3_init_133 (by decide) ?_
  refine k_icmp_geF (tgt := 157) hC dX3_init_135 (by decide) (by decide) ?_
  refine k_aload_n hC 1 dX3_init_138 rfl ?_
  refine k_get (fk := 1) hC 15 rfl rfl in_X3 rfl rfl q259 rfl dX3_init_139 ?_
  refine k_iload_n hC 0 dX3_init_142 rfl ?_
  refine k_new (ci := 4) (fs := [.int 0, .int 0, .int 0, .int 0]) hC hE rfl in_X5 tyX5 tyX5_ok (fun j hj => by match j, hj with | 0, _ => rfl | 1, _ => rfl | 2, _ => rfl | 3, _ => rfl) q192 q226 q130 rfl rfl dX3_init_143 (fun q16 hq16 => ?_)
  refine k_dup hC dX3_init_146 rfl ?_
  refine k_initN (nA := 0) (rest := [.ref q16, .int 2, .ref q2]) hC hE (Or.inr hq16) [] rfl (kcX5 (XL X) (XG X) hg sz0 q16) q227 q228 q130 q229 rfl (by decide +kernel) rfl rfl rfl rfl rfl rfl dX3_init_147 (fun w147_q16 hw147_q16 => ?_)
  subst hw147_q16
  refine k_aast (P' := ([(q16, .inr (4, [.int 0, .int 0, .int 0, .int 0])), (q15, .inr (4, [.int 0, .int 0, .int 0, .int 0])), (q14, .inr (4, [.int 0, .int 0, .int 0, .int 0])), (q13, .inr (3, [.int 0, .int 0, .int 0, .int 0])), (q12, .inr (3, [.int 0, .int 0, .int 0, .int 0])), (q11, .inr (3, [.int 0, .int 0, .int 0, .int 0])), (q10, .inr (3, [.int 0, .int 0, .int 0, .int 0])), (q9, .inr (3, [.int 0, .int 0, .int 0, .int 0])), (q8, .inr (3, [.int 0, .int 0, .int 0, .int 0])), (q7, .inl (gA (XG X) 0, 360, .inl fun _ => 0)), (q6, .inl (gA (XG X) 0, 8, .inl fun _ => 0)), (q5, .inl (gA (XG X) 0, 13, .inl fun _ => 0)), (q4, .inl (gA (XG X) 0, 24, .inl fun _ => 0)), (q3, .inl (gA (XG X) 5, 12, .inr (.inr (.inr (.inr (fun _ => none)))))), (q2, .inl (gA (XG X) 4, 12, .inr (.inr (.inr (.inr (va_up (va_up (va_up (fun _ => none) 0 (some q14)) 1 (some q15)) 2 (some q16))))))), (q1, .inl (gA (XG X) 3, 6, .inr (.inr (.inr (.inr (va_up (va_up (va_up (va_up (va_up (va_up (fun _ => none) 0 (some q8)) 1 (some q9)) 2 (some q10)) 3 (some q11)) 4 (some q12)) 5 (some q13))))))), (a, .inr (2, [.ref q1, .ref q2, .ref q3, .ref q4, .ref q5, .ref q6, .ref q7, .int 0, .int 0, .int 0, .int (-1), .int 0, .int 7, .int 8, .int 5, .int 9, .int 12, .int 0, .int 1, .int 0]))] ++ [])) hC 14 0 4 rfl (fun _ => rfl) rfl rfl (by unfold vp_in; decide) rfl dX3_init_150 ?_
  refine k_iinc hC 0 [(1, .int 3), (0, .ref a)] hnl dX3_init_151 rfl (by decide) rfl rfl ?_
  refine k_goto (tgt := 132) hC dX3_init_154 (by decide) ?_
  refine k_iload_n hC 0 dX3_init_132 rfl ?_
  refine k_bipush (v := 12) hC dX3_init_133 (by decide) ?_
  refine k_icmp_geF (tgt := 157) hC dX3_init_135 (by decide) (by decide) ?_
  refine k_aload_n hC 1 dX3_init_138 rfl ?_
  refine k_get (fk := 1) hC 16 rfl rfl in_X3 rfl rfl q259 rfl dX3_init_139 ?_
  refine k_iload_n hC 0 dX3_init_142 rfl ?_
  refine k_new (ci := 4) (fs := [.int 0, .int 0, .int 0, .int 0]) hC hE rfl in_X5 tyX5 tyX5_ok (fun j hj => by match j, hj with | 0, _ => rfl | 1, _ => rfl | 2, _ => rfl | 3, _ => rfl) q192 q226 q130 rfl rfl dX3_init_143 (fun q17 hq17 => ?_)
  refine k_dup hC dX3_init_146 rfl ?_
  refine k_initN (nA := 0) (rest := [.ref q17, .int 3, .ref q2]) hC hE (Or.inr hq17) [] rfl (kcX5 (XL X) (XG X) hg sz0 q17) q227 q228 q130 q229 rfl (by decide +kernel) rfl rfl rfl rfl rfl rfl dX3_init_147 (fun w147_q17 hw147_q17 => ?_)
  subst hw147_q17
  refine k_aast (P' := ([(q17, .inr (4, [.int 0, .int 0, .int 0, .int 0])), (q16, .inr (4, [.int 0, .int 0, .int 0, .int 0])), (q15, .inr (4, [.int 0, .int 0, .int 0, .int 0])), (q14, .inr (4, [.int 0, .int 0, .int 0, .int 0])), (q13, .inr (3, [.int 0, .int 0, .int 0, .int 0])), (q12, .inr (3, [.int 0, .int 0, .int 0, .int 0])), (q11, .inr (3, [.int 0, .int 0, .int 0, .int 0])), (q10, .inr (3, [.int 0, .int 0, .int 0, .int 0])), (q9, .inr (3, [.int 0, .int 0, .int 0, .int 0])), (q8, .inr (3, [.int 0, .int 0, .int 0, .int 0])), (q7, .inl (gA (XG X) 0, 360, .inl fun _ => 0)), (q6, .inl (gA (XG X) 0, 8, .inl fun _ => 0)), (q5, .inl (gA (XG X) 0, 13, .inl fun _ => 0)), (q4, .inl (gA (XG X) 0, 24, .inl fun _ => 0)), (q3, .inl (gA (XG X) 5, 12, .inr (.inr (.inr (.inr (fun _ => none)))))), (q2, .inl (gA (XG X) 4, 12, .inr (.inr (.inr (.inr (va_up (va_up (va_up (va_up (fun _ => none) 0 (some q14)) 1 (some q15)) 2 (some q16)) 3 (some q17))))))), (q1, .inl (gA (XG X) 3, 6, .inr (.inr (.inr (.inr (va_up (va_up (va_up (va_up (va_up (va_up (fun _ => none) 0 (some q8)) 1 (some q9)) 2 (some q10)) 3 (some q11)) 4 (some q12)) 5 (some q13))))))), (a, .inr (2, [.ref q1, .ref q2, .ref q3, .ref q4, .ref q5, .ref q6, .ref q7, .int 0, .int 0, .int 0, .int (-1), .int 0, .int 7, .int 8, .int 5, .int 9, .int 12, .int 0, .int 1, .int 0]))] ++ [])) hC 15 0 4 rfl (fun _ => rfl) rfl rfl (by unfold vp_in; decide) rfl dX3_init_150 ?_
  refine k_iinc hC 0 [(1, .int 4), (0, .ref a)] hnl dX3_init_151 rfl (by decide) rfl rfl ?_
  refine k_goto (tgt := 132) hC dX3_init_154 (by decide) ?_
  refine k_iload_n hC 0 dX3_init_132 rfl ?_
  refine k_bipush (v := 12) hC dX3_init_133 (by decide) ?_
  refine k_icmp_geF (tgt := 157) hC dX3_init_135 (by decide) (by decide) ?_
  refine k_aload_n hC 1 dX3_init_138 rfl ?_
  refine k_get (fk := 1) hC 17 rfl rfl in_X3 rfl rfl q259 rfl dX3_init_139 ?_
  refine k_iload_n hC 0 dX3_init_142 rfl ?_
  refine k_new (ci := 4) (fs := [.int 0, .int 0, .int 0, .int 0]) hC hE rfl in_X5 tyX5 tyX5_ok (fun j hj => by match j, hj with | 0, _ => rfl | 1, _ => rfl | 2, _ => rfl | 3, _ => rfl) q192 q226 q130 rfl rfl dX3_init_143 (fun q18 hq18 => ?_)
  refine k_dup hC dX3_init_146 rfl ?_
  refine k_initN (nA := 0) (rest := [.ref q18, .int 4, .ref q2]) hC hE (Or.inr hq18) [] rfl (kcX5 (XL X) (XG X) hg sz0 q18) q227 q228 q130 q229 rfl (by decide +kernel) rfl rfl rfl rfl rfl rfl dX3_init_147 (fun w147_q18 hw147_q18 => ?_)
  subst hw147_q18
  refine k_aast (P' := ([(q18, .inr (4, [.int 0, .int 0, .int 0, .int 0])), (q17, .inr (4, [.int 0, .int 0, .int 0, .int 0])), (q16, .inr (4, [.int 0, .int 0, .int 0, .int 0])), (q15, .inr (4, [.int 0, .int 0, .int 0, .int 0])), (q14, .inr (4, [.int 0, .int 0, .int 0, .int 0])), (q13, .inr (3, [.int 0, .int 0, .int 0, .int 0])), (q12, .inr (3, [.int 0, .int 0, .int 0, .int 0])), (q11, .inr (3, [.int 0, .int 0, .int 0, .int 0])), (q10, .inr (3, [.int 0, .int 0, .int 0, .int 0])), (q9, .inr (3, [.int 0, .int 0, .int 0, .int 0])), (q8, .inr (3, [.int 0, .int 0, .int 0, .int 0])), (q7, .inl (gA (XG X) 0, 360, .inl fun _ => 0)), (q6, .inl (gA (XG X) 0, 8, .inl fun _ => 0)), (q5, .inl (gA (XG X) 0, 13, .inl fun _ => 0)), (q4, .inl (gA (XG X) 0, 24, .inl fun _ => 0)), (q3, .inl (gA (XG X) 5, 12, .inr (.inr (.inr (.inr (fun _ => none)))))), (q2, .inl (gA (XG X) 4, 12, .inr (.inr (.inr (.inr (va_up (va_up (va_up (va_up (va_up (fun _ => none) 0 (some q14)) 1 (some q15)) 2 (some q16)) 3 (some q17)) 4 (some q18))))))), (q1, .inl (gA (XG X) 3, 6, .inr (.inr (.inr (.inr (va_up (va_up (va_up (va_up (va_up (va_up (fun _ => none) 0 (some q8)) 1 (some q9)) 2 (some q10)) 3 (some q11)) 4 (some q12)) 5 (some q13))))))), (a, .inr (2, [.ref q1, .ref q2, .ref q3, .ref q4, .ref q5, .ref q6, .ref q7, .int 0, .int 0, .int 0, .int (-1), .int 0, .int 7, .int 8, .int 5, .int 9, .int 12, .int 0, .int 1, .int 0]))] ++ [])) hC 16 0 4 rfl (fun _ => rfl) rfl rfl (by unfold vp_in; decide) rfl dX3_init_150 ?_
  refine k_iinc hC 0 [(1, .int 5), (0, .ref a)] hnl dX3_init_151 rfl (by decide) rfl rfl ?_
  refine k_goto (tgt := 132) hC dX3_init_154 (by decide) ?_
  refine k_iload_n hC 0 dX3_init_132 rfl ?_
  refine k_bipush (v := 12) hC dX3_init_133 (by decide) ?_
  refine k_icmp_geF (tgt := 157) hC dX3_init_135 (by decide) (by decide) ?_
  refine k_aload_n hC 1 dX3_init_138 rfl ?_
  refine k_get (fk := 1) hC 18 rfl rfl in_X3 rfl rfl q259 rfl dX3_init_139 ?_
  refine k_iload_n hC 0 dX3_init_142 rfl ?_
  refine k_new (ci := 4) (fs := [.int 0, .int 0, .int 0, .int 0]) hC hE rfl in_X5 tyX5 tyX5_ok (fun j hj => by match j, hj with | 0, _ => rfl | 1, _ => rfl | 2, _ => rfl | 3, _ => rfl) q192 q226 q130 rfl rfl dX3_init_143 (fun q19 hq19 => ?_)
  refine k_dup hC dX3_init_146 rfl ?_
  refine k_initN (nA := 0) (rest := [.ref q19, .int 5, .ref q2]) hC hE (Or.inr hq19) [] rfl (kcX5 (XL X) (XG X) hg sz0 q19) q227 q228 q130 q229 rfl (by decide +kernel) rfl rfl rfl rfl rfl rfl dX3_init_147 (fun w147_q19 hw147_q19 => ?_)
  subst hw147_q19
  refine k_aast (P' := ([(q19, .inr (4, [.int 0, .int 0, .int 0, .int 0])), (q18, .inr (4, [.int 0, .int 0, .int 0, .int 0])), (q17, .inr (4, [.int 0, .int 0, .int 0, .int 0])), (q16, .inr (4, [.int 0, .int 0, .int 0, .int 0])), (q15, .inr (4, [.int 0, .int 0, .int 0, .int 0])), (q14, .inr (4, [.int 0, .int 0, .int 0, .int 0])), (q13, .inr (3, [.int 0, .int 0, .int 0, .int 0])), (q12, .inr (3, [.int 0, .int 0, .int 0, .int 0])), (q11, .inr (3, [.int 0, .int 0, .int 0, .int 0])), (q10, .inr (3, [.int 0, .int 0, .int 0, .int 0])), (q9, .inr (3, [.int 0, .int 0, .int 0, .int 0])), (q8, .inr (3, [.int 0, .int 0, .int 0, .int 0])), (q7, .inl (gA (XG X) 0, 360, .inl fun _ => 0)), (q6, .inl (gA (XG X) 0, 8, .inl fun _ => 0)), (q5, .inl (gA (XG X) 0, 13, .inl fun _ => 0)), (q4, .inl (gA (XG X) 0, 24, .inl fun _ => 0)), (q3, .inl (gA (XG X) 5, 12, .inr (.inr (.inr (.inr (fun _ => none)))))), (q2, .inl (gA (XG X) 4, 12, .inr (.inr (.inr (.inr (va_up (va_up (va_up (va_up (va_up (va_up (fun _ => none) 0 (some q14)) 1 (some q15)) 2 (some q16)) 3 (some q17)) 4 (some q18)) 5 (some q19))))))), (q1, .inl (gA (XG X) 3, 6, .inr (.inr (.inr (.inr (va_up (va_up (va_up (va_up (va_up (va_up (fun _ => none) 0 (some q8)) 1 (some q9)) 2 (some q10)) 3 (some q11)) 4 (some q12)) 5 (some q13))))))), (a, .inr (2, [.ref q1, .ref q2, .ref q3, .ref q4, .ref q5, .ref q6, .ref q7, .int 0, .int 0, .int 0, .int (-1), .int 0, .int 7, .int 8, .int 5, .int 9, .int 12, .int 0, .int 1, .int 0]))] ++ [])) hC 17 0 4 rfl (fun _ => rfl) rfl rfl (by unfold vp_in; decide) rfl dX3_init_150 ?_
  refine k_iinc hC 0 [(1, .int 6), (0, .ref a)] hnl dX3_init_151 rfl (by decide) rfl rfl ?_
  refine k_goto (tgt := 132) hC dX3_init_154 (by decide) ?_
  refine k_iload_n hC 0 dX3_init_132 rfl ?_
  refine k_bipush (v := 12) hC dX3_init_133 (by decide) ?_
  refine k_icmp_geF (tgt := 157) hC dX3_init_135 (by decide) (by decide) ?_
  refine k_aload_n hC 1 dX3_init_138 rfl ?_
  refine k_get (fk := 1) hC 19 rfl rfl in_X3 rfl rfl q259 rfl dX3_init_139 ?_
  refine k_iload_n hC 0 dX3_init_142 rfl ?_
  refine k_new (ci := 4) (fs := [.int 0, .int 0, .int 0, .int 0]) hC hE rfl in_X5 tyX5 tyX5_ok (fun j hj => by match j, hj with | 0, _ => rfl | 1, _ => rfl | 2, _ => rfl | 3, _ => rfl) q192 q226 q130 rfl rfl dX3_init_143 (fun q20 hq20 => ?_)
  refine k_dup hC dX3_init_146 rfl ?_
  refine k_initN (nA := 0) (rest := [.ref q20, .int 6, .ref q2]) hC hE (Or.inr hq20) [] rfl (kcX5 (XL X) (XG X) hg sz0 q20) q227 q228 q130 q229 rfl (by decide +kernel) rfl rfl rfl rfl rfl rfl dX3_init_147 (fun w147_q20 hw147_q20 => ?_)
  subst hw147_q20
  refine k_aast (P' := ([(q20, .inr (4, [.int 0, .int 0, .int 0, .int 0])), (q19, .inr (4, [.int 0, .int 0, .int 0, .int 0])), (q18, .inr (4, [.int 0, .int 0, .int 0, .int 0])), (q17, .inr (4, [.int 0, .int 0, .int 0, .int 0])), (q16, .inr (4, [.int 0, .int 0, .int 0, .int 0])), (q15, .inr (4, [.int 0, .int 0, .int 0, .int 0])), (q14, .inr (4, [.int 0, .int 0, .int 0, .int 0])), (q13, .inr (3, [.int 0, .int 0, .int 0, .int 0])), (q12, .inr (3, [.int 0, .int 0, .int 0, .int 0])), (q11, .inr (3, [.int 0, .int 0, .int 0, .int 0])), (q10, .inr (3, [.int 0, .int 0, .int 0, .int 0])), (q9, .inr (3, [.int 0, .int 0, .int 0, .int 0])), (q8, .inr (3, [.int 0, .int 0, .int 0, .int 0])), (q7, .inl (gA (XG X) 0, 360, .inl fun _ => 0)), (q6, .inl (gA (XG X) 0, 8, .inl fun _ => 0)), (q5, .inl (gA (XG X) 0, 13, .inl fun _ => 0)), (q4, .inl (gA (XG X) 0, 24, .inl fun _ => 0)), (q3, .inl (gA (XG X) 5, 12, .inr (.inr (.inr (.inr (fun _ => none)))))), (q2, .inl (gA (XG X) 4, 12, .inr (.inr (.inr (.inr (va_up (va_up (va_up (va_up (va_up (va_up (va_up (fun _ => none) 0 (some q14)) 1 (some q15)) 2 (some q16)) 3 (some q17)) 4 (some q18)) 5 (some q19)) 6 (some q20))))))), (q1, .inl (gA (XG X) 3, 6, .inr (.inr (.inr (.inr (va_up (va_up (va_up (va_up (va_up (va_up (fun _ => none) 0 (some q8)) 1 (some q9)) 2 (some q10)) 3 (some q11)) 4 (some q12)) 5 (some q13))))))), (a, .inr (2, [.ref q1, .ref q2, .ref q3, .ref q4, .ref q5, .ref q6, .ref q7, .int 0, .int 0, .int 0, .int (-1), .int 0, .int 7, .int 8, .int 5, .int 9, .int 12, .int 0, .int 1, .int 0]))] ++ [])) hC 18 0 4 rfl (fun _ => rfl) rfl rfl (by unfold vp_in; decide) rfl dX3_init_150 ?_
  refine k_iinc hC 0 [(1, .int 7), (0, .ref a)] hnl dX3_init_151 rfl (by decide) rfl rfl ?_
  refine k_goto (tgt := 132) hC dX3_init_154 (by decide) ?_
  refine k_iload_n hC 0 dX3_init_132 rfl ?_
  refine k_bipush (v := 12) hC dX3_init_133 (by decide) ?_
  refine k_icmp_geF (tgt := 157) hC dX3_init_135 (by decide) (by decide) ?_
  refine k_aload_n hC 1 dX3_init_138 rfl ?_
  refine k_get (fk := 1) hC 20 rfl rfl in_X3 rfl rfl q259 rfl dX3_init_139 ?_
  refine k_iload_n hC 0 dX3_init_142 rfl ?_
  refine k_new (ci := 4) (fs := [.int 0, .int 0, .int 0, .int 0]) hC hE rfl in_X5 tyX5 tyX5_ok (fun j hj => by match j, hj with | 0, _ => rfl | 1, _ => rfl | 2, _ => rfl | 3, _ => rfl) q192 q226 q130 rfl rfl dX3_init_143 (fun q21 hq21 => ?_)
  refine k_dup hC dX3_init_146 rfl ?_
  refine k_initN (nA := 0) (rest := [.ref q21, .int 7, .ref q2]) hC hE (Or.inr hq21) [] rfl (kcX5 (XL X) (XG X) hg sz0 q21) q227 q228 q130 q229 rfl (by decide +kernel) rfl rfl rfl rfl rfl rfl dX3_init_147 (fun w147_q21 hw147_q21 => ?_)
  subst hw147_q21
  refine k_aast (P' := ([(q21, .inr (4, [.int 0, .int 0, .int 0, .int 0])), (q20, .inr (4, [.int 0, .int 0, .int 0, .int 0])), (q19, .inr (4, [.int 0, .int 0, .int 0, .int 0])), (q18, .inr (4, [.int 0, .int 0, .int 0, .int 0])), (q17, .inr (4, [.int 0, .int 0, .int 0, .int 0])), (q16, .inr (4, [.int 0, .int 0, .int 0, .int 0])), (q15, .inr (4, [.int 0, .int 0, .int 0, .int 0])), (q14, .inr (4, [.int 0, .int 0, .int 0, .int 0])), (q13, .inr (3, [.int 0, .int 0, .int 0, .int 0])), (q12, .inr (3, [.int 0, .int 0, .int 0, .int 0])), (q11, .inr (3, [.int 0, .int 0, .int 0, .int 0])), (q10, .inr (3, [.int 0, .int 0, .int 0, .int 0])), (q9, .inr (3, [.int 0, .int 0, .int 0, .int 0])), (q8, .inr (3, [.int 0, .int 0, .int 0, .int 0])), (q7, .inl (gA (XG X) 0, 360, .inl fun _ => 0)), (q6, .inl (gA (XG X) 0, 8, .inl fun _ => 0)), (q5, .inl (gA (XG X) 0, 13, .inl fun _ => 0)), (q4, .inl (gA (XG X) 0, 24, .inl fun _ => 0)), (q3, .inl (gA (XG X) 5, 12, .inr (.inr (.inr (.inr (fun _ => none)))))), (q2, .inl (gA (XG X) 4, 12, .inr (.inr (.inr (.inr (va_up (va_up (va_up (va_up (va_up (va_up (va_up (va_up (fun _ => none) 0 (some q14)) 1 (some q15)) 2 (some q16)) 3 (some q17)) 4 (some q18)) 5 (some q19)) 6 (some q20)) 7 (some q21))))))), (q1, .inl (gA (XG X) 3, 6, .inr (.inr (.inr (.inr (va_up (va_up (va_up (va_up (va_up (va_up (fun _ => none) 0 (some q8)) 1 (some q9)) 2 (some q10)) 3 (some q11)) 4 (some q12)) 5 (some q13))))))), (a, .inr (2, [.ref q1, .ref q2, .ref q3, .ref q4, .ref q5, .ref q6, .ref q7, .int 0, .int 0, .int 0, .int (-1), .int 0, .int 7, .int 8, .int 5, .int 9, .int 12, .int 0, .int 1, .int 0]))] ++ [])) hC 19 0 4 rfl (fun _ => rfl) rfl rfl (by unfold vp_in; decide) rfl dX3_init_150 ?_
  refine k_iinc hC 0 [(1, .int 8), (0, .ref a)] hnl dX3_init_151 rfl (by decide) rfl rfl ?_
  refine k_goto (tgt := 132) hC dX3_init_154 (by decide) ?_
  refine k_iload_n hC 0 dX3_init_132 rfl ?_
  refine k_bipush (v := 12) hC dX3_init_133 (by decide) ?_
  refine k_icmp_geF (tgt := 157) hC dX3_init_135 (by decide) (by decide) ?_
  refine k_aload_n hC 1 dX3_init_138 rfl ?_
  refine k_get (fk := 1) hC 21 rfl rfl in_X3 rfl rfl q259 rfl dX3_init_139 ?_
  refine k_iload_n hC 0 dX3_init_142 rfl ?_
  refine k_new (ci := 4) (fs := [.int 0, .int 0, .int 0, .int 0]) hC hE rfl in_X5 tyX5 tyX5_ok (fun j hj => by match j, hj with | 0, _ => rfl | 1, _ => rfl | 2, _ => rfl | 3, _ => rfl) q192 q226 q130 rfl rfl dX3_init_143 (fun q22 hq22 => ?_)
  refine k_dup hC dX3_init_146 rfl ?_
  refine k_initN (nA := 0) (rest := [.ref q22, .int 8, .ref q2]) hC hE (Or.inr hq22) [] rfl (kcX5 (XL X) (XG X) hg sz0 q22) q227 q228 q130 q229 rfl (by decide +kernel) rfl rfl rfl rfl rfl rfl dX3_init_147 (fun w147_q22 hw147_q22 => ?_)
  subst hw147_q22
  refine k_aast (P' := ([(q22, .inr (4, [.int 0, .int 0, .int 0, .int 0])), (q21, .inr (4, [.int 0, .int 0, .int 0, .int 0])), (q20, .inr (4, [.int 0, .int 0, .int 0, .int 0])), (q19, .inr (4, [.int 0, .int 0, .int 0, .int 0])), (q18, .inr (4, [.int 0, .int 0, .int 0, .int 0])), (q17, .inr (4, [.int 0, .int 0, .int 0, .int 0])), (q16, .inr (4, [.int 0, .int 0, .int 0, .int 0])), (q15, .inr (4, [.int 0, .int 0, .int 0, .int 0])), (q14, .inr (4, [.int 0, .int 0, .int 0, .int 0])), (q13, .inr (3, [.int 0, .int 0, .int 0, .int 0])), (q12, .inr (3, [.int 0, .int 0, .int 0, .int 0])), (q11, .inr (3, [.int 0, .int 0, .int 0, .int 0])), (q10, .inr (3, [.int 0, .int 0, .int 0, .int 0])), (q9, .inr (3, [.int 0, .int 0, .int 0, .int 0])), (q8, .inr (3, [.int 0, .int 0, .int 0, .int 0])), (q7, .inl (gA (XG X) 0, 360, .inl fun _ => 0)), (q6, .inl (gA (XG X) 0, 8, .inl fun _ => 0)), (q5, .inl (gA (XG X) 0, 13, .inl fun _ => 0)), (q4, .inl (gA (XG X) 0, 24, .inl fun _ => 0)), (q3, .inl (gA (XG X) 5, 12, .inr (.inr (.inr (.inr (fun _ => none)))))), (q2, .inl (gA (XG X) 4, 12, .inr (.inr (.inr (.inr (va_up (va_up (va_up (va_up (va_up (va_up (va_up (va_up (va_up (fun _ => none) 0 (some q14)) 1 (some q15)) 2 (some q16)) 3 (some q17)) 4 (some q18)) 5 (some q19)) 6 (some q20)) 7 (some q21)) 8 (some q22))))))), (q1, .inl (gA (XG X) 3, 6, .inr (.inr (.inr (.inr (va_up (va_up (va_up (va_up (va_up (va_up (fun _ => none) 0 (some q8)) 1 (some q9)) 2 (some q10)) 3 (some q11)) 4 (some q12)) 5 (some q13))))))), (a, .inr (2, [.ref q1, .ref q2, .ref q3, .ref q4, .ref q5, .ref q6, .ref q7, .int 0, .int 0, .int 0, .int (-1), .int 0, .int 7, .int 8, .int 5, .int 9, .int 12, .int 0, .int 1, .int 0]))] ++ [])) hC 20 0 4 rfl (fun _ => rfl) rfl rfl (by unfold vp_in; decide) rfl dX3_init_150 ?_
  refine k_iinc hC 0 [(1, .int 9), (0, .ref a)] hnl dX3_init_151 rfl (by decide) rfl rfl ?_
  refine k_goto (tgt := 132) hC dX3_init_154 (by decide) ?_
  refine k_iload_n hC 0 dX3_init_132 rfl ?_
  refine k_bipush (v := 12) hC dX3_init_133 (by decide) ?_
  refine k_icmp_geF (tgt := 157) hC dX3_init_135 (by decide) (by decide) ?_
  refine k_aload_n hC 1 dX3_init_138 rfl ?_
  refine k_get (fk := 1) hC 22 rfl rfl in_X3 rfl rfl q259 rfl dX3_init_139 ?_
  refine k_iload_n hC 0 dX3_init_142 rfl ?_
  refine k_new (ci := 4) (fs := [.int 0, .int 0, .int 0, .int 0]) hC hE rfl in_X5 tyX5 tyX5_ok (fun j hj => by match j, hj with | 0, _ => rfl | 1, _ => rfl | 2, _ => rfl | 3, _ => rfl) q192 q226 q130 rfl rfl dX3_init_143 (fun q23 hq23 => ?_)
  refine k_dup hC dX3_init_146 rfl ?_
  refine k_initN (nA := 0) (rest := [.ref q23, .int 9, .ref q2]) hC hE (Or.inr hq23) [] rfl (kcX5 (XL X) (XG X) hg sz0 q23) q227 q228 q130 q229 rfl (by decide +kernel) rfl rfl rfl rfl rfl rfl dX3_init_147 (fun w147_q23 hw147_q23 => ?_)
  subst hw147_q23
  refine k_aast (P' := ([(q23, .inr (4, [.int 0, .int 0, .int 0, .int 0])), (q22, .inr (4, [.int 0, .int 0, .int 0, .int 0])), (q21, .inr (4, [.int 0, .int 0, .int 0, .int 0])), (q20, .inr (4, [.int 0, .int 0, .int 0, .int 0])), (q19, .inr (4, [.int 0, .int 0, .int 0, .int 0])), (q18, .inr (4, [.int 0, .int 0, .int 0, .int 0])), (q17, .inr (4, [.int 0, .int 0, .int 0, .int 0])), (q16, .inr (4, [.int 0, .int 0, .int 0, .int 0])), (q15, .inr (4, [.int 0, .int 0, .int 0, .int 0])), (q14, .inr (4, [.int 0, .int 0, .int 0, .int 0])), (q13, .inr (3, [.int 0, .int 0, .int 0, .int 0])), (q12, .inr (3, [.int 0, .int 0, .int 0, .int 0])), (q11, .inr (3, [.int 0, .int 0, .int 0, .int 0])), (q10, .inr (3, [.int 0, .int 0, .int 0, .int 0])), (q9, .inr (3, [.int 0, .int 0, .int 0, .int 0])), (q8, .inr (3, [.int 0, .int 0, .int 0, .int 0])), (q7, .inl (gA (XG X) 0, 360, .inl fun _ => 0)), (q6, .inl (gA (XG X) 0, 8, .inl fun _ => 0)), (q5, .inl (gA (XG X) 0, 13, .inl fun _ => 0)), (q4, .inl (gA (XG X) 0, 24, .inl fun _ => 0)), (q3, .inl (gA (XG X) 5, 12, .inr (.inr (.inr (.inr (fun _ => none)))))), (q2, .inl (gA (XG X) 4, 12, .inr (.inr (.inr (.inr (va_up (va_up (va_up (va_up (va_up (va_up (va_up (va_up (va_up (va_up (fun _ => none) 0 (some q14)) 1 (some q15)) 2 (some q16)) 3 (some q17)) 4 (some q18)) 5 (some q19)) 6 (some q20)) 7 (some q21)) 8 (some q22)) 9 (some q23))))))), (q1, .inl (gA (XG X) 3, 6, .inr (.inr (.inr (.inr (va_up (va_up (va_up (va_up (va_up (va_up (fun _ => none) 0 (some q8)) 1 (some q9)) 2 (some q10)) 3 (some q11)) 4 (some q12)) 5 (some q13))))))), (a, .inr (2, [.ref q1, .ref q2, .ref q3, .ref q4, .ref q5, .ref q6, .ref q7, .int 0, .int 0, .int 0, .int (-1), .int 0, .int 7, .int 8, .int 5, .int 9, .int 12, .int 0, .int 1, .int 0]))] ++ [])) hC 21 0 4 rfl (fun _ => rfl) rfl rfl (by unfold vp_in; decide) rfl dX3_init_150 ?_
  refine k_iinc hC 0 [(1, .int 10), (0, .ref a)] hnl dX3_init_151 rfl (by decide) rfl rfl ?_
  refine k_goto (tgt := 132) hC dX3_init_154 (by decide) ?_
  refine k_iload_n hC 0 dX3_init_132 rfl ?_
  refine k_bipush (v := 12) hC dX3_init_133 (by decide) ?_
  refine k_icmp_geF (tgt := 157) hC dX3_init_135 (by decide) (by decide) ?_
  refine k_aload_n hC 1 dX3_init_138 rfl ?_
  refine k_get (fk := 1) hC 23 rfl rfl in_X3 rfl rfl q259 rfl dX3_init_139 ?_
  refine k_iload_n hC 0 dX3_init_142 rfl ?_
  refine k_new (ci := 4) (fs := [.int 0, .int 0, .int 0, .int 0]) hC hE rfl in_X5 tyX5 tyX5_ok (fun j hj => by match j, hj with | 0, _ => rfl | 1, _ => rfl | 2, _ => rfl | 3, _ => rfl) q192 q226 q130 rfl rfl dX3_init_143 (fun q24 hq24 => ?_)
  refine k_dup hC dX3_init_146 rfl ?_
  refine k_initN (nA := 0) (rest := [.ref q24, .int 10, .ref q2]) hC hE (Or.inr hq24) [] rfl (kcX5 (XL X) (XG X) hg sz0 q24) q227 q228 q130 q229 rfl (by decide +kernel) rfl rfl rfl rfl rfl rfl dX3_init_147 (fun w147_q24 hw147_q24 => ?_)
  subst hw147_q24
  refine k_aast (P' := ([(q24, .inr (4, [.int 0, .int 0, .int 0, .int 0])), (q23, .inr (4, [.int 0, .int 0, .int 0, .int 0])), (q22, .inr (4, [.int 0, .int 0, .int 0, .int 0])), (q21, .inr (4, [.int 0, .int 0, .int 0, .int 0])), (q20, .inr (4, [.int 0, .int 0, .int 0, .int 0])), (q19, .inr (4, [.int 0, .int 0, .int 0, .int 0])), (q18, .inr (4, [.int 0, .int 0, .int 0, .int 0])), (q17, .inr (4, [.int 0, .int 0, .int 0, .int 0])), (q16, .inr (4, [.int 0, .int 0, .int 0, .int 0])), (q15, .inr (4, [.int 0, .int 0, .int 0, .int 0])), (q14, .inr (4, [.int 0, .int 0, .int 0, .int 0])), (q13, .inr (3, [.int 0, .int 0, .int 0, .int 0])), (q12, .inr (3, [.int 0, .int 0, .int 0, .int 0])), (q11, .inr (3, [.int 0, .int 0, .int 0, .int 0])), (q10, .inr (3, [.int 0, .int 0, .int 0, .int 0])), (q9, .inr (3, [.int 0, .int 0, .int 0, .int 0])), (q8, .inr (3, [.int 0, .int 0, .int 0, .int 0])), (q7, .inl (gA (XG X) 0, 360, .inl fun _ => 0)), (q6, .inl (gA (XG X) 0, 8, .inl fun _ => 0)), (q5, .inl (gA (XG X) 0, 13, .inl fun _ => 0)), (q4, .inl (gA (XG X) 0, 24, .inl fun _ => 0)), (q3, .inl (gA (XG X) 5, 12, .inr (.inr (.inr (.inr (fun _ => none)))))), (q2, .inl (gA (XG X) 4, 12, .inr (.inr (.inr (.inr (va_up (va_up (va_up (va_up (va_up (va_up (va_up (va_up (va_up (va_up (va_up (fun _ => none) 0 (some q14)) 1 (some q15)) 2 (some q16)) 3 (some q17)) 4 (some q18)) 5 (some q19)) 6 (some q20)) 7 (some q21)) 8 (some q22)) 9 (some q23)) 10 (some q24))))))), (q1, .inl (gA (XG X) 3, 6, .inr (.inr (.inr (.inr (va_up (va_up (va_up (va_up (va_up (va_up (fun _ => none) 0 (some q8)) 1 (some q9)) 2 (some q10)) 3 (some q11)) 4 (some q12)) 5 (some q13))))))), (a, .inr (2, [.ref q1, .ref q2, .ref q3, .ref q4, .ref q5, .ref q6, .ref q7, .int 0, .int 0, .int 0, .int (-1), .int 0, .int 7, .int 8, .int 5, .int 9, .int 12, .int 0, .int 1, .int 0]))] ++ [])) hC 22 0 4 rfl (fun _ => rfl) rfl rfl (by unfold vp_in; decide) rfl dX3_init_150 ?_
  refine k_iinc hC 0 [(1, .int 11), (0, .ref a)] hnl dX3_init_151 rfl (by decide) rfl rfl ?_
  refine k_goto (tgt := 132) hC dX3_init_154 (by decide) ?_
  refine k_iload_n hC 0 dX3_init_132 rfl ?_
  refine k_bipush (v := 12) hC dX3_init_133 (by decide) ?_
  refine k_icmp_geF (tgt := 157) hC dX3_init_135 (by decide) (by decide) ?_
  refine k_aload_n hC 1 dX3_init_138 rfl ?_
  refine k_get (fk := 1) hC 24 rfl rfl in_X3 rfl rfl q259 rfl dX3_init_139 ?_
  refine k_iload_n hC 0 dX3_init_142 rfl ?_
  refine k_new (ci := 4) (fs := [.int 0, .int 0, .int 0, .int 0]) hC hE rfl in_X5 tyX5 tyX5_ok (fun j hj => by match j, hj with | 0, _ => rfl | 1, _ => rfl | 2, _ => rfl | 3, _ => rfl) q192 q226 q130 rfl rfl dX3_init_143 (fun q25 hq25 => ?_)
  refine k_dup hC dX3_init_146 rfl ?_
  refine k_initN (nA := 0) (rest := [.ref q25, .int 11, .ref q2]) hC hE (Or.inr hq25) [] rfl (kcX5 (XL X) (XG X) hg sz0 q25) q227 q228 q130 q229 rfl (by decide +kernel) rfl rfl rfl rfl rfl rfl dX3_init_147 (fun w147_q25 hw147_q25 => ?_)
  subst hw147_q25
  refine k_aast (P' := ([(q25, .inr (4, [.int 0, .int 0, .int 0, .int 0])), (q24, .inr (4, [.int 0, .int 0, .int 0, .int 0])), (q23, .inr (4, [.int 0, .int 0, .int 0, .int 0])), (q22, .inr (4, [.int 0, .int 0, .int 0, .int 0])), (q21, .inr (4, [.int 0, .int 0, .int 0, .int 0])), (q20, .inr (4, [.int 0, .int 0, .int 0, .int 0])), (q19, .inr (4, [.int 0, .int 0, .int 0, .int 0])), (q18, .inr (4, [.int 0, .int 0, .int 0, .int 0])), (q17, .inr (4, [.int 0, .int 0, .int 0, .int 0])), (q16, .inr (4, [.int 0, .int 0, .int 0, .int 0])), (q15, .inr (4, [.int 0, .int 0, .int 0, .int 0])), (q14, .inr (4, [.int 0, .int 0, .int 0, .int 0])), (q13, .inr (3, [.int 0, .int 0, .int 0, .int 0])), (q12, .inr (3, [.int 0, .int 0, .int 0, .int 0])), (q11, .inr (3, [.int 0, .int 0, .int 0, .int 0])), (q10, .inr (3, [.int 0, .int 0, .int 0, .int 0])), (q9, .inr (3, [.int 0, .int 0, .int 0, .int 0])), (q8, .inr (3, [.int 0, .int 0, .int 0, .int 0])), (q7, .inl (gA (XG X) 0, 360, .inl fun _ => 0)), (q6, .inl (gA (XG X) 0, 8, .inl fun _ => 0)), (q5, .inl (gA (XG X) 0, 13, .inl fun _ => 0)), (q4, .inl (gA (XG X) 0, 24, .inl fun _ => 0)), (q3, .inl (gA (XG X) 5, 12, .inr (.inr (.inr (.inr (fun _ => none)))))), (q2, .inl (gA (XG X) 4, 12, .inr (.inr (.inr (.inr (va_up (va_up (va_up (va_up (va_up (va_up (va_up (va_up (va_up (va_up (va_up (va_up (fun _ => none) 0 (some q14)) 1 (some q15)) 2 (some q16)) 3 (some q17)) 4 (some q18)) 5 (some q19)) 6 (some q20)) 7 (some q21)) 8 (some q22)) 9 (some q23)) 10 (some q24)) 11 (some q25))))))), (q1, .inl (gA (XG X) 3, 6, .inr (.inr (.inr (.inr (va_up (va_up (va_up (va_up (va_up (va_up (fun _ => none) 0 (some q8)) 1 (some q9)) 2 (some q10)) 3 (some q11)) 4 (some q12)) 5 (some q13))))))), (a, .inr (2, [.ref q1, .ref q2, .ref q3, .ref q4, .ref q5, .ref q6, .ref q7, .int 0, .int 0, .int 0, .int (-1), .int 0, .int 7, .int 8, .int 5, .int 9, .int 12, .int 0, .int 1, .int 0]))] ++ [])) hC 23 0 4 rfl (fun _ => rfl) rfl rfl (by unfold vp_in; decide) rfl dX3_init_150 ?_
  refine k_iinc hC 0 [(1, .int 12), (0, .ref a)] hnl dX3_init_151 rfl (by decide) rfl rfl ?_
  refine k_goto (tgt := 132) hC dX3_init_154 (by decide) ?_
  refine k_iload_n hC 0 dX3_init_132 rfl ?_
  refine k_bipush (v := 12) hC dX3_init_133 (by decide) ?_
  refine k_icmp_geT (tgt := 157) hC dX3_init_135 (by decide) (by decide) ?_
  refine k_ext (P' := ([(q25, .inr (4, [.int 0, .int 0, .int 0, .int 0])), (q24, .inr (4, [.int 0, .int 0, .int 0, .int 0])), (q23, .inr (4, [.int 0, .int 0, .int 0, .int 0])), (q22, .inr (4, [.int 0, .int 0, .int 0, .int 0])), (q21, .inr (4, [.int 0, .int 0, .int 0, .int 0])), (q20, .inr (4, [.int 0, .int 0, .int 0, .int 0])), (q19, .inr (4, [.int 0, .int 0, .int 0, .int 0])), (q18, .inr (4, [.int 0, .int 0, .int 0, .int 0])), (q17, .inr (4, [.int 0, .int 0, .int 0, .int 0])), (q16, .inr (4, [.int 0, .int 0, .int 0, .int 0])), (q15, .inr (4, [.int 0, .int 0, .int 0, .int 0])), (q14, .inr (4, [.int 0, .int 0, .int 0, .int 0])), (q13, .inr (3, [.int 0, .int 0, .int 0, .int 0])), (q12, .inr (3, [.int 0, .int 0, .int 0, .int 0])), (q11, .inr (3, [.int 0, .int 0, .int 0, .int 0])), (q10, .inr (3, [.int 0, .int 0, .int 0, .int 0])), (q9, .inr (3, [.int 0, .int 0, .int 0, .int 0])), (q8, .inr (3, [.int 0, .int 0, .int 0, .int 0])), (q7, .inl (gA (XG X) 0, 360, .inl fun _ => 0)), (q6, .inl (gA (XG X) 0, 8, .inl fun _ => 0)), (q5, .inl (gA (XG X) 0, 13, .inl fun _ => 0)), (q4, .inl (gA (XG X) 0, 24, .inl fun _ => 0)), (q3, .inl (gA (XG X) 5, 12, .inr (.inr (.inr (.inr (fun _ => none)))))), (q2, .inl (gA (XG X) 4, 12, .inr (.inr (.inr (.inr (va_up (va_up (va_up (va_up (va_up (va_up (va_up (va_up (va_up (va_up (va_up (va_up (fun _ => none) 0 (some q14)) 1 (some q15)) 2 (some q16)) 3 (some q17)) 4 (some q18)) 5 (some q19)) 6 (some q20)) 7 (some q21)) 8 (some q22)) 9 (some q23)) 10 (some q24)) 11 (some q25))))))), (q1, .inl (gA (XG X) 3, 6, .inr (.inr (.inr (.inr (fun j => some ((fun i => [q1, q2, q3, q4, q5, q6, q7, q8, q9, q10, q11, q12, q13, q14, q15, q16, q17, q18, q19, q20, q21, q22, q23, q24, q25].getD i 0) (7 + j)))))))), (a, .inr (2, [.ref q1, .ref q2, .ref q3, .ref q4, .ref q5, .ref q6, .ref q7, .int 0, .int 0, .int 0, .int (-1), .int 0, .int 7, .int 8, .int 5, .int 9, .int 12, .int 0, .int 1, .int 0]))] ++ [])) 24 rfl (fun j hj => by match j, hj with | 0, _ => rfl | 1, _ => rfl | 2, _ => rfl | 3, _ => rfl | 4, _ => rfl | 5, _ => rfl) rfl ?_
  refine k_ext (P' := ([(q25, .inr (4, [.int 0, .int 0, .int 0, .int 0])), (q24, .inr (4, [.int 0, .int 0, .int 0, .int 0])), (q23, .inr (4, [.int 0, .int 0, .int 0, .int 0])), (q22, .inr (4, [.int 0, .int 0, .int 0, .int 0])), (q21, .inr (4, [.int 0, .int 0, .int 0, .int 0])), (q20, .inr (4, [.int 0, .int 0, .int 0, .int 0])), (q19, .inr (4, [.int 0, .int 0, .int 0, .int 0])), (q18, .inr (4, [.int 0, .int 0, .int 0, .int 0])), (q17, .inr (4, [.int 0, .int 0, .int 0, .int 0])), (q16, .inr (4, [.int 0, .int 0, .int 0, .int 0])), (q15, .inr (4, [.int 0, .int 0, .int 0, .int 0])), (q14, .inr (4, [.int 0, .int 0, .int 0, .int 0])), (q13, .inr (3, [.int 0, .int 0, .int 0, .int 0])), (q12, .inr (3, [.int 0, .int 0, .int 0, .int 0])), (q11, .inr (3, [.int 0, .int 0, .int 0, .int 0])), (q10, .inr (3, [.int 0, .int 0, .int 0, .int 0])), (q9, .inr (3, [.int 0, .int 0, .int 0, .int 0])), (q8, .inr (3, [.int 0, .int 0, .int 0, .int 0])), (q7, .inl (gA (XG X) 0, 360, .inl fun _ => 0)), (q6, .inl (gA (XG X) 0, 8, .inl fun _ => 0)), (q5, .inl (gA (XG X) 0, 13, .inl fun _ => 0)), (q4, .inl (gA (XG X) 0, 24, .inl fun _ => 0)), (q3, .inl (gA (XG X) 5, 12, .inr (.inr (.inr (.inr (fun _ => none)))))), (q2, .inl (gA (XG X) 4, 12, .inr (.inr (.inr (.inr (fun j => some ((fun i => [q1, q2, q3, q4, q5, q6, q7, q8, q9, q10, q11, q12, q13, q14, q15, q16, q17, q18, q19, q20, q21, q22, q23, q24, q25].getD i 0) (13 + j)))))))), (q1, .inl (gA (XG X) 3, 6, .inr (.inr (.inr (.inr (fun j => some ((fun i => [q1, q2, q3, q4, q5, q6, q7, q8, q9, q10, q11, q12, q13, q14, q15, q16, q17, q18, q19, q20, q21, q22, q23, q24, q25].getD i 0) (7 + j)))))))), (a, .inr (2, [.ref q1, .ref q2, .ref q3, .ref q4, .ref q5, .ref q6, .ref q7, .int 0, .int 0, .int 0, .int (-1), .int 0, .int 7, .int 8, .int 5, .int 9, .int 12, .int 0, .int 1, .int 0]))] ++ [])) 23 rfl (fun j hj => by match j, hj with | 0, _ => rfl | 1, _ => rfl | 2, _ => rfl | 3, _ => rfl | 4, _ => rfl | 5, _ => rfl | 6, _ => rfl | 7, _ => rfl | 8, _ => rfl | 9, _ => rfl | 10, _ => rfl | 11, _ => rfl) rfl ?_
  refine k_perm (List.reverse_perm _).symm ?_
  exact k_vret hC ⟨(fun i => [q1, q2, q3, q4, q5, q6, q7, q8, q9, q10, q11, q12, q13, q14, q15, q16, q17, q18, q19, q20, q21, q22, q23, q24, q25].getD i 0), rfl⟩ rfl rfl dX3_init_157
/-- Ways and its arrays -/
def wyL (Γ : xG) (y a : Nat) (ad : Nat → Nat) : va_W := [(a, .inr (6, [.ref (ad 0), .ref (ad 1), .ref (ad 2), .ref (ad 3), .ref (ad 4), .int 0, .int 0, .ref y])), ((ad 0), .inl (gA Γ 0, 9, .inl fun _ => 0)), ((ad 1), .inl (gA Γ 0, 16, .inl fun _ => 0)), ((ad 2), .inl (gA Γ 0, 128, .inl fun _ => 0)), ((ad 3), .inl (gA Γ 0, 208, .inl fun _ => 0)), ((ad 4), .inl (gA Γ 0, 208, .inl fun _ => 0))]
theorem kcX7 (l : Launch) (Γ : xG) (hg : gdm Γ = fun _ => false) (sz0 a : Nat) (y : Nat) : CK l yX7_init (ws_ yX7_init cX7_init 2 none) 1 32 5 569 Γ sz0 [.ref a, .ref y] a (.inr (6, [.null, .null, .null, .null, .null, .int 0, .int 0, .null])) (fun w => ∃ ad : Nat → Nat, w = wyL Γ y a ad) := by
  refine CK.of hg (own := RX7) (lv0 := lv_args 0 [.ref a, .ref y]) (by decide +kernel) rfl rfl (Nat.le_of_ble_eq_true rfl) rfl (fun X e1 e2 hnl hC hI hE => ?_)
  subst e1
  refine k_aload_n hC 0 dX7_init_0 rfl ?_
  refine k_aload_n hC 1 dX7_init_1 rfl ?_
  refine k_putF (fk := 7) (ty := (.object "FeatherYard")) (P' := ([(a, .inr (6, [.null, .null, .null, .null, .null, .int 0, .int 0, .ref y]))] ++ [])) hC hI 0 rfl rfl in_X7 rfl rfl rfl q477 tyX7 tyX7_ok nmX7 rfl (by decide +kernel) rfl rfl rfl rfl dX7_init_2 ?_
  refine k_aload_n hC 0 dX7_init_5 rfl ?_
  refine k_objInit hC q464 rfl rfl rfl dX7_init_6 ?_
  refine k_aload_n hC 0 dX7_init_9 rfl ?_
  refine k_bipush (v := 9) hC dX7_init_10 (by decide) ?_
  refine k_newaI (N := 9) hC hE q225 (by decide) (by decide) rfl rfl rfl dX7_init_12 (fun q1 => ?_)
  refine k_putF (fk := 0) (ty := (.array .int)) (P' := ([(q1, .inl (gA (XG X) 0, 9, .inl fun _ => 0)), (a, .inr (6, [.ref q1, .null, .null, .null, .null, .int 0, .int 0, .ref y]))] ++ [])) hC hI 1 rfl rfl in_X7 rfl rfl rfl q465 tyX7 tyX7_ok nmX7 rfl (by decide +kernel) rfl rfl rfl rfl dX7_init_14 ?_
  refine k_aload_n hC 0 dX7_init_17 rfl ?_
  refine k_bipush (v := 16) hC dX7_init_18 (by decide) ?_
  refine k_newaI (N := 16) hC hE q225 (by decide) (by decide) rfl rfl rfl dX7_init_20 (fun q2 => ?_)
  refine k_putF (fk := 1) (ty := (.array .int)) (P' := ([(q2, .inl (gA (XG X) 0, 16, .inl fun _ => 0)), (q1, .inl (gA (XG X) 0, 9, .inl fun _ => 0)), (a, .inr (6, [.ref q1, .ref q2, .null, .null, .null, .int 0, .int 0, .ref y]))] ++ [])) hC hI 2 rfl rfl in_X7 rfl rfl rfl q467 tyX7 tyX7_ok nmX7 rfl (by decide +kernel) rfl rfl rfl rfl dX7_init_22 ?_
  refine k_aload_n hC 0 dX7_init_25 rfl ?_
  refine k_sipush (v := 128) hC dX7_init_26 (by decide) ?_
  refine k_newaI (N := 128) hC hE q225 (by decide) (by decide) rfl rfl rfl dX7_init_29 (fun q3 => ?_)
  refine k_putF (fk := 2) (ty := (.array .int)) (P' := ([(q3, .inl (gA (XG X) 0, 128, .inl fun _ => 0)), (q2, .inl (gA (XG X) 0, 16, .inl fun _ => 0)), (q1, .inl (gA (XG X) 0, 9, .inl fun _ => 0)), (a, .inr (6, [.ref q1, .ref q2, .ref q3, .null, .null, .int 0, .int 0, .ref y]))] ++ [])) hC hI 3 rfl rfl in_X7 rfl rfl rfl q469 tyX7 tyX7_ok nmX7 rfl (by decide +kernel) rfl rfl rfl rfl dX7_init_31 ?_
  refine k_aload_n hC 0 dX7_init_34 rfl ?_
  refine k_sipush (v := 208) hC dX7_init_35 (by decide) ?_
  refine k_newaI (N := 208) hC hE q225 (by decide) (by decide) rfl rfl rfl dX7_init_38 (fun q4 => ?_)
  refine k_putF (fk := 3) (ty := (.array .int)) (P' := ([(q4, .inl (gA (XG X) 0, 208, .inl fun _ => 0)), (q3, .inl (gA (XG X) 0, 128, .inl fun _ => 0)), (q2, .inl (gA (XG X) 0, 16, .inl fun _ => 0)), (q1, .inl (gA (XG X) 0, 9, .inl fun _ => 0)), (a, .inr (6, [.ref q1, .ref q2, .ref q3, .ref q4, .null, .int 0, .int 0, .ref y]))] ++ [])) hC hI 4 rfl rfl in_X7 rfl rfl rfl q471 tyX7 tyX7_ok nmX7 rfl (by decide +kernel) rfl rfl rfl rfl dX7_init_40 ?_
  refine k_aload_n hC 0 dX7_init_43 rfl ?_
  refine k_sipush (v := 208) hC dX7_init_44 (by decide) ?_
  refine k_newaI (N := 208) hC hE q225 (by decide) (by decide) rfl rfl rfl dX7_init_47 (fun q5 => ?_)
  refine k_putF (fk := 4) (ty := (.array .int)) (P' := ([(q5, .inl (gA (XG X) 0, 208, .inl fun _ => 0)), (q4, .inl (gA (XG X) 0, 208, .inl fun _ => 0)), (q3, .inl (gA (XG X) 0, 128, .inl fun _ => 0)), (q2, .inl (gA (XG X) 0, 16, .inl fun _ => 0)), (q1, .inl (gA (XG X) 0, 9, .inl fun _ => 0)), (a, .inr (6, [.ref q1, .ref q2, .ref q3, .ref q4, .ref q5, .int 0, .int 0, .ref y]))] ++ [])) hC hI 5 rfl rfl in_X7 rfl rfl rfl q472 tyX7 tyX7_ok nmX7 rfl (by decide +kernel) rfl rfl rfl rfl dX7_init_49 ?_
  refine k_perm (List.reverse_perm _).symm ?_
  exact k_vret hC ⟨(fun i => [q1, q2, q3, q4, q5].getD i 0), rfl⟩ rfl rfl dX7_init_52
