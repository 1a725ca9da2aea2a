theorem fX3_nameHere_p23_ok {x : xC} (F : xF x RX3 cX3_nameHere (some .int)) (hnL : xnL x = 4) (hRm : ∃ dc ds, x.2.2.2.1 = { frames := 4, cells := dc, slots := ds, locals := 75 }) (hno : ∀ pc, xNo x pc) (hmn : xmn x = "nameHere" ∧ xmy x yX3_nameHere) : ∀ (n : Nat) (l0 : Nat) (l1 : Int32) (l2 : Int32) (l3 : Int32), xI x xeI 23 [(0, va_rf (some l0)), (1, .int l1), (2, .int l2), (3, .int l3)] [] (fX3_nameHere_p23 n l0 l1 l2 l3) := by
  intro n
  induction n with
  | zero => intro l0 l1 l2 l3; exact xI.stuck
  | succ n ih =>
    intro l0 l1 l2 l3
    unfold fX3_nameHere_p23
    refine xr_iload_n 3 F dX3_nameHere_23 rfl ?_
    refine xr_iload_n 1 F dX3_nameHere_24 rfl ?_
    refine xr_icmp_ge 63 F dX3_nameHere_25 rfl ?_ ?_
    · refine xr_iload_n 2 F dX3_nameHere_63 rfl ?_
      exact xr_iret F dX3_nameHere_64
    · refine xr_aload_n 0 (r := (some l0)) F dX3_nameHere_28 rfl ?_
      refine xr_VI (y := yX3_hasFailed) (As := []) (r := (some l0)) F (hno _) dX3_nameHere_29 (fun z => fX3_hasFailed_m (xFG F) z) (Or.inl rfl) (ci := 39) (C := RX3) (T := TX3) rfl q3514 q3511 q3513 qs55 (xroom hRm (Nat.le_of_ble_eq_true rfl) (Nat.le_of_ble_eq_true rfl)) ⟨by decide, by decide⟩ n_X3_hasFailed rfl (xcat (Nat.le_of_ble_eq_true rfl)) (fun v29 => ?_)
      refine xr_if_ne 63 F dX3_nameHere_32 rfl ?_ ?_
      · refine xr_bipush (27 : Int32) F dX3_nameHere_35 rfl ?_
        refine xr_iload_n 2 F dX3_nameHere_37 rfl ?_
        refine xr_imul F dX3_nameHere_38 ?_
        refine xr_aload_n 0 (r := (some l0)) F dX3_nameHere_39 rfl ?_
        refine xr_gR (r := (some l0)) (ref := "ReserveLedgerModel") F dX3_nameHere_40 (C := RX3) (T := TX3) (N := 25) rfl (by decide) (Or.inl q3404) (Or.inl rfl) (fun v40 => ?_)
        refine xr_aload_n 0 (r := (some l0)) F dX3_nameHere_43 rfl ?_
        refine xr_gI (r := (some l0)) (ref := "ReserveLedgerModel") F dX3_nameHere_44 (C := RX3) (T := TX3) (N := 25) rfl (by decide) (Or.inl q3407) (Or.inl rfl) (fun v44 => ?_)
        refine xr_iload_n 3 F dX3_nameHere_47 rfl ?_
        refine xr_iadd F dX3_nameHere_48 ?_
        refine xr_bald (r := v40) F dX3_nameHere_49 (fun v49 => ?_)
        refine xr_iadd F dX3_nameHere_50 ?_
        refine xr_bipush (97 : Int32) F dX3_nameHere_51 rfl ?_
        refine xr_isub F dX3_nameHere_53 ?_
        refine xr_iconst (1 : Int32) F dX3_nameHere_54 rfl ?_
        refine xr_iadd F dX3_nameHere_55 ?_
        refine xr_letI (fun x2_56 => ?_)
        refine xs_i_n [0, 1, 3] F dX3_nameHere_56 hnL rfl rfl (xk1 rfl rfl (xk2 rfl rfl (xk1 rfl rfl xk0))) ?_
        refine xs_inc [3, 0, 1, 2] F dX3_nameHere_57 rfl hnL rfl rfl (xk2 rfl rfl (xk1 rfl rfl (xk1 rfl rfl xk0))) (fun x3_57 => ?_)
        refine xr_goto 23 F dX3_nameHere_60 rfl ?_
        exact xI.sub [2, 3, 1, 0] rfl (ih l0 l1 x2_56 x3_57)
      · refine xr_iload_n 2 F dX3_nameHere_63 rfl ?_
        exact xr_iret F dX3_nameHere_64
theorem fX3_nameHere_m {l : Launch} {D : xD} {s0 : State} {b0 : Nat} {Γ : Nat → Option Nat} (G : xG l D s0 b0 Γ) (a0 : Nat) : xMeth l D s0 Γ yX3_nameHere (Cond.code yX3_nameHere cX3_nameHere 4 (some .int)) (4) (75) [.ref a0] xeI (fX3_nameHere a0) := by
  refine xMeth.of (lv0 := [(0, va_rf (some a0))]) G (by decide +kernel) (Or.inl rfl) (Nat.le_of_ble_eq_true rfl) rfl (fun x F hnL hRm hmn ht e1 e2 e3 e4 => ?_)
  have hno : ∀ pc, xNo x pc := fun pc z hz => by rw [ht.1 rfl] at hz; cases hz
  unfold fX3_nameHere
  refine xr_aload_n 0 (r := (some a0)) F dX3_nameHere_0 rfl ?_
  refine xr_VI (y := yX3_wordHere) (As := []) (r := (some a0)) F (hno _) dX3_nameHere_1 (fun z => fX3_wordHere_m (xFG F) z) (Or.inl rfl) (ci := 39) (C := RX3) (T := TX3) rfl q3531 q3528 q3530 qs59 (xroom hRm (Nat.le_of_ble_eq_true rfl) (Nat.le_of_ble_eq_true rfl)) ⟨by decide, by decide⟩ n_X3_wordHere rfl (xcat (Nat.le_of_ble_eq_true rfl)) (fun v1 => ?_)
  refine xs_i_n [0] F dX3_nameHere_4 hnL rfl rfl (xk2 rfl (xrf_cat _) xk0) ?_
  refine xr_aload_n 1 (r := (some a0)) F dX3_nameHere_5 rfl ?_
  refine xr_iload_n 0 F dX3_nameHere_6 rfl ?_
  refine xr_i2l F dX3_nameHere_7 ?_
  refine xr_lconst 1 F dX3_nameHere_8 rfl ?_
  refine xr_ldc2 F dX3_nameHere_9 q3554 ?_
  refine xr_SI (y := yX3_in) (As := [.long v1.toInt64, .long (1 : Int64), .long (6 : Int64)]) F (hno _) dX3_nameHere_12 (fX3_in_m (xFG F) v1.toInt64 (1 : Int64) (6 : Int64)) (Or.inl rfl) q3544 q144 (Or.inl q3542) q3543 (xroom hRm (Nat.le_of_ble_eq_true rfl) (Nat.le_of_ble_eq_true rfl)) ⟨by decide, by decide⟩ n_X3_in rfl (xcat (Nat.le_of_ble_eq_true rfl)) (fun v12 => ?_)
  refine xr_iconst (1 : Int32) F dX3_nameHere_15 rfl ?_
  refine xr_VV (y := yX3_must) (As := [.int v12, .int (1 : Int32)]) (r := (some a0)) F (hno _) dX3_nameHere_16 (fun z => fX3_must_m (xFG F) z v12 (1 : Int32)) (Or.inl rfl) (ci := 39) (C := RX3) (T := TX3) rfl q3541 q3538 q3540 qs61 (xroom hRm (Nat.le_of_ble_eq_true rfl) (Nat.le_of_ble_eq_true rfl)) ⟨by decide, by decide⟩ n_X3_must rfl (xcat (Nat.le_of_ble_eq_true rfl)) (fun _ => ?_)
  refine xr_iconst (0 : Int32) F dX3_nameHere_19 rfl ?_
  refine xr_letI (fun x2_20 => ?_)
  refine xs_i_n [0, 1] F dX3_nameHere_20 hnL rfl rfl (xk2 rfl rfl (xk1 rfl rfl xk0)) ?_
  refine xr_iconst (0 : Int32) F dX3_nameHere_21 rfl ?_
  refine xr_letI (fun x3_22 => ?_)
  refine xs_i_n [0, 1, 2] F dX3_nameHere_22 hnL rfl rfl (xk2 rfl rfl (xk1 rfl rfl (xk1 rfl rfl xk0))) ?_
  exact xI.sub [3, 2, 1, 0] rfl (fX3_nameHere_p23_ok F hnL hRm hno hmn xFU a0 v1 x2_20 x3_22)
theorem fX3_named_p2_ok {x : xC} (F : xF x RX3 cX3_named (some .int)) (hnL : xnL x = 3) (hRm : ∃ dc ds, x.2.2.2.1 = { frames := 3, cells := dc, slots := ds, locals := 55 }) (hno : ∀ pc, xNo x pc) (hmn : xmn x = "named" ∧ xmy x yX3_named) : ∀ (n : Nat) (l0 : Nat) (l1 : Int32) (l2 : Int32), xI x xeI 2 [(0, va_rf (some l0)), (1, .int l1), (2, .int l2)] [] (fX3_named_p2 n l0 l1 l2) := by
  intro n
  induction n with
  | zero => intro l0 l1 l2; exact xI.stuck
  | succ n ih =>
    intro l0 l1 l2
    unfold fX3_named_p2
    refine xr_iload_n 2 F dX3_named_2 rfl ?_
    refine xr_aload_n 0 (r := (some l0)) F dX3_named_3 rfl ?_
    refine xr_gR (r := (some l0)) (ref := "ReserveLedgerModel") F dX3_named_4 (C := RX3) (T := TX3) (N := 25) rfl (by decide) (Or.inl q3395) (Or.inl rfl) (fun v4 => ?_)
    refine xr_iconst (0 : Int32) F dX3_named_7 rfl ?_
    refine xr_iald (r := v4) F dX3_named_8 (fun v8 => ?_)
    refine xr_icmp_ge 30 F dX3_named_9 rfl ?_ ?_
    · refine xr_iconst (-1 : Int32) F dX3_named_30 rfl ?_
      exact xr_iret F dX3_named_31
    · refine xr_aload_n 0 (r := (some l0)) F dX3_named_12 rfl ?_
      refine xr_iload_n 2 F dX3_named_13 rfl ?_
      refine xr_iconst (0 : Int32) F dX3_named_14 rfl ?_
      refine xr_VI (y := yX3_of) (As := [.int l2, .int (0 : Int32)]) (r := (some l0)) F (hno _) dX3_named_15 (fun z => fX3_of_m (xFG F) z l2 (0 : Int32)) (Or.inl rfl) (ci := 39) (C := RX3) (T := TX3) rfl q3562 q3559 q3561 qs65 (xroom hRm (Nat.le_of_ble_eq_true rfl) (Nat.le_of_ble_eq_true rfl)) ⟨by decide, by decide⟩ n_X3_of rfl (xcat (Nat.le_of_ble_eq_true rfl)) (fun v15 => ?_)
      refine xr_iload_n 1 F dX3_named_18 rfl ?_
      refine xr_icmp_ne 24 F dX3_named_19 rfl ?_ ?_
      · refine xr_iload_n 2 F dX3_named_22 rfl ?_
        exact xr_iret F dX3_named_23
      · refine xs_inc [2, 0, 1] F dX3_named_24 rfl hnL rfl rfl (xk1 rfl rfl (xk2 rfl rfl xk0)) (fun x2_24 => ?_)
        refine xr_goto 2 F dX3_named_27 rfl ?_
        exact xI.sub [1, 2, 0] rfl (ih l0 l1 x2_24)
theorem fX3_named_m {l : Launch} {D : xD} {s0 : State} {b0 : Nat} {Γ : Nat → Option Nat} (G : xG l D s0 b0 Γ) (a0 : Nat) (p0 : Int32) : xMeth l D s0 Γ yX3_named (Cond.code yX3_named cX3_named 3 (some .int)) (3) (55) [.ref a0, .int p0] xeI (fX3_named a0 p0) := by
  refine xMeth.of (lv0 := [(0, va_rf (some a0)), (1, .int p0)]) G (by decide +kernel) (Or.inl rfl) (Nat.le_of_ble_eq_true rfl) rfl (fun x F hnL hRm hmn ht e1 e2 e3 e4 => ?_)
  have hno : ∀ pc, xNo x pc := fun pc z hz => by rw [ht.1 rfl] at hz; cases hz
  unfold fX3_named
  refine xr_iconst (0 : Int32) F dX3_named_0 rfl ?_
  refine xr_letI (fun x2_1 => ?_)
  refine xs_i_n [0, 1] F dX3_named_1 hnL rfl rfl (xk1 rfl rfl (xk2 rfl rfl xk0)) ?_
  exact xI.sub [1, 2, 0] rfl (fX3_named_p2_ok F hnL hRm hno hmn xFU a0 p0 x2_1)
theorem fX3_readSpecies_p141_ok {x : xC} (F : xF x RX3 cX3_readSpecies none) (hnL : xnL x = 6) (hRm : ∃ dc ds, x.2.2.2.1 = { frames := 5, cells := dc, slots := ds, locals := 98 }) (hno : ∀ pc, xNo x pc) (hmn : xmn x = "readSpecies" ∧ xmy x yX3_readSpecies) : ∀ (n : Nat) (l0 : Nat) (l4 : Int32) (l5 : Int32), xI x xeV 141 [(0, va_rf (some l0)), (4, .int l4), (5, .int l5)] [] (fX3_readSpecies_p141 n l0 l4 l5) := by
  intro n
  induction n with
  | zero => intro l0 l4 l5; exact xI.stuck
  | succ n ih =>
    intro l0 l4 l5
    unfold fX3_readSpecies_p141
    refine xr_iload 2 F dX3_readSpecies_141 rfl ?_
    refine xr_bipush (13 : Int32) F dX3_readSpecies_143 rfl ?_
    refine xr_icmp_ge 172 F dX3_readSpecies_145 rfl ?_ ?_
    · refine xr_aload_n 0 (r := (some l0)) F dX3_readSpecies_172 rfl ?_
      refine xr_gR (r := (some l0)) (ref := "ReserveLedgerModel") F dX3_readSpecies_173 (C := RX3) (T := TX3) (N := 25) rfl (by decide) (Or.inl q3401) (Or.inl rfl) (fun v173 => ?_)
      refine xr_sipush (1401 : Int32) F dX3_readSpecies_176 rfl ?_
      refine xr_iload 1 F dX3_readSpecies_179 rfl ?_
      refine xr_imul F dX3_readSpecies_181 ?_
      refine xr_iconst (0 : Int32) F dX3_readSpecies_182 rfl ?_
      refine xr_iast (r := v173) F dX3_readSpecies_183 ?_
      refine xr_aload_n 0 (r := (some l0)) F dX3_readSpecies_184 rfl ?_
      refine xr_gR (r := (some l0)) (ref := "ReserveLedgerModel") F dX3_readSpecies_185 (C := RX3) (T := TX3) (N := 25) rfl (by decide) (Or.inl q3395) (Or.inl rfl) (fun v185 => ?_)
      refine xr_iconst (0 : Int32) F dX3_readSpecies_188 rfl ?_
      refine xr_dup2_11 F dX3_readSpecies_189 rfl (xrf_cat _) ?_
      refine xr_iald (r := v185) F dX3_readSpecies_190 (fun v190 => ?_)
      refine xr_iconst (1 : Int32) F dX3_readSpecies_191 rfl ?_
      refine xr_iadd F dX3_readSpecies_192 ?_
      refine xr_iast (r := v185) F dX3_readSpecies_193 ?_
      exact xr_vret F dX3_readSpecies_194
    · refine xr_aload_n 0 (r := (some l0)) F dX3_readSpecies_148 rfl ?_
      refine xr_gR (r := (some l0)) (ref := "ReserveLedgerModel") F dX3_readSpecies_149 (C := RX3) (T := TX3) (N := 25) rfl (by decide) (Or.inl q3395) (Or.inl rfl) (fun v149 => ?_)
      refine xr_iload 1 F dX3_readSpecies_152 rfl ?_
      refine xr_bipush (13 : Int32) F dX3_readSpecies_154 rfl ?_
      refine xr_iload 2 F dX3_readSpecies_156 rfl ?_
      refine xr_iadd F dX3_readSpecies_158 ?_
      refine xr_SI (y := yX3_at) (As := [.int l4, .int ((13 : Int32) + l5)]) F (hno _) dX3_readSpecies_159 (fX3_at_m (xFG F) l4 ((13 : Int32) + l5)) (Or.inl rfl) q3565 q144 (Or.inl q3563) q3564 (xroom hRm (Nat.le_of_ble_eq_true rfl) (Nat.le_of_ble_eq_true rfl)) ⟨by decide, by decide⟩ n_X3_at rfl (xcat (Nat.le_of_ble_eq_true rfl)) (fun v159 => ?_)
      refine xr_sipush (500 : Int32) F dX3_readSpecies_162 rfl ?_
      refine xr_iast (r := v149) F dX3_readSpecies_165 ?_
      refine xs_inc [2, 0, 1] F dX3_readSpecies_166 rfl hnL rfl rfl (xk1 rfl rfl (xk2 rfl rfl xk0)) (fun x5_166 => ?_)
      refine xr_goto 141 F dX3_readSpecies_169 rfl ?_
      exact xI.sub [1, 2, 0] rfl (ih l0 l4 x5_166)
theorem fX3_readSpecies_p53_ok {x : xC} (F : xF x RX3 cX3_readSpecies none) (hnL : xnL x = 6) (hRm : ∃ dc ds, x.2.2.2.1 = { frames := 5, cells := dc, slots := ds, locals := 98 }) (hno : ∀ pc, xNo x pc) (hmn : xmn x = "readSpecies" ∧ xmy x yX3_readSpecies) (l0 : Nat) (l2 : Int32) (s0 : Int32) (s1 : Nat) : xI x xeV 53 [(0, va_rf (some l0)), (2, .int l2)] [.int s0, va_rf (some s1)] (fX3_readSpecies_p53 l0 l2 s0 s1) := by
  unfold fX3_readSpecies_p53
  refine xr_iconst (3 : Int32) F dX3_readSpecies_53 rfl ?_
  refine xr_VV (y := yX3_must) (As := [.int s0, .int (3 : Int32)]) (r := (some s1)) F (hno _) dX3_readSpecies_54 (fun z => fX3_must_m (xFG F) z s0 (3 : Int32)) (Or.inl rfl) (ci := 39) (C := RX3) (T := TX3) rfl q3541 q3538 q3540 qs61 (xroom hRm (Nat.le_of_ble_eq_true rfl) (Nat.le_of_ble_eq_true rfl)) ⟨by decide, by decide⟩ n_X3_must rfl (xcat (Nat.le_of_ble_eq_true rfl)) (fun _ => ?_)
  refine xr_aload_n 0 (r := (some l0)) F dX3_readSpecies_57 rfl ?_
  refine xr_VI (y := yX3_hasFailed) (As := []) (r := (some l0)) F (hno _) dX3_readSpecies_58 (fun z => fX3_hasFailed_m (xFG F) z) (Or.inl rfl) (ci := 39) (C := RX3) (T := TX3) rfl q3514 q3511 q3513 qs55 (xroom hRm (Nat.le_of_ble_eq_true rfl) (Nat.le_of_ble_eq_true rfl)) ⟨by decide, by decide⟩ n_X3_hasFailed rfl (xcat (Nat.le_of_ble_eq_true rfl)) (fun v58 => ?_)
  refine xr_if_eq 65 F dX3_readSpecies_61 rfl ?_ ?_
  · refine xr_aload_n 0 (r := (some l0)) F dX3_readSpecies_65 rfl ?_
    refine xr_dup F dX3_readSpecies_66 (xrf_cat _) ?_
    refine xr_gI (r := (some l0)) (ref := "ReserveLedgerModel") F dX3_readSpecies_67 (C := RX3) (T := TX3) (N := 25) rfl (by decide) (Or.inl q3407) (Or.inl rfl) (fun v67 => ?_)
    refine xr_aload_n 0 (r := (some l0)) F dX3_readSpecies_70 rfl ?_
    refine xr_VI (y := yX3_wordHere) (As := []) (r := (some l0)) F (hno _) dX3_readSpecies_71 (fun z => fX3_wordHere_m (xFG F) z) (Or.inl rfl) (ci := 39) (C := RX3) (T := TX3) rfl q3531 q3528 q3530 qs59 (xroom hRm (Nat.le_of_ble_eq_true rfl) (Nat.le_of_ble_eq_true rfl)) ⟨by decide, by decide⟩ n_X3_wordHere rfl (xcat (Nat.le_of_ble_eq_true rfl)) (fun v71 => ?_)
    refine xr_iadd F dX3_readSpecies_74 ?_
    refine xr_put (r := (some l0)) (ref := "ReserveLedgerModel") F dX3_readSpecies_75 xk_39 (by decide) (Or.inl q3407) (Or.inl rfl) (Or.inl rfl) ⟨rfl, rfl⟩ ?_
    refine xr_aload_n 0 (r := (some l0)) F dX3_readSpecies_78 rfl ?_
    refine xr_iconst (1 : Int32) F dX3_readSpecies_79 rfl ?_
    refine xr_bipush (12 : Int32) F dX3_readSpecies_80 rfl ?_
    refine xr_VI (y := yX3_number) (As := [.int (1 : Int32), .int (12 : Int32)]) (r := (some l0)) F (hno _) dX3_readSpecies_82 (fun z => fX3_number_m (xFG F) z (1 : Int32) (12 : Int32)) (Or.inl rfl) (ci := 39) (C := RX3) (T := TX3) rfl q3537 q3534 q3536 qs60 (xroom hRm (Nat.le_of_ble_eq_true rfl) (Nat.le_of_ble_eq_true rfl)) ⟨by decide, by decide⟩ n_X3_number rfl (xcat (Nat.le_of_ble_eq_true rfl)) (fun v82 => ?_)
    refine xs_i_n [0, 1] F dX3_readSpecies_85 hnL rfl rfl (xk1 rfl rfl (xk2 rfl rfl xk0)) ?_
    refine xr_aload_n 1 (r := (some l0)) F dX3_readSpecies_86 rfl ?_
    refine xr_VI (y := yX3_hasFailed) (As := []) (r := (some l0)) F (hno _) dX3_readSpecies_87 (fun z => fX3_hasFailed_m (xFG F) z) (Or.inl rfl) (ci := 39) (C := RX3) (T := TX3) rfl q3514 q3511 q3513 qs55 (xroom hRm (Nat.le_of_ble_eq_true rfl) (Nat.le_of_ble_eq_true rfl)) ⟨by decide, by decide⟩ n_X3_hasFailed rfl (xcat (Nat.le_of_ble_eq_true rfl)) (fun v87 => ?_)
    refine xr_if_eq 94 F dX3_readSpecies_90 rfl ?_ ?_
    · refine xr_aload_n 1 (r := (some l0)) F dX3_readSpecies_94 rfl ?_
      refine xr_gR (r := (some l0)) (ref := "ReserveLedgerModel") F dX3_readSpecies_95 (C := RX3) (T := TX3) (N := 25) rfl (by decide) (Or.inl q3395) (Or.inl rfl) (fun v95 => ?_)
      refine xr_iconst (0 : Int32) F dX3_readSpecies_98 rfl ?_
      refine xr_iald (r := v95) F dX3_readSpecies_99 (fun v99 => ?_)
      refine xs_i [0, 1, 2] F dX3_readSpecies_100 hnL rfl rfl (xk2 rfl rfl (xk1 rfl rfl (xk1 rfl rfl xk0))) ?_
      refine xr_aload_n 2 (r := (some l0)) F dX3_readSpecies_102 rfl ?_
      refine xr_gR (r := (some l0)) (ref := "ReserveLedgerModel") F dX3_readSpecies_103 (C := RX3) (T := TX3) (N := 25) rfl (by decide) (Or.inl q3395) (Or.inl rfl) (fun v103 => ?_)
      refine xr_iload 0 F dX3_readSpecies_106 rfl ?_
      refine xr_iconst (0 : Int32) F dX3_readSpecies_108 rfl ?_
      refine xr_SI (y := yX3_at) (As := [.int v99, .int (0 : Int32)]) F (hno _) dX3_readSpecies_109 (fX3_at_m (xFG F) v99 (0 : Int32)) (Or.inl rfl) q3565 q144 (Or.inl q3563) q3564 (xroom hRm (Nat.le_of_ble_eq_true rfl) (Nat.le_of_ble_eq_true rfl)) ⟨by decide, by decide⟩ n_X3_at rfl (xcat (Nat.le_of_ble_eq_true rfl)) (fun v109 => ?_)
      refine xr_iload_n 3 F dX3_readSpecies_112 rfl ?_
      refine xr_iast (r := v103) F dX3_readSpecies_113 ?_
      refine xr_aload_n 2 (r := (some l0)) F dX3_readSpecies_114 rfl ?_
      refine xr_gR (r := (some l0)) (ref := "ReserveLedgerModel") F dX3_readSpecies_115 (C := RX3) (T := TX3) (N := 25) rfl (by decide) (Or.inl q3395) (Or.inl rfl) (fun v115 => ?_)
      refine xr_iload 0 F dX3_readSpecies_118 rfl ?_
      refine xr_iconst (1 : Int32) F dX3_readSpecies_120 rfl ?_
      refine xr_SI (y := yX3_at) (As := [.int v99, .int (1 : Int32)]) F (hno _) dX3_readSpecies_121 (fX3_at_m (xFG F) v99 (1 : Int32)) (Or.inl rfl) q3565 q144 (Or.inl q3563) q3564 (xroom hRm (Nat.le_of_ble_eq_true rfl) (Nat.le_of_ble_eq_true rfl)) ⟨by decide, by decide⟩ n_X3_at rfl (xcat (Nat.le_of_ble_eq_true rfl)) (fun v121 => ?_)
      refine xr_iload_n 1 F dX3_readSpecies_124 rfl ?_
      refine xr_iast (r := v115) F dX3_readSpecies_125 ?_
      refine xr_aload_n 2 (r := (some l0)) F dX3_readSpecies_126 rfl ?_
      refine xr_gR (r := (some l0)) (ref := "ReserveLedgerModel") F dX3_readSpecies_127 (C := RX3) (T := TX3) (N := 25) rfl (by decide) (Or.inl q3395) (Or.inl rfl) (fun v127 => ?_)
      refine xr_iload 0 F dX3_readSpecies_130 rfl ?_
      refine xr_iconst (2 : Int32) F dX3_readSpecies_132 rfl ?_
      refine xr_SI (y := yX3_at) (As := [.int v99, .int (2 : Int32)]) F (hno _) dX3_readSpecies_133 (fX3_at_m (xFG F) v99 (2 : Int32)) (Or.inl rfl) q3565 q144 (Or.inl q3563) q3564 (xroom hRm (Nat.le_of_ble_eq_true rfl) (Nat.le_of_ble_eq_true rfl)) ⟨by decide, by decide⟩ n_X3_at rfl (xcat (Nat.le_of_ble_eq_true rfl)) (fun v133 => ?_)
      refine xr_iconst (1 : Int32) F dX3_readSpecies_136 rfl ?_
      refine xr_iast (r := v127) F dX3_readSpecies_137 ?_
      refine xr_iconst (0 : Int32) F dX3_readSpecies_138 rfl ?_
      refine xr_letI (fun x5_139 => ?_)
      refine xs_i [0, 2] F dX3_readSpecies_139 hnL rfl rfl (xk2 rfl rfl (xk1 rfl rfl xk0)) ?_
      exact xI.sub [2, 1, 0] rfl (fX3_readSpecies_p141_ok F hnL hRm hno hmn xFU l0 v99 x5_139)
    · exact xr_vret F dX3_readSpecies_93
  · exact xr_vret F dX3_readSpecies_64
theorem fX3_readSpecies_p21_ok {x : xC} (F : xF x RX3 cX3_readSpecies none) (hnL : xnL x = 6) (hRm : ∃ dc ds, x.2.2.2.1 = { frames := 5, cells := dc, slots := ds, locals := 98 }) (hno : ∀ pc, xNo x pc) (hmn : xmn x = "readSpecies" ∧ xmy x yX3_readSpecies) (l0 : Nat) (s0 : Int32) (s1 : Nat) : xI x xeV 21 [(0, va_rf (some l0))] [.int s0, va_rf (some s1)] (fX3_readSpecies_p21 l0 s0 s1) := by
  unfold fX3_readSpecies_p21
  refine xr_iconst (5 : Int32) F dX3_readSpecies_21 rfl ?_
  refine xr_VV (y := yX3_must) (As := [.int s0, .int (5 : Int32)]) (r := (some s1)) F (hno _) dX3_readSpecies_22 (fun z => fX3_must_m (xFG F) z s0 (5 : Int32)) (Or.inl rfl) (ci := 39) (C := RX3) (T := TX3) rfl q3541 q3538 q3540 qs61 (xroom hRm (Nat.le_of_ble_eq_true rfl) (Nat.le_of_ble_eq_true rfl)) ⟨by decide, by decide⟩ n_X3_must rfl (xcat (Nat.le_of_ble_eq_true rfl)) (fun _ => ?_)
  refine xr_aload_n 0 (r := (some l0)) F dX3_readSpecies_25 rfl ?_
  refine xr_VI (y := yX3_hasFailed) (As := []) (r := (some l0)) F (hno _) dX3_readSpecies_26 (fun z => fX3_hasFailed_m (xFG F) z) (Or.inl rfl) (ci := 39) (C := RX3) (T := TX3) rfl q3514 q3511 q3513 qs55 (xroom hRm (Nat.le_of_ble_eq_true rfl) (Nat.le_of_ble_eq_true rfl)) ⟨by decide, by decide⟩ n_X3_hasFailed rfl (xcat (Nat.le_of_ble_eq_true rfl)) (fun v26 => ?_)
  refine xr_if_eq 33 F dX3_readSpecies_29 rfl ?_ ?_
  · refine xr_aload_n 0 (r := (some l0)) F dX3_readSpecies_33 rfl ?_
    refine xr_VI (y := yX3_nameHere) (As := []) (r := (some l0)) F (hno _) dX3_readSpecies_34 (fun z => fX3_nameHere_m (xFG F) z) (Or.inl rfl) (ci := 39) (C := RX3) (T := TX3) rfl q3553 q3550 q3552 qs63 (xroom hRm (Nat.le_of_ble_eq_true rfl) (Nat.le_of_ble_eq_true rfl)) ⟨by decide, by decide⟩ n_X3_nameHere rfl (xcat (Nat.le_of_ble_eq_true rfl)) (fun v34 => ?_)
    refine xs_i_n [0] F dX3_readSpecies_37 hnL rfl rfl (xk1 rfl rfl xk0) ?_
    refine xr_aload_n 1 (r := (some l0)) F dX3_readSpecies_38 rfl ?_
    refine xr_aload_n 1 (r := (some l0)) F dX3_readSpecies_39 rfl ?_
    refine xr_iload_n 0 F dX3_readSpecies_40 rfl ?_
    refine xr_VI (y := yX3_named) (As := [.int v34]) (r := (some l0)) F (hno _) dX3_readSpecies_41 (fun z => fX3_named_m (xFG F) z v34) (Or.inl rfl) (ci := 39) (C := RX3) (T := TX3) rfl q3558 q3555 q3557 qs64 (xroom hRm (Nat.le_of_ble_eq_true rfl) (Nat.le_of_ble_eq_true rfl)) ⟨by decide, by decide⟩ n_X3_named rfl (xcat (Nat.le_of_ble_eq_true rfl)) (fun v41 => ?_)
    refine xr_iconst (-1 : Int32) F dX3_readSpecies_44 rfl ?_
    refine xr_icmp_ne 52 F dX3_readSpecies_45 rfl ?_ ?_
    · refine xr_iconst (1 : Int32) F dX3_readSpecies_48 rfl ?_
      refine xr_goto 53 F dX3_readSpecies_49 rfl ?_
      exact xI.sub [1, 0] rfl (fX3_readSpecies_p53_ok F hnL hRm hno hmn l0 v34 (1 : Int32) l0)
    · refine xr_iconst (0 : Int32) F dX3_readSpecies_52 rfl ?_
      exact xI.sub [1, 0] rfl (fX3_readSpecies_p53_ok F hnL hRm hno hmn l0 v34 (0 : Int32) l0)
  · exact xr_vret F dX3_readSpecies_32
theorem fX3_readSpecies_m {l : Launch} {D : xD} {s0 : State} {b0 : Nat} {Γ : Nat → Option Nat} (G : xG l D s0 b0 Γ) (a0 : Nat) (p0 : Int32) : xMeth l D s0 Γ yX3_readSpecies (Cond.code yX3_readSpecies cX3_readSpecies 6 none) (5) (98) [.ref a0, .int p0] xeV (fX3_readSpecies a0 p0) := by
  refine xMeth.of (lv0 := [(0, va_rf (some a0)), (1, .int p0)]) G (by decide +kernel) (Or.inl rfl) (Nat.le_of_ble_eq_true rfl) rfl (fun x F hnL hRm hmn ht e1 e2 e3 e4 => ?_)
  have hno : ∀ pc, xNo x pc := fun pc z hz => by rw [ht.1 rfl] at hz; cases hz
  unfold fX3_readSpecies
  refine xr_aload_n 0 (r := (some a0)) F dX3_readSpecies_0 rfl ?_
  refine xr_iload_n 1 F dX3_readSpecies_1 rfl ?_
  refine xr_put (r := (some a0)) (ref := "ReserveLedgerModel") F dX3_readSpecies_2 xk_39 (by decide) (Or.inl q3408) (Or.inl rfl) (Or.inl rfl) ⟨rfl, rfl⟩ ?_
  refine xr_aload_n 0 (r := (some a0)) F dX3_readSpecies_5 rfl ?_
  refine xr_aload_n 0 (r := (some a0)) F dX3_readSpecies_6 rfl ?_
  refine xr_gR (r := (some a0)) (ref := "ReserveLedgerModel") F dX3_readSpecies_7 (C := RX3) (T := TX3) (N := 25) rfl (by decide) (Or.inl q3395) (Or.inl rfl) (fun v7 => ?_)
  refine xr_iconst (0 : Int32) F dX3_readSpecies_10 rfl ?_
  refine xr_iald (r := v7) F dX3_readSpecies_11 (fun v11 => ?_)
  refine xr_iconst (4 : Int32) F dX3_readSpecies_12 rfl ?_
  refine xr_icmp_ge 20 F dX3_readSpecies_13 rfl ?_ ?_
  · refine xr_iconst (0 : Int32) F dX3_readSpecies_20 rfl ?_
    exact xI.sub [0] rfl (fX3_readSpecies_p21_ok F hnL hRm hno hmn a0 (0 : Int32) a0)
  · refine xr_iconst (1 : Int32) F dX3_readSpecies_16 rfl ?_
    refine xr_goto 21 F dX3_readSpecies_17 rfl ?_
    exact xI.sub [0] rfl (fX3_readSpecies_p21_ok F hnL hRm hno hmn a0 (1 : Int32) a0)
theorem fX3_readLine_p60_ok {x : xC} (F : xF x RX3 cX3_readLine none) (hnL : xnL x = 2) (hRm : ∃ dc ds, x.2.2.2.1 = { frames := 364, cells := dc, slots := ds, locals := 7363 }) (hno : ∀ pc, xNo x pc) (hmn : xmn x = "readLine" ∧ xmy x yX3_readLine) (l0 : Nat) : xI x xeV 60 [(0, va_rf (some l0))] [] (fX3_readLine_p60 l0) := by
  unfold fX3_readLine_p60
  refine xr_aload_n 0 (r := (some l0)) F dX3_readLine_60 rfl ?_
  refine xr_bipush (59 : Int32) F dX3_readLine_61 rfl ?_
  refine xr_VV (y := yX3_needs) (As := [.int (59 : Int32)]) (r := (some l0)) F (hno _) dX3_readLine_63 (fun z => fX3_needs_m (xFG F) z (59 : Int32)) (Or.inl rfl) (ci := 39) (C := RX3) (T := TX3) rfl q3617 q3614 q3616 qs76 (xroom hRm (Nat.le_of_ble_eq_true rfl) (Nat.le_of_ble_eq_true rfl)) ⟨by decide, by decide⟩ n_X3_needs rfl (xcat (Nat.le_of_ble_eq_true rfl)) (fun _ => ?_)
  refine xr_aload_n 0 (r := (some l0)) F dX3_readLine_66 rfl ?_
  refine xr_VV (y := yX3_blanks) (As := []) (r := (some l0)) F (hno _) dX3_readLine_67 (fun z => fX3_blanks_m (xFG F) z) (Or.inl rfl) (ci := 39) (C := RX3) (T := TX3) rfl q3510 q3507 q3509 qs54 (xroom hRm (Nat.le_of_ble_eq_true rfl) (Nat.le_of_ble_eq_true rfl)) ⟨by decide, by decide⟩ n_X3_blanks rfl (xcat (Nat.le_of_ble_eq_true rfl)) (fun _ => ?_)
  exact xr_vret F dX3_readLine_70
theorem fX3_readLine_m {l : Launch} {D : xD} {s0 : State} {b0 : Nat} {Γ : Nat → Option Nat} (G : xG l D s0 b0 Γ) (a0 : Nat) : xMeth l D s0 Γ yX3_readLine (Cond.code yX3_readLine cX3_readLine 2 none) (364) (7363) [.ref a0] xeV (fX3_readLine a0) := by
  refine xMeth.of (lv0 := [(0, va_rf (some a0))]) G (by decide +kernel) (Or.inl rfl) (Nat.le_of_ble_eq_true rfl) rfl (fun x F hnL hRm hmn ht e1 e2 e3 e4 => ?_)
  have hno : ∀ pc, xNo x pc := fun pc z hz => by rw [ht.1 rfl] at hz; cases hz
  unfold fX3_readLine
  refine xr_aload_n 0 (r := (some a0)) F dX3_readLine_0 rfl ?_
  refine xr_gI (r := (some a0)) (ref := "ReserveLedgerModel") F dX3_readLine_1 (C := RX3) (T := TX3) (N := 25) rfl (by decide) (Or.inl q3408) (Or.inl rfl) (fun v1 => ?_)
  refine xs_i_n [0] F dX3_readLine_4 hnL rfl rfl (xk2 rfl (xrf_cat _) xk0) ?_
  refine xr_aload_n 1 (r := (some a0)) F dX3_readLine_5 rfl ?_
  refine xr_str (k := 17) F dX3_readLine_6 rfl (fun v6 => ?_)
  refine xr_VI (y := yX3_takes) (As := [va_rf v6]) (r := (some a0)) F (hno _) dX3_readLine_8 (fun z => fX3_takes_m (xFG F) z v6) (Or.inl rfl) (ci := 39) (C := RX3) (T := TX3) rfl q3527 q3524 q3526 qs58 (xroom hRm (Nat.le_of_ble_eq_true rfl) (Nat.le_of_ble_eq_true rfl)) ⟨by decide, by decide⟩ n_X3_takes rfl (xcat (Nat.le_of_ble_eq_true rfl)) (fun v8 => ?_)
  refine xr_if_eq 31 F dX3_readLine_11 rfl ?_ ?_
  · refine xr_aload_n 1 (r := (some a0)) F dX3_readLine_31 rfl ?_
    refine xr_str (k := 18) F dX3_readLine_32 rfl (fun v32 => ?_)
    refine xr_VI (y := yX3_takes) (As := [va_rf v32]) (r := (some a0)) F (hno _) dX3_readLine_34 (fun z => fX3_takes_m (xFG F) z v32) (Or.inl rfl) (ci := 39) (C := RX3) (T := TX3) rfl q3527 q3524 q3526 qs58 (xroom hRm (Nat.le_of_ble_eq_true rfl) (Nat.le_of_ble_eq_true rfl)) ⟨by decide, by decide⟩ n_X3_takes rfl (xcat (Nat.le_of_ble_eq_true rfl)) (fun v34 => ?_)
    refine xr_if_eq 48 F dX3_readLine_37 rfl ?_ ?_
    · refine xr_aload_n 1 (r := (some a0)) F dX3_readLine_48 rfl ?_
      refine xr_aload_n 1 (r := (some a0)) F dX3_readLine_49 rfl ?_
      refine xr_gR (r := (some a0)) (ref := "ReserveLedgerModel") F dX3_readLine_50 (C := RX3) (T := TX3) (N := 25) rfl (by decide) (Or.inl q3395) (Or.inl rfl) (fun v50 => ?_)
      refine xr_iconst (0 : Int32) F dX3_readLine_53 rfl ?_
      refine xr_iald (r := v50) F dX3_readLine_54 (fun v54 => ?_)
      refine xr_iconst (1 : Int32) F dX3_readLine_55 rfl ?_
      refine xr_isub F dX3_readLine_56 ?_
      refine xr_VV (y := yX3_readOf) (As := [.int (v54 - (1 : Int32))]) (r := (some a0)) F (hno _) dX3_readLine_57 (fun z => fX3_readOf_m (xFG F) z (v54 - (1 : Int32))) (Or.inl rfl) (ci := 39) (C := RX3) (T := TX3) rfl q3569 q3566 q3568 qs66 (xroom hRm (Nat.le_of_ble_eq_true rfl) (Nat.le_of_ble_eq_true rfl)) ⟨by decide, by decide⟩ n_X3_readOf rfl (xcat (Nat.le_of_ble_eq_true rfl)) (fun _ => ?_)
      exact xI.sub [1] rfl (fX3_readLine_p60_ok F hnL hRm hno hmn a0)
    · refine xr_aload_n 1 (r := (some a0)) F dX3_readLine_40 rfl ?_
      refine xr_iload_n 0 F dX3_readLine_41 rfl ?_
      refine xr_VV (y := yX3_readSpecies) (As := [.int v1]) (r := (some a0)) F (hno _) dX3_readLine_42 (fun z => fX3_readSpecies_m (xFG F) z v1) (Or.inl rfl) (ci := 39) (C := RX3) (T := TX3) rfl q3549 q3546 q3548 qs62 (xroom hRm (Nat.le_of_ble_eq_true rfl) (Nat.le_of_ble_eq_true rfl)) ⟨by decide, by decide⟩ n_X3_readSpecies rfl (xcat (Nat.le_of_ble_eq_true rfl)) (fun _ => ?_)
      refine xr_goto 60 F dX3_readLine_45 rfl ?_
      exact xI.sub [1] rfl (fX3_readLine_p60_ok F hnL hRm hno hmn a0)
  · refine xr_aload_n 1 (r := (some a0)) F dX3_readLine_14 rfl ?_
    refine xr_gR (r := (some a0)) (ref := "ReserveLedgerModel") F dX3_readLine_15 (C := RX3) (T := TX3) (N := 25) rfl (by decide) (Or.inl q3395) (Or.inl rfl) (fun v15 => ?_)
    refine xr_iconst (1 : Int32) F dX3_readLine_18 rfl ?_
    refine xr_aload_n 1 (r := (some a0)) F dX3_readLine_19 rfl ?_
    refine xr_iconst (0 : Int32) F dX3_readLine_20 rfl ?_
    refine xr_sipush (9999 : Int32) F dX3_readLine_21 rfl ?_
    refine xr_VI (y := yX3_number) (As := [.int (0 : Int32), .int (9999 : Int32)]) (r := (some a0)) F (hno _) dX3_readLine_24 (fun z => fX3_number_m (xFG F) z (0 : Int32) (9999 : Int32)) (Or.inl rfl) (ci := 39) (C := RX3) (T := TX3) rfl q3537 q3534 q3536 qs60 (xroom hRm (Nat.le_of_ble_eq_true rfl) (Nat.le_of_ble_eq_true rfl)) ⟨by decide, by decide⟩ n_X3_number rfl (xcat (Nat.le_of_ble_eq_true rfl)) (fun v24 => ?_)
    refine xr_iast (r := v15) F dX3_readLine_27 ?_
    refine xr_goto 60 F dX3_readLine_28 rfl ?_
    exact xI.sub [1] rfl (fX3_readLine_p60_ok F hnL hRm hno hmn a0)
theorem fX3_putsAside_m {l : Launch} {D : xD} {s0 : State} {b0 : Nat} {Γ : Nat → Option Nat} (G : xG l D s0 b0 Γ) (a0 : Nat) : xMeth l D s0 Γ yX3_putsAside (Cond.code yX3_putsAside cX3_putsAside 1 none) (2) (37) [.ref a0] xeV (fX3_putsAside a0) := by
  refine xMeth.of (lv0 := [(0, va_rf (some a0))]) G (by decide +kernel) (Or.inl rfl) (Nat.le_of_ble_eq_true rfl) rfl (fun x F hnL hRm hmn ht e1 e2 e3 e4 => ?_)
  have hno : ∀ pc, xNo x pc := fun pc z hz => by rw [ht.1 rfl] at hz; cases hz
  unfold fX3_putsAside
  refine xr_aload_n 0 (r := (some a0)) F dX3_putsAside_0 rfl ?_
  refine xr_aload_n 0 (r := (some a0)) F dX3_putsAside_1 rfl ?_
  refine xr_gR (r := (some a0)) (ref := "ReserveLedgerModel") F dX3_putsAside_2 (C := RX3) (T := TX3) (N := 25) rfl (by decide) (Or.inl q3395) (Or.inl rfl) (fun v2 => ?_)
  refine xr_iconst (0 : Int32) F dX3_putsAside_5 rfl ?_
  refine xr_aload_n 0 (r := (some a0)) F dX3_putsAside_6 rfl ?_
  refine xr_gR (r := (some a0)) (ref := "ReserveLedgerModel") F dX3_putsAside_7 (C := RX3) (T := TX3) (N := 25) rfl (by decide) (Or.inl q3396) (Or.inl rfl) (fun v7 => ?_)
  refine xr_iconst (0 : Int32) F dX3_putsAside_10 rfl ?_
  refine xr_VV (y := yX3_copies) (As := [va_rf v2, .int (0 : Int32), va_rf v7, .int (0 : Int32)]) (r := (some a0)) F (hno _) dX3_putsAside_11 (fun z => fX3_copies_m (xFG F) z v2 (0 : Int32) v7 (0 : Int32)) (Or.inl rfl) (ci := 39) (C := RX3) (T := TX3) rfl q3478 q3475 q3477 qs52 (xroom hRm (Nat.le_of_ble_eq_true rfl) (Nat.le_of_ble_eq_true rfl)) ⟨by decide, by decide⟩ n_X3_copies rfl (xcat (Nat.le_of_ble_eq_true rfl)) (fun _ => ?_)
  exact xr_vret F dX3_putsAside_14
theorem fX3_load_p143_ok {x : xC} (F : xF x RX3 cX3_load (some .int)) (hnL : xnL x = 3) (hRm : ∃ dc ds, x.2.2.2.1 = { frames := 365, cells := dc, slots := ds, locals := 7384 }) (hno : ∀ pc, xNo x pc) (hmn : xmn x = "load" ∧ xmy x yX3_load) : ∀ (n : Nat) (l0 : Nat) (l2 : Int32), xI x xeI 143 [(0, va_rf (some l0)), (2, .int l2)] [] (fX3_load_p143 n l0 l2) := by
  intro n
  induction n with
  | zero => intro l0 l2; exact xI.stuck
  | succ n ih =>
    intro l0 l2
    unfold fX3_load_p143
    refine xr_iload_n 1 F dX3_load_143 rfl ?_
    refine xr_aload_n 0 (r := (some l0)) F dX3_load_144 rfl ?_
    refine xr_gR (r := (some l0)) (ref := "ReserveLedgerModel") F dX3_load_145 (C := RX3) (T := TX3) (N := 25) rfl (by decide) (Or.inl q3395) (Or.inl rfl) (fun v145 => ?_)
    refine xr_iconst (0 : Int32) F dX3_load_148 rfl ?_
    refine xr_iald (r := v145) F dX3_load_149 (fun v149 => ?_)
    refine xr_icmp_ge 164 F dX3_load_150 rfl ?_ ?_
    · refine xr_aload_n 0 (r := (some l0)) F dX3_load_164 rfl ?_
      refine xr_gR (r := (some l0)) (ref := "ReserveLedgerModel") F dX3_load_165 (C := RX3) (T := TX3) (N := 25) rfl (by decide) (Or.inl q3395) (Or.inl rfl) (fun v165 => ?_)
      refine xr_iconst (0 : Int32) F dX3_load_168 rfl ?_
      refine xr_iald (r := v165) F dX3_load_169 (fun v169 => ?_)
      exact xr_iret F dX3_load_170
    · refine xr_aload_n 0 (r := (some l0)) F dX3_load_153 rfl ?_
      refine xr_iload_n 1 F dX3_load_154 rfl ?_
      refine xr_VV (y := yX3_opens) (As := [.int l2]) (r := (some l0)) F (hno _) dX3_load_155 (fun z => fX3_opens_m (xFG F) z l2) (Or.inl rfl) (ci := 39) (C := RX3) (T := TX3) rfl q3642 q3639 q3641 qs81 (xroom hRm (Nat.le_of_ble_eq_true rfl) (Nat.le_of_ble_eq_true rfl)) ⟨by decide, by decide⟩ n_X3_opens rfl (xcat (Nat.le_of_ble_eq_true rfl)) (fun _ => ?_)
      refine xs_inc [1, 0] F dX3_load_158 rfl hnL rfl rfl (xk1 rfl rfl xk0) (fun x2_158 => ?_)
      refine xr_goto 143 F dX3_load_161 rfl ?_
      exact xI.sub [1, 0] rfl (ih l0 x2_158)
theorem fX3_load_p116_ok {x : xC} (F : xF x RX3 cX3_load (some .int)) (hnL : xnL x = 3) (hRm : ∃ dc ds, x.2.2.2.1 = { frames := 365, cells := dc, slots := ds, locals := 7384 }) (hno : ∀ pc, xNo x pc) (hmn : xmn x = "load" ∧ xmy x yX3_load) : ∀ (n : Nat) (l0 : Nat) (l2 : Int32), xI x xeI 116 [(0, va_rf (some l0)), (2, .int l2)] [] (fX3_load_p116 n l0 l2) := by
  intro n
  induction n with
  | zero => intro l0 l2; exact xI.stuck
  | succ n ih =>
    intro l0 l2
    unfold fX3_load_p116
    refine xr_iload_n 1 F dX3_load_116 rfl ?_
    refine xr_sipush (5604 : Int32) F dX3_load_117 rfl ?_
    refine xr_icmp_ge 141 F dX3_load_120 rfl ?_ ?_
    · refine xr_iconst (0 : Int32) F dX3_load_141 rfl ?_
      refine xr_letI (fun x2_142 => ?_)
      refine xs_i_n [0] F dX3_load_142 hnL rfl rfl (xk1 rfl rfl xk0) ?_
      exact xI.sub [1, 0] rfl (fX3_load_p143_ok F hnL hRm hno hmn xFU l0 x2_142)
    · refine xr_aload_n 0 (r := (some l0)) F dX3_load_123 rfl ?_
      refine xr_gR (r := (some l0)) (ref := "ReserveLedgerModel") F dX3_load_124 (C := RX3) (T := TX3) (N := 25) rfl (by decide) (Or.inl q3400) (Or.inl rfl) (fun v124 => ?_)
      refine xr_iload_n 1 F dX3_load_127 rfl ?_
      refine xr_aload_n 0 (r := (some l0)) F dX3_load_128 rfl ?_
      refine xr_gR (r := (some l0)) (ref := "ReserveLedgerModel") F dX3_load_129 (C := RX3) (T := TX3) (N := 25) rfl (by decide) (Or.inl q3401) (Or.inl rfl) (fun v129 => ?_)
      refine xr_iload_n 1 F dX3_load_132 rfl ?_
      refine xr_iald (r := v129) F dX3_load_133 (fun v133 => ?_)
      refine xr_iast (r := v124) F dX3_load_134 ?_
      refine xs_inc [1, 0] F dX3_load_135 rfl hnL rfl rfl (xk1 rfl rfl xk0) (fun x2_135 => ?_)
      refine xr_goto 116 F dX3_load_138 rfl ?_
      exact xI.sub [1, 0] rfl (ih l0 x2_135)
theorem fX3_load_p75_ok {x : xC} (F : xF x RX3 cX3_load (some .int)) (hnL : xnL x = 3) (hRm : ∃ dc ds, x.2.2.2.1 = { frames := 365, cells := dc, slots := ds, locals := 7384 }) (hno : ∀ pc, xNo x pc) (hmn : xmn x = "load" ∧ xmy x yX3_load) (l0 : Nat) (l1 : Int32) : xI x xeI 75 [(0, va_rf (some l0)), (1, .int l1)] [] (fX3_load_p75 l0 l1) := by
  unfold fX3_load_p75
  refine xr_aload_n 0 (r := (some l0)) F dX3_load_75 rfl ?_
  refine xr_aload_n 0 (r := (some l0)) F dX3_load_76 rfl ?_
  refine xr_gI (r := (some l0)) (ref := "ReserveLedgerModel") F dX3_load_77 (C := RX3) (T := TX3) (N := 25) rfl (by decide) (Or.inl q3410) (Or.inl rfl) (fun v77 => ?_)
  refine xr_put (r := (some l0)) (ref := "ReserveLedgerModel") F dX3_load_80 xk_39 (by decide) (Or.inl q3412) (Or.inl rfl) (Or.inl rfl) ⟨rfl, rfl⟩ ?_
  refine xr_aload_n 0 (r := (some l0)) F dX3_load_83 rfl ?_
  refine xr_aload_n 0 (r := (some l0)) F dX3_load_84 rfl ?_
  refine xr_gI (r := (some l0)) (ref := "ReserveLedgerModel") F dX3_load_85 (C := RX3) (T := TX3) (N := 25) rfl (by decide) (Or.inl q3411) (Or.inl rfl) (fun v85 => ?_)
  refine xr_put (r := (some l0)) (ref := "ReserveLedgerModel") F dX3_load_88 xk_39 (by decide) (Or.inl q3413) (Or.inl rfl) (Or.inl rfl) ⟨rfl, rfl⟩ ?_
  refine xr_aload_n 0 (r := (some l0)) F dX3_load_91 rfl ?_
  refine xr_aload_n 0 (r := (some l0)) F dX3_load_92 rfl ?_
  refine xr_VI (y := yX3_hasFailed) (As := []) (r := (some l0)) F (hno _) dX3_load_93 (fun z => fX3_hasFailed_m (xFG F) z) (Or.inl rfl) (ci := 39) (C := RX3) (T := TX3) rfl q3514 q3511 q3513 qs55 (xroom hRm (Nat.le_of_ble_eq_true rfl) (Nat.le_of_ble_eq_true rfl)) ⟨by decide, by decide⟩ n_X3_hasFailed rfl (xcat (Nat.le_of_ble_eq_true rfl)) (fun v93 => ?_)
  refine xr_iconst (1 : Int32) F dX3_load_96 rfl ?_
  refine xr_VI (y := yX3_throwsIf) (As := [.int v93, .int (1 : Int32)]) (r := (some l0)) F (hno _) dX3_load_97 (fun z => fX3_throwsIf_m (xFG F) z v93 (1 : Int32)) (Or.inl rfl) (ci := 39) (C := RX3) (T := TX3) rfl q3634 q3631 q3633 qs79 (xroom hRm (Nat.le_of_ble_eq_true rfl) (Nat.le_of_ble_eq_true rfl)) ⟨by decide, by decide⟩ n_X3_throwsIf rfl (xcat (Nat.le_of_ble_eq_true rfl)) (fun v97 => ?_)
  refine xr_if_eq 114 F dX3_load_100 rfl ?_ ?_
  · refine xr_iconst (0 : Int32) F dX3_load_114 rfl ?_
    refine xr_letI (fun x2_115 => ?_)
    refine xs_i_n [0] F dX3_load_115 hnL rfl rfl (xk1 rfl rfl xk0) ?_
    exact xI.sub [1, 0] rfl (fX3_load_p116_ok F hnL hRm hno hmn xFU l0 x2_115)
  · refine xr_aload_n 0 (r := (some l0)) F dX3_load_103 rfl ?_
    refine xr_VV (y := yX3_takesBack) (As := []) (r := (some l0)) F (hno _) dX3_load_104 (fun z => fX3_takesBack_m (xFG F) z) (Or.inl rfl) (ci := 39) (C := RX3) (T := TX3) rfl q3638 q3635 q3637 qs80 (xroom hRm (Nat.le_of_ble_eq_true rfl) (Nat.le_of_ble_eq_true rfl)) ⟨by decide, by decide⟩ n_X3_takesBack rfl (xcat (Nat.le_of_ble_eq_true rfl)) (fun _ => ?_)
    refine xr_aload_n 0 (r := (some l0)) F dX3_load_107 rfl ?_
    refine xr_iload_n 1 F dX3_load_108 rfl ?_
    refine xr_put (r := (some l0)) (ref := "ReserveLedgerModel") F dX3_load_109 xk_39 (by decide) (Or.inl q3398) (Or.inl rfl) (Or.inl rfl) ⟨rfl, rfl⟩ ?_
    refine xr_iconst (0 : Int32) F dX3_load_112 rfl ?_
    exact xr_iret F dX3_load_113
theorem fX3_load_p50_ok {x : xC} (F : xF x RX3 cX3_load (some .int)) (hnL : xnL x = 3) (hRm : ∃ dc ds, x.2.2.2.1 = { frames := 365, cells := dc, slots := ds, locals := 7384 }) (hno : ∀ pc, xNo x pc) (hmn : xmn x = "load" ∧ xmy x yX3_load) : ∀ (n : Nat) (l0 : Nat) (l1 : Int32), xI x xeI 50 [(0, va_rf (some l0)), (1, .int l1)] [] (fX3_load_p50 n l0 l1) := by
  intro n
  induction n with
  | zero => intro l0 l1; exact xI.stuck
  | succ n ih =>
    intro l0 l1
    unfold fX3_load_p50
    refine xr_aload_n 0 (r := (some l0)) F dX3_load_50 rfl ?_
    refine xr_VI (y := yX3_hasFailed) (As := []) (r := (some l0)) F (hno _) dX3_load_51 (fun z => fX3_hasFailed_m (xFG F) z) (Or.inl rfl) (ci := 39) (C := RX3) (T := TX3) rfl q3514 q3511 q3513 qs55 (xroom hRm (Nat.le_of_ble_eq_true rfl) (Nat.le_of_ble_eq_true rfl)) ⟨by decide, by decide⟩ n_X3_hasFailed rfl (xcat (Nat.le_of_ble_eq_true rfl)) (fun v51 => ?_)
    refine xr_if_ne 75 F dX3_load_54 rfl ?_ ?_
    · refine xr_aload_n 0 (r := (some l0)) F dX3_load_57 rfl ?_
      refine xr_gI (r := (some l0)) (ref := "ReserveLedgerModel") F dX3_load_58 (C := RX3) (T := TX3) (N := 25) rfl (by decide) (Or.inl q3407) (Or.inl rfl) (fun v58 => ?_)
      refine xr_aload_n 0 (r := (some l0)) F dX3_load_61 rfl ?_
      refine xr_gI (r := (some l0)) (ref := "ReserveLedgerModel") F dX3_load_62 (C := RX3) (T := TX3) (N := 25) rfl (by decide) (Or.inl q3409) (Or.inl rfl) (fun v62 => ?_)
      refine xr_icmp_ge 75 F dX3_load_65 rfl ?_ ?_
      · exact xI.sub [0, 1] rfl (fX3_load_p75_ok F hnL hRm hno hmn l0 l1)
      · refine xr_aload_n 0 (r := (some l0)) F dX3_load_68 rfl ?_
        refine xr_VV (y := yX3_readLine) (As := []) (r := (some l0)) F (hno _) dX3_load_69 (fun z => fX3_readLine_m (xFG F) z) (Or.inl rfl) (ci := 39) (C := RX3) (T := TX3) rfl q3522 q3519 q3521 qs57 (xroom hRm (Nat.le_of_ble_eq_true rfl) (Nat.le_of_ble_eq_true rfl)) ⟨by decide, by decide⟩ n_X3_readLine rfl (xcat (Nat.le_of_ble_eq_true rfl)) (fun _ => ?_)
        refine xr_goto 50 F dX3_load_72 rfl ?_
        exact xI.sub [0, 1] rfl (ih l0 l1)
    · exact xI.sub [0, 1] rfl (fX3_load_p75_ok F hnL hRm hno hmn l0 l1)
theorem fX3_load_m {l : Launch} {D : xD} {s0 : State} {b0 : Nat} {Γ : Nat → Option Nat} (G : xG l D s0 b0 Γ) (a0 : Nat) : xMeth l D s0 Γ yX3_load (Cond.code yX3_load cX3_load 3 (some .int)) (365) (7384) [.ref a0] xeI (fX3_load a0) := by
  refine xMeth.of (lv0 := [(0, va_rf (some a0))]) G (by decide +kernel) (Or.inl rfl) (Nat.le_of_ble_eq_true rfl) rfl (fun x F hnL hRm hmn ht e1 e2 e3 e4 => ?_)
  have hno : ∀ pc, xNo x pc := fun pc z hz => by rw [ht.1 rfl] at hz; cases hz
  unfold fX3_load
  refine xr_aload_n 0 (r := (some a0)) F dX3_load_0 rfl ?_
  refine xr_iconst (0 : Int32) F dX3_load_1 rfl ?_
  refine xr_put (r := (some a0)) (ref := "ReserveLedgerModel") F dX3_load_2 xk_39 (by decide) (Or.inl q3394) (Or.inl rfl) (Or.inl rfl) ⟨rfl, rfl⟩ ?_
  refine xr_aload_n 0 (r := (some a0)) F dX3_load_5 rfl ?_
  refine xr_aload_n 0 (r := (some a0)) F dX3_load_6 rfl ?_
  refine xr_gI (r := (some a0)) (ref := "ReserveLedgerModel") F dX3_load_7 (C := RX3) (T := TX3) (N := 25) rfl (by decide) (Or.inl q3406) (Or.inl rfl) (fun v7 => ?_)
  refine xr_put (r := (some a0)) (ref := "ReserveLedgerModel") F dX3_load_10 xk_39 (by decide) (Or.inl q3409) (Or.inl rfl) (Or.inl rfl) ⟨rfl, rfl⟩ ?_
  refine xr_aload_n 0 (r := (some a0)) F dX3_load_13 rfl ?_
  refine xr_iconst (0 : Int32) F dX3_load_14 rfl ?_
  refine xr_put (r := (some a0)) (ref := "ReserveLedgerModel") F dX3_load_15 xk_39 (by decide) (Or.inl q3406) (Or.inl rfl) (Or.inl rfl) ⟨rfl, rfl⟩ ?_
  refine xr_aload_n 0 (r := (some a0)) F dX3_load_18 rfl ?_
  refine xr_iconst (0 : Int32) F dX3_load_19 rfl ?_
  refine xr_put (r := (some a0)) (ref := "ReserveLedgerModel") F dX3_load_20 xk_39 (by decide) (Or.inl q3407) (Or.inl rfl) (Or.inl rfl) ⟨rfl, rfl⟩ ?_
  refine xr_aload_n 0 (r := (some a0)) F dX3_load_23 rfl ?_
  refine xr_iconst (-1 : Int32) F dX3_load_24 rfl ?_
  refine xr_put (r := (some a0)) (ref := "ReserveLedgerModel") F dX3_load_25 xk_39 (by decide) (Or.inl q3410) (Or.inl rfl) (Or.inl rfl) ⟨rfl, rfl⟩ ?_
  refine xr_aload_n 0 (r := (some a0)) F dX3_load_28 rfl ?_
  refine xr_iconst (0 : Int32) F dX3_load_29 rfl ?_
  refine xr_put (r := (some a0)) (ref := "ReserveLedgerModel") F dX3_load_30 xk_39 (by decide) (Or.inl q3411) (Or.inl rfl) (Or.inl rfl) ⟨rfl, rfl⟩ ?_
  refine xr_aload_n 0 (r := (some a0)) F dX3_load_33 rfl ?_
  refine xr_VV (y := yX3_putsAside) (As := []) (r := (some a0)) F (hno _) dX3_load_34 (fun z => fX3_putsAside_m (xFG F) z) (Or.inl rfl) (ci := 39) (C := RX3) (T := TX3) rfl q3506 q3503 q3505 qs53 (xroom hRm (Nat.le_of_ble_eq_true rfl) (Nat.le_of_ble_eq_true rfl)) ⟨by decide, by decide⟩ n_X3_putsAside rfl (xcat (Nat.le_of_ble_eq_true rfl)) (fun _ => ?_)
  refine xr_aload_n 0 (r := (some a0)) F dX3_load_37 rfl ?_
  refine xr_gI (r := (some a0)) (ref := "ReserveLedgerModel") F dX3_load_38 (C := RX3) (T := TX3) (N := 25) rfl (by decide) (Or.inl q3398) (Or.inl rfl) (fun v38 => ?_)
  refine xs_i_n [0] F dX3_load_41 hnL rfl rfl (xk2 rfl (xrf_cat _) xk0) ?_
  refine xr_aload_n 1 (r := (some a0)) F dX3_load_42 rfl ?_
  refine xr_VV (y := yX3_begins) (As := []) (r := (some a0)) F (hno _) dX3_load_43 (fun z => fX3_begins_m (xFG F) z) (Or.inl rfl) (ci := 39) (C := RX3) (T := TX3) rfl q3393 q3390 q3392 qs51 (xroom hRm (Nat.le_of_ble_eq_true rfl) (Nat.le_of_ble_eq_true rfl)) ⟨by decide, by decide⟩ n_X3_begins rfl (xcat (Nat.le_of_ble_eq_true rfl)) (fun _ => ?_)
  refine xr_aload_n 1 (r := (some a0)) F dX3_load_46 rfl ?_
  refine xr_VV (y := yX3_blanks) (As := []) (r := (some a0)) F (hno _) dX3_load_47 (fun z => fX3_blanks_m (xFG F) z) (Or.inl rfl) (ci := 39) (C := RX3) (T := TX3) rfl q3510 q3507 q3509 qs54 (xroom hRm (Nat.le_of_ble_eq_true rfl) (Nat.le_of_ble_eq_true rfl)) ⟨by decide, by decide⟩ n_X3_blanks rfl (xcat (Nat.le_of_ble_eq_true rfl)) (fun _ => ?_)
  exact xI.sub [1, 0] rfl (fX3_load_p50_ok F hnL hRm hno hmn xFU a0 v38)
theorem fX3_count_p23_ok {x : xC} (F : xF x RX3 cX3_count (some .int)) (hnL : xnL x = 2) (hRm : ∃ dc ds, x.2.2.2.1 = { frames := 2, cells := dc, slots := ds, locals := 37 }) (hno : ∀ pc, xNo x pc) (hmn : xmn x = "count" ∧ xmy x yX3_count) (l0 : Nat) (l1 : Int32) (s0 : Int32) (s1 : Nat) : xI x xeI 23 [(0, va_rf (some l0)), (1, .int l1)] [.int s0, va_rf (some s1)] (fX3_count_p23 l0 l1 s0 s1) := by
  unfold fX3_count_p23
  refine xr_iconst (1 : Int32) F dX3_count_23 rfl ?_
  refine xr_VI (y := yX3_throwsIf) (As := [.int s0, .int (1 : Int32)]) (r := (some s1)) F (hno _) dX3_count_24 (fun z => fX3_throwsIf_m (xFG F) z s0 (1 : Int32)) (Or.inl rfl) (ci := 39) (C := RX3) (T := TX3) rfl q3634 q3631 q3633 qs79 (xroom hRm (Nat.le_of_ble_eq_true rfl) (Nat.le_of_ble_eq_true rfl)) ⟨by decide, by decide⟩ n_X3_throwsIf rfl (xcat (Nat.le_of_ble_eq_true rfl)) (fun v24 => ?_)
  refine xr_if_eq 34 F dX3_count_27 rfl ?_ ?_
  · refine xr_aload_n 0 (r := (some l0)) F dX3_count_34 rfl ?_
    refine xr_gR (r := (some l0)) (ref := "ReserveLedgerModel") F dX3_count_35 (C := RX3) (T := TX3) (N := 25) rfl (by decide) (Or.inl q3395) (Or.inl rfl) (fun v35 => ?_)
    refine xr_iload_n 1 F dX3_count_38 rfl ?_
    refine xr_iald (r := v35) F dX3_count_39 (fun v39 => ?_)
    exact xr_iret F dX3_count_40
  · refine xr_iconst (0 : Int32) F dX3_count_30 rfl ?_
    refine xr_goto 40 F dX3_count_31 rfl ?_
    exact xr_iret F dX3_count_40
theorem fX3_count_m {l : Launch} {D : xD} {s0 : State} {b0 : Nat} {Γ : Nat → Option Nat} (G : xG l D s0 b0 Γ) (a0 : Nat) (p0 : Int32) : xMeth l D s0 Γ yX3_count (Cond.code yX3_count cX3_count 2 (some .int)) (2) (37) [.ref a0, .int p0] xeI (fX3_count a0 p0) := by
  refine xMeth.of (lv0 := [(0, va_rf (some a0)), (1, .int p0)]) G (by decide +kernel) (Or.inl rfl) (Nat.le_of_ble_eq_true rfl) rfl (fun x F hnL hRm hmn ht e1 e2 e3 e4 => ?_)
  have hno : ∀ pc, xNo x pc := fun pc z hz => by rw [ht.1 rfl] at hz; cases hz
  unfold fX3_count
  refine xr_aload_n 0 (r := (some a0)) F dX3_count_0 rfl ?_
  refine xr_iconst (0 : Int32) F dX3_count_1 rfl ?_
  refine xr_put (r := (some a0)) (ref := "ReserveLedgerModel") F dX3_count_2 xk_39 (by decide) (Or.inl q3394) (Or.inl rfl) (Or.inl rfl) ⟨rfl, rfl⟩ ?_
  refine xr_aload_n 0 (r := (some a0)) F dX3_count_5 rfl ?_
  refine xr_iload_n 1 F dX3_count_6 rfl ?_
  refine xr_i2l F dX3_count_7 ?_
  refine xr_lconst 0 F dX3_count_8 rfl ?_
  refine xr_ldc2 F dX3_count_9 q3674 ?_
  refine xr_SI (y := yX3_in) (As := [.long p0.toInt64, .long (0 : Int64), .long (3 : Int64)]) F (hno _) dX3_count_12 (fX3_in_m (xFG F) p0.toInt64 (0 : Int64) (3 : Int64)) (Or.inl rfl) q3544 q144 (Or.inl q3542) q3543 (xroom hRm (Nat.le_of_ble_eq_true rfl) (Nat.le_of_ble_eq_true rfl)) ⟨by decide, by decide⟩ n_X3_in rfl (xcat (Nat.le_of_ble_eq_true rfl)) (fun v12 => ?_)
  refine xr_if_ne 22 F dX3_count_15 rfl ?_ ?_
  · refine xr_iconst (1 : Int32) F dX3_count_18 rfl ?_
    refine xr_goto 23 F dX3_count_19 rfl ?_
    exact xI.sub [0, 1] rfl (fX3_count_p23_ok F hnL hRm hno hmn a0 p0 (1 : Int32) a0)
  · refine xr_iconst (0 : Int32) F dX3_count_22 rfl ?_
    exact xI.sub [0, 1] rfl (fX3_count_p23_ok F hnL hRm hno hmn a0 p0 (0 : Int32) a0)
theorem fX3_speciesNamed_p33_ok {x : xC} (F : xF x RX3 cX3_speciesNamed (some .int)) (hnL : xnL x = 4) (hRm : ∃ dc ds, x.2.2.2.1 = { frames := 4, cells := dc, slots := ds, locals := 77 }) (hno : ∀ pc, xNo x pc) (hmn : xmn x = "speciesNamed" ∧ xmy x yX3_speciesNamed) : ∀ (n : Nat) (l0 : Nat) (l1 : Int32) (l2 : Int32) (l3 : Int32), xI x xeI 33 [(0, va_rf (some l0)), (1, .int l1), (2, .int l2), (3, .int l3)] [] (fX3_speciesNamed_p33 n l0 l1 l2 l3) := by
  intro n
  induction n with
  | zero => intro l0 l1 l2 l3; exact xI.stuck
  | succ n ih =>
    intro l0 l1 l2 l3
    unfold fX3_speciesNamed_p33
    refine xr_iload_n 3 F dX3_speciesNamed_33 rfl ?_
    refine xr_iload_n 1 F dX3_speciesNamed_34 rfl ?_
    refine xr_icmp_ge 82 F dX3_speciesNamed_35 rfl ?_ ?_
    · refine xr_aload_n 0 (r := (some l0)) F dX3_speciesNamed_82 rfl ?_
      refine xr_iload_n 2 F dX3_speciesNamed_83 rfl ?_
      refine xr_VI (y := yX3_named) (As := [.int l2]) (r := (some l0)) F (hno _) dX3_speciesNamed_84 (fun z => fX3_named_m (xFG F) z l2) (Or.inl rfl) (ci := 39) (C := RX3) (T := TX3) rfl q3558 q3555 q3557 qs64 (xroom hRm (Nat.le_of_ble_eq_true rfl) (Nat.le_of_ble_eq_true rfl)) ⟨by decide, by decide⟩ n_X3_named rfl (xcat (Nat.le_of_ble_eq_true rfl)) (fun v84 => ?_)
      exact xr_iret F dX3_speciesNamed_87
    · refine xr_aload_n 0 (r := (some l0)) F dX3_speciesNamed_38 rfl ?_
      refine xr_gR (r := (some l0)) (ref := "ReserveLedgerModel") F dX3_speciesNamed_39 (C := RX3) (T := TX3) (N := 25) rfl (by decide) (Or.inl q3404) (Or.inl rfl) (fun v39 => ?_)
      refine xr_iload_n 3 F dX3_speciesNamed_42 rfl ?_
      refine xr_bald (r := v39) F dX3_speciesNamed_43 (fun v43 => ?_)
      refine xr_i2l F dX3_speciesNamed_44 ?_
      refine xr_ldc2 F dX3_speciesNamed_45 q3679 ?_
      refine xr_ldc2 F dX3_speciesNamed_48 q3680 ?_
      refine xr_SI (y := yX3_in) (As := [.long v43.toInt64, .long (97 : Int64), .long (122 : Int64)]) F (hno _) dX3_speciesNamed_51 (fX3_in_m (xFG F) v43.toInt64 (97 : Int64) (122 : Int64)) (Or.inl rfl) q3544 q144 (Or.inl q3542) q3543 (xroom hRm (Nat.le_of_ble_eq_true rfl) (Nat.le_of_ble_eq_true rfl)) ⟨by decide, by decide⟩ n_X3_in rfl (xcat (Nat.le_of_ble_eq_true rfl)) (fun v51 => ?_)
      refine xr_if_ne 59 F dX3_speciesNamed_54 rfl ?_ ?_
      · refine xr_iconst (-1 : Int32) F dX3_speciesNamed_57 rfl ?_
        exact xr_iret F dX3_speciesNamed_58
      · refine xr_bipush (27 : Int32) F dX3_speciesNamed_59 rfl ?_
        refine xr_iload_n 2 F dX3_speciesNamed_61 rfl ?_
        refine xr_imul F dX3_speciesNamed_62 ?_
        refine xr_aload_n 0 (r := (some l0)) F dX3_speciesNamed_63 rfl ?_
        refine xr_gR (r := (some l0)) (ref := "ReserveLedgerModel") F dX3_speciesNamed_64 (C := RX3) (T := TX3) (N := 25) rfl (by decide) (Or.inl q3404) (Or.inl rfl) (fun v64 => ?_)
        refine xr_iload_n 3 F dX3_speciesNamed_67 rfl ?_
        refine xr_bald (r := v64) F dX3_speciesNamed_68 (fun v68 => ?_)
        refine xr_iadd F dX3_speciesNamed_69 ?_
        refine xr_bipush (97 : Int32) F dX3_speciesNamed_70 rfl ?_
        refine xr_isub F dX3_speciesNamed_72 ?_
        refine xr_iconst (1 : Int32) F dX3_speciesNamed_73 rfl ?_
        refine xr_iadd F dX3_speciesNamed_74 ?_
        refine xr_letI (fun x2_75 => ?_)
        refine xs_i_n [0, 1, 3] F dX3_speciesNamed_75 hnL rfl rfl (xk1 rfl rfl (xk2 rfl rfl (xk1 rfl rfl xk0))) ?_
        refine xs_inc [3, 0, 1, 2] F dX3_speciesNamed_76 rfl hnL rfl rfl (xk2 rfl rfl (xk1 rfl rfl (xk1 rfl rfl xk0))) (fun x3_76 => ?_)
        refine xr_goto 33 F dX3_speciesNamed_79 rfl ?_
        exact xI.sub [2, 3, 1, 0] rfl (ih l0 l1 x2_75 x3_76)
theorem fX3_speciesNamed_m {l : Launch} {D : xD} {s0 : State} {b0 : Nat} {Γ : Nat → Option Nat} (G : xG l D s0 b0 Γ) (a0 : Nat) : xMeth l D s0 Γ yX3_speciesNamed (Cond.code yX3_speciesNamed cX3_speciesNamed 4 (some .int)) (4) (77) [.ref a0] xeI (fX3_speciesNamed a0) := by
  refine xMeth.of (lv0 := [(0, va_rf (some a0))]) G (by decide +kernel) (Or.inl rfl) (Nat.le_of_ble_eq_true rfl) rfl (fun x F hnL hRm hmn ht e1 e2 e3 e4 => ?_)
  have hno : ∀ pc, xNo x pc := fun pc z hz => by rw [ht.1 rfl] at hz; cases hz
  unfold fX3_speciesNamed
  refine xr_aload_n 0 (r := (some a0)) F dX3_speciesNamed_0 rfl ?_
  refine xr_iconst (0 : Int32) F dX3_speciesNamed_1 rfl ?_
  refine xr_put (r := (some a0)) (ref := "ReserveLedgerModel") F dX3_speciesNamed_2 xk_39 (by decide) (Or.inl q3394) (Or.inl rfl) (Or.inl rfl) ⟨rfl, rfl⟩ ?_
  refine xr_aload_n 0 (r := (some a0)) F dX3_speciesNamed_5 rfl ?_
  refine xr_gI (r := (some a0)) (ref := "ReserveLedgerModel") F dX3_speciesNamed_6 (C := RX3) (T := TX3) (N := 25) rfl (by decide) (Or.inl q3406) (Or.inl rfl) (fun v6 => ?_)
  refine xs_i_n [0] F dX3_speciesNamed_9 hnL rfl rfl (xk2 rfl (xrf_cat _) xk0) ?_
  refine xr_aload_n 1 (r := (some a0)) F dX3_speciesNamed_10 rfl ?_
  refine xr_iconst (0 : Int32) F dX3_speciesNamed_11 rfl ?_
  refine xr_put (r := (some a0)) (ref := "ReserveLedgerModel") F dX3_speciesNamed_12 xk_39 (by decide) (Or.inl q3406) (Or.inl rfl) (Or.inl rfl) ⟨rfl, rfl⟩ ?_
  refine xr_iload_n 0 F dX3_speciesNamed_15 rfl ?_
  refine xr_i2l F dX3_speciesNamed_16 ?_
  refine xr_lconst 1 F dX3_speciesNamed_17 rfl ?_
  refine xr_ldc2 F dX3_speciesNamed_18 q3554 ?_
  refine xr_SI (y := yX3_in) (As := [.long v6.toInt64, .long (1 : Int64), .long (6 : Int64)]) F (hno _) dX3_speciesNamed_21 (fX3_in_m (xFG F) v6.toInt64 (1 : Int64) (6 : Int64)) (Or.inl rfl) q3544 q144 (Or.inl q3542) q3543 (xroom hRm (Nat.le_of_ble_eq_true rfl) (Nat.le_of_ble_eq_true rfl)) ⟨by decide, by decide⟩ n_X3_in rfl (xcat (Nat.le_of_ble_eq_true rfl)) (fun v21 => ?_)
  refine xr_if_ne 29 F dX3_speciesNamed_24 rfl ?_ ?_
  · refine xr_iconst (-1 : Int32) F dX3_speciesNamed_27 rfl ?_
    exact xr_iret F dX3_speciesNamed_28
  · refine xr_iconst (0 : Int32) F dX3_speciesNamed_29 rfl ?_
    refine xr_letI (fun x2_30 => ?_)
    refine xs_i_n [0, 1] F dX3_speciesNamed_30 hnL rfl rfl (xk2 rfl rfl (xk1 rfl rfl xk0)) ?_
    refine xr_iconst (0 : Int32) F dX3_speciesNamed_31 rfl ?_
    refine xr_letI (fun x3_32 => ?_)
    refine xs_i_n [0, 1, 2] F dX3_speciesNamed_32 hnL rfl rfl (xk2 rfl rfl (xk1 rfl rfl (xk1 rfl rfl xk0))) ?_
    exact xI.sub [3, 2, 1, 0] rfl (fX3_speciesNamed_p33_ok F hnL hRm hno hmn xFU a0 v6 x2_30 x3_32)
theorem fJ12_max_m {l : Launch} {D : xD} {s0 : State} {b0 : Nat} {Γ : Nat → Option Nat} (G : xG l D s0 b0 Γ) (p0 : Int32) (p1 : Int32) : xMeth l D s0 Γ yJ12_max (Cond.code yJ12_max cJ12_max 2 (some .int)) (1) (12) [.int p0, .int p1] xeI (fJ12_max p0 p1) := by
  refine xMeth.of (lv0 := [(0, .int p0), (1, .int p1)]) G (by decide +kernel) (Or.inl rfl) (Nat.le_of_ble_eq_true rfl) rfl (fun x F hnL hRm hmn ht e1 e2 e3 e4 => ?_)
  have hno : ∀ pc, xNo x pc := fun pc z hz => by rw [ht.1 rfl] at hz; cases hz
  unfold fJ12_max
  refine xr_iload_n 0 F dJ12_max_0 rfl ?_
  refine xr_iload_n 1 F dJ12_max_1 rfl ?_
  refine xr_icmp_lt 9 F dJ12_max_2 rfl ?_ ?_
  · refine xr_iload_n 1 F dJ12_max_9 rfl ?_
    exact xr_iret F dJ12_max_10
  · refine xr_iload_n 0 F dJ12_max_5 rfl ?_
    refine xr_goto 10 F dJ12_max_6 rfl ?_
    exact xr_iret F dJ12_max_10
theorem fX3_leftOf_m {l : Launch} {D : xD} {s0 : State} {b0 : Nat} {Γ : Nat → Option Nat} (G : xG l D s0 b0 Γ) (a0 : Nat) (p0 : Int32) : xMeth l D s0 Γ yX3_leftOf (Cond.code yX3_leftOf cX3_leftOf 2 (some .int)) (3) (55) [.ref a0, .int p0] xeI (fX3_leftOf a0 p0) := by
  refine xMeth.of (lv0 := [(0, va_rf (some a0)), (1, .int p0)]) G (by decide +kernel) (Or.inl rfl) (Nat.le_of_ble_eq_true rfl) rfl (fun x F hnL hRm hmn ht e1 e2 e3 e4 => ?_)
  have hno : ∀ pc, xNo x pc := fun pc z hz => by rw [ht.1 rfl] at hz; cases hz
  unfold fX3_leftOf
  refine xr_iconst (0 : Int32) F dX3_leftOf_0 rfl ?_
  refine xr_aload_n 0 (r := (some a0)) F dX3_leftOf_1 rfl ?_
  refine xr_iload_n 1 F dX3_leftOf_2 rfl ?_
  refine xr_iconst (5 : Int32) F dX3_leftOf_3 rfl ?_
  refine xr_VI (y := yX3_of) (As := [.int p0, .int (5 : Int32)]) (r := (some a0)) F (hno _) dX3_leftOf_4 (fun z => fX3_of_m (xFG F) z p0 (5 : Int32)) (Or.inl rfl) (ci := 39) (C := RX3) (T := TX3) rfl q3562 q3559 q3561 qs65 (xroom hRm (Nat.le_of_ble_eq_true rfl) (Nat.le_of_ble_eq_true rfl)) ⟨by decide, by decide⟩ n_X3_of rfl (xcat (Nat.le_of_ble_eq_true rfl)) (fun v4 => ?_)
  refine xr_aload_n 0 (r := (some a0)) F dX3_leftOf_7 rfl ?_
  refine xr_iload_n 1 F dX3_leftOf_8 rfl ?_
  refine xr_bipush (10 : Int32) F dX3_leftOf_9 rfl ?_
  refine xr_VI (y := yX3_of) (As := [.int p0, .int (10 : Int32)]) (r := (some a0)) F (hno _) dX3_leftOf_11 (fun z => fX3_of_m (xFG F) z p0 (10 : Int32)) (Or.inl rfl) (ci := 39) (C := RX3) (T := TX3) rfl q3562 q3559 q3561 qs65 (xroom hRm (Nat.le_of_ble_eq_true rfl) (Nat.le_of_ble_eq_true rfl)) ⟨by decide, by decide⟩ n_X3_of rfl (xcat (Nat.le_of_ble_eq_true rfl)) (fun v11 => ?_)
  refine xr_isub F dX3_leftOf_14 ?_
  refine xr_SI (y := yJ12_max) (As := [.int (0 : Int32), .int (v4 - v11)]) F (hno _) dX3_leftOf_15 (fJ12_max_m (xFG F) (0 : Int32) (v4 - v11)) (Or.inl rfl) q327 q135 (Or.inl q3694) q326 (xroom hRm (Nat.le_of_ble_eq_true rfl) (Nat.le_of_ble_eq_true rfl)) ⟨by decide, by decide⟩ n_J12_max rfl (xcat (Nat.le_of_ble_eq_true rfl)) (fun v15 => ?_)
  exact xr_iret F dX3_leftOf_18
theorem fX3_noSpecies_p24_ok {x : xC} (F : xF x RX3 cX3_noSpecies (some .boolean)) (hnL : xnL x = 2) (hRm : ∃ dc ds, x.2.2.2.1 = { frames := 2, cells := dc, slots := ds, locals := 37 }) (hno : ∀ pc, xNo x pc) (hmn : xmn x = "noSpecies" ∧ xmy x yX3_noSpecies) (s0 : Int32) (s1 : Nat) : xI x xeI 24 [] [.int s0, va_rf (some s1)] (fX3_noSpecies_p24 s0 s1) := by
  unfold fX3_noSpecies_p24
  refine xr_iconst (1 : Int32) F dX3_noSpecies_24 rfl ?_
  refine xr_VI (y := yX3_throwsIf) (As := [.int s0, .int (1 : Int32)]) (r := (some s1)) F (hno _) dX3_noSpecies_25 (fun z => fX3_throwsIf_m (xFG F) z s0 (1 : Int32)) (Or.inl rfl) (ci := 39) (C := RX3) (T := TX3) rfl q3634 q3631 q3633 qs79 (xroom hRm (Nat.le_of_ble_eq_true rfl) (Nat.le_of_ble_eq_true rfl)) ⟨by decide, by decide⟩ n_X3_throwsIf rfl (xcat (Nat.le_of_ble_eq_true rfl)) (fun v25 => ?_)
  exact xr_nret F dX3_noSpecies_28
theorem fX3_noSpecies_m {l : Launch} {D : xD} {s0 : State} {b0 : Nat} {Γ : Nat → Option Nat} (G : xG l D s0 b0 Γ) (a0 : Nat) (p0 : Int32) : xMeth l D s0 Γ yX3_noSpecies (Cond.code yX3_noSpecies cX3_noSpecies 2 (some .boolean)) (2) (37) [.ref a0, .int p0] xeI (fX3_noSpecies a0 p0) := by
  refine xMeth.of (lv0 := [(0, va_rf (some a0)), (1, .int p0)]) G (by decide +kernel) (Or.inl rfl) (Nat.le_of_ble_eq_true rfl) rfl (fun x F hnL hRm hmn ht e1 e2 e3 e4 => ?_)
  have hno : ∀ pc, xNo x pc := fun pc z hz => by rw [ht.1 rfl] at hz; cases hz
  unfold fX3_noSpecies
  refine xr_aload_n 0 (r := (some a0)) F dX3_noSpecies_0 rfl ?_
  refine xr_iload_n 1 F dX3_noSpecies_1 rfl ?_
  refine xr_i2l F dX3_noSpecies_2 ?_
  refine xr_lconst 0 F dX3_noSpecies_3 rfl ?_
  refine xr_aload_n 0 (r := (some a0)) F dX3_noSpecies_4 rfl ?_
  refine xr_gR (r := (some a0)) (ref := "ReserveLedgerModel") F dX3_noSpecies_5 (C := RX3) (T := TX3) (N := 25) rfl (by decide) (Or.inl q3395) (Or.inl rfl) (fun v5 => ?_)
  refine xr_iconst (0 : Int32) F dX3_noSpecies_8 rfl ?_
  refine xr_iald (r := v5) F dX3_noSpecies_9 (fun v9 => ?_)
  refine xr_iconst (1 : Int32) F dX3_noSpecies_10 rfl ?_
  refine xr_isub F dX3_noSpecies_11 ?_
  refine xr_i2l F dX3_noSpecies_12 ?_
  refine xr_SI (y := yX3_in) (As := [.long p0.toInt64, .long (0 : Int64), .long ((v9 - (1 : Int32)).toInt64)]) F (hno _) dX3_noSpecies_13 (fX3_in_m (xFG F) p0.toInt64 (0 : Int64) ((v9 - (1 : Int32)).toInt64)) (Or.inl rfl) q3544 q144 (Or.inl q3542) q3543 (xroom hRm (Nat.le_of_ble_eq_true rfl) (Nat.le_of_ble_eq_true rfl)) ⟨by decide, by decide⟩ n_X3_in rfl (xcat (Nat.le_of_ble_eq_true rfl)) (fun v13 => ?_)
  refine xr_if_ne 23 F dX3_noSpecies_16 rfl ?_ ?_
  · refine xr_iconst (1 : Int32) F dX3_noSpecies_19 rfl ?_
    refine xr_goto 24 F dX3_noSpecies_20 rfl ?_
    exact xI.sub [] rfl (fX3_noSpecies_p24_ok F hnL hRm hno hmn (1 : Int32) a0)
  · refine xr_iconst (0 : Int32) F dX3_noSpecies_23 rfl ?_
    exact xI.sub [] rfl (fX3_noSpecies_p24_ok F hnL hRm hno hmn (0 : Int32) a0)
theorem fX3_field_p31_ok {x : xC} (F : xF x RX3 cX3_field (some .int)) (hnL : xnL x = 3) (hRm : ∃ dc ds, x.2.2.2.1 = { frames := 5, cells := dc, slots := ds, locals := 100 }) (hno : ∀ pc, xNo x pc) (hmn : xmn x = "field" ∧ xmy x yX3_field) (l0 : Nat) (l1 : Int32) (l2 : Int32) (s0 : Int32) (s1 : Nat) : xI x xeI 31 [(0, va_rf (some l0)), (1, .int l1), (2, .int l2)] [.int s0, va_rf (some s1)] (fX3_field_p31 l0 l1 l2 s0 s1) := by
  unfold fX3_field_p31
  refine xr_iconst (2 : Int32) F dX3_field_31 rfl ?_
  refine xr_VI (y := yX3_throwsIf) (As := [.int s0, .int (2 : Int32)]) (r := (some s1)) F (hno _) dX3_field_32 (fun z => fX3_throwsIf_m (xFG F) z s0 (2 : Int32)) (Or.inl rfl) (ci := 39) (C := RX3) (T := TX3) rfl q3634 q3631 q3633 qs79 (xroom hRm (Nat.le_of_ble_eq_true rfl) (Nat.le_of_ble_eq_true rfl)) ⟨by decide, by decide⟩ n_X3_throwsIf rfl (xcat (Nat.le_of_ble_eq_true rfl)) (fun v32 => ?_)
  refine xr_if_eq 40 F dX3_field_35 rfl ?_ ?_
  · refine xr_iload_n 2 F dX3_field_40 rfl ?_
    refine xI.split (fun h_0 => ?_) (fun h_0 => ?_)
    · refine xr_tableIn 92 F dX3_field_41 (by rw [h_0]; decide) (by rw [h_0]; decide) (by rw [h_0]; rfl) rfl ?_
      refine xr_aload_n 0 (r := (some l0)) F dX3_field_92 rfl ?_
      refine xr_iload_n 1 F dX3_field_93 rfl ?_
      refine xr_VI (y := yX3_oldest) (As := [.int l1]) (r := (some l0)) F (hno _) dX3_field_94 (fun z => fX3_oldest_m (xFG F) z l1) (Or.inl rfl) (ci := 39) (C := RX3) (T := TX3) rfl q3583 q3580 q3582 qs68 (xroom hRm (Nat.le_of_ble_eq_true rfl) (Nat.le_of_ble_eq_true rfl)) ⟨by decide, by decide⟩ n_X3_oldest rfl (xcat (Nat.le_of_ble_eq_true rfl)) (fun v94 => ?_)
      exact xr_iret F dX3_field_97
    · refine xI.split (fun h_1 => ?_) (fun h_1 => ?_)
      · refine xr_tableIn 98 F dX3_field_41 (by rw [h_1]; decide) (by rw [h_1]; decide) (by rw [h_1]; rfl) rfl ?_
        refine xr_aload_n 0 (r := (some l0)) F dX3_field_98 rfl ?_
        refine xr_iload_n 1 F dX3_field_99 rfl ?_
        refine xr_iconst (2 : Int32) F dX3_field_100 rfl ?_
        refine xr_VI (y := yX3_of) (As := [.int l1, .int (2 : Int32)]) (r := (some l0)) F (hno _) dX3_field_101 (fun z => fX3_of_m (xFG F) z l1 (2 : Int32)) (Or.inl rfl) (ci := 39) (C := RX3) (T := TX3) rfl q3562 q3559 q3561 qs65 (xroom hRm (Nat.le_of_ble_eq_true rfl) (Nat.le_of_ble_eq_true rfl)) ⟨by decide, by decide⟩ n_X3_of rfl (xcat (Nat.le_of_ble_eq_true rfl)) (fun v101 => ?_)
        exact xr_iret F dX3_field_104
      · refine xI.split (fun h_2 => ?_) (fun h_2 => ?_)
        · refine xr_tableIn 105 F dX3_field_41 (by rw [h_2]; decide) (by rw [h_2]; decide) (by rw [h_2]; rfl) rfl ?_
          refine xr_aload_n 0 (r := (some l0)) F dX3_field_105 rfl ?_
          refine xr_iload_n 1 F dX3_field_106 rfl ?_
          refine xr_iconst (3 : Int32) F dX3_field_107 rfl ?_
          refine xr_VI (y := yX3_of) (As := [.int l1, .int (3 : Int32)]) (r := (some l0)) F (hno _) dX3_field_108 (fun z => fX3_of_m (xFG F) z l1 (3 : Int32)) (Or.inl rfl) (ci := 39) (C := RX3) (T := TX3) rfl q3562 q3559 q3561 qs65 (xroom hRm (Nat.le_of_ble_eq_true rfl) (Nat.le_of_ble_eq_true rfl)) ⟨by decide, by decide⟩ n_X3_of rfl (xcat (Nat.le_of_ble_eq_true rfl)) (fun v108 => ?_)
          exact xr_iret F dX3_field_111
        · refine xI.split (fun h_3 => ?_) (fun h_3 => ?_)
          · refine xr_tableIn 112 F dX3_field_41 (by rw [h_3]; decide) (by rw [h_3]; decide) (by rw [h_3]; rfl) rfl ?_
            refine xr_aload_n 0 (r := (some l0)) F dX3_field_112 rfl ?_
            refine xr_iload_n 1 F dX3_field_113 rfl ?_
            refine xr_VI (y := yX3_totalOf) (As := [.int l1]) (r := (some l0)) F (hno _) dX3_field_114 (fun z => fX3_totalOf_m (xFG F) z l1) (Or.inl rfl) (ci := 39) (C := RX3) (T := TX3) rfl q3646 q3643 q3645 qs82 (xroom hRm (Nat.le_of_ble_eq_true rfl) (Nat.le_of_ble_eq_true rfl)) ⟨by decide, by decide⟩ n_X3_totalOf rfl (xcat (Nat.le_of_ble_eq_true rfl)) (fun v114 => ?_)
            exact xr_iret F dX3_field_117
          · refine xI.split (fun h_4 => ?_) (fun h_4 => ?_)
            · refine xr_tableIn 118 F dX3_field_41 (by rw [h_4]; decide) (by rw [h_4]; decide) (by rw [h_4]; rfl) rfl ?_
              refine xr_aload_n 0 (r := (some l0)) F dX3_field_118 rfl ?_
              refine xr_iload_n 1 F dX3_field_119 rfl ?_
              refine xr_VI (y := yX3_adultsOf) (As := [.int l1]) (r := (some l0)) F (hno _) dX3_field_120 (fun z => fX3_adultsOf_m (xFG F) z l1) (Or.inl rfl) (ci := 39) (C := RX3) (T := TX3) rfl q3669 q3666 q3668 qs86 (xroom hRm (Nat.le_of_ble_eq_true rfl) (Nat.le_of_ble_eq_true rfl)) ⟨by decide, by decide⟩ n_X3_adultsOf rfl (xcat (Nat.le_of_ble_eq_true rfl)) (fun v120 => ?_)
              exact xr_iret F dX3_field_123
            · refine xI.split (fun h_5 => ?_) (fun h_5 => ?_)
              · refine xr_tableIn 124 F dX3_field_41 (by rw [h_5]; decide) (by rw [h_5]; decide) (by rw [h_5]; rfl) rfl ?_
                refine xr_aload_n 0 (r := (some l0)) F dX3_field_124 rfl ?_
                refine xr_iload_n 1 F dX3_field_125 rfl ?_
                refine xr_iconst (4 : Int32) F dX3_field_126 rfl ?_
                refine xr_VI (y := yX3_of) (As := [.int l1, .int (4 : Int32)]) (r := (some l0)) F (hno _) dX3_field_127 (fun z => fX3_of_m (xFG F) z l1 (4 : Int32)) (Or.inl rfl) (ci := 39) (C := RX3) (T := TX3) rfl q3562 q3559 q3561 qs65 (xroom hRm (Nat.le_of_ble_eq_true rfl) (Nat.le_of_ble_eq_true rfl)) ⟨by decide, by decide⟩ n_X3_of rfl (xcat (Nat.le_of_ble_eq_true rfl)) (fun v127 => ?_)
                exact xr_iret F dX3_field_130
              · refine xI.split (fun h_6 => ?_) (fun h_6 => ?_)
                · refine xr_tableIn 131 F dX3_field_41 (by rw [h_6]; decide) (by rw [h_6]; decide) (by rw [h_6]; rfl) rfl ?_
                  refine xr_aload_n 0 (r := (some l0)) F dX3_field_131 rfl ?_
                  refine xr_iload_n 1 F dX3_field_132 rfl ?_
                  refine xr_iconst (5 : Int32) F dX3_field_133 rfl ?_
                  refine xr_VI (y := yX3_of) (As := [.int l1, .int (5 : Int32)]) (r := (some l0)) F (hno _) dX3_field_134 (fun z => fX3_of_m (xFG F) z l1 (5 : Int32)) (Or.inl rfl) (ci := 39) (C := RX3) (T := TX3) rfl q3562 q3559 q3561 qs65 (xroom hRm (Nat.le_of_ble_eq_true rfl) (Nat.le_of_ble_eq_true rfl)) ⟨by decide, by decide⟩ n_X3_of rfl (xcat (Nat.le_of_ble_eq_true rfl)) (fun v134 => ?_)
                  exact xr_iret F dX3_field_137
                · refine xI.split (fun h_7 => ?_) (fun h_7 => ?_)
                  · refine xr_tableIn 138 F dX3_field_41 (by rw [h_7]; decide) (by rw [h_7]; decide) (by rw [h_7]; rfl) rfl ?_
                    refine xr_aload_n 0 (r := (some l0)) F dX3_field_138 rfl ?_
                    refine xr_iload_n 1 F dX3_field_139 rfl ?_
                    refine xr_VI (y := yX3_leftOf) (As := [.int l1]) (r := (some l0)) F (hno _) dX3_field_140 (fun z => fX3_leftOf_m (xFG F) z l1) (Or.inl rfl) (ci := 39) (C := RX3) (T := TX3) rfl q3693 q3690 q3692 qs88 (xroom hRm (Nat.le_of_ble_eq_true rfl) (Nat.le_of_ble_eq_true rfl)) ⟨by decide, by decide⟩ n_X3_leftOf rfl (xcat (Nat.le_of_ble_eq_true rfl)) (fun v140 => ?_)
                    exact xr_iret F dX3_field_143
                  · refine xI.split (fun h_8 => ?_) (fun h_8 => ?_)
                    · refine xr_tableIn 144 F dX3_field_41 (by rw [h_8]; decide) (by rw [h_8]; decide) (by rw [h_8]; rfl) rfl ?_
                      refine xr_aload_n 0 (r := (some l0)) F dX3_field_144 rfl ?_
                      refine xr_iload_n 1 F dX3_field_145 rfl ?_
                      refine xr_bipush (6 : Int32) F dX3_field_146 rfl ?_
                      refine xr_VI (y := yX3_of) (As := [.int l1, .int (6 : Int32)]) (r := (some l0)) F (hno _) dX3_field_148 (fun z => fX3_of_m (xFG F) z l1 (6 : Int32)) (Or.inl rfl) (ci := 39) (C := RX3) (T := TX3) rfl q3562 q3559 q3561 qs65 (xroom hRm (Nat.le_of_ble_eq_true rfl) (Nat.le_of_ble_eq_true rfl)) ⟨by decide, by decide⟩ n_X3_of rfl (xcat (Nat.le_of_ble_eq_true rfl)) (fun v148 => ?_)
                      exact xr_iret F dX3_field_151
                    · refine xr_tableOut 152 F dX3_field_41 (by intro i g1 g2; have g3 : i = 0 ∨ i = 1 ∨ i = 2 ∨ i = 3 ∨ i = 4 ∨ i = 5 ∨ i = 6 ∨ i = 7 ∨ i = 8 := (by omega); rcases g3 with rfl | rfl | rfl | rfl | rfl | rfl | rfl | rfl | rfl; all_goals assumption) rfl ?_
                      refine xr_aload_n 0 (r := (some l0)) F dX3_field_152 rfl ?_
                      refine xr_iload_n 1 F dX3_field_153 rfl ?_
                      refine xr_bipush (12 : Int32) F dX3_field_154 rfl ?_
                      refine xr_VI (y := yX3_of) (As := [.int l1, .int (12 : Int32)]) (r := (some l0)) F (hno _) dX3_field_156 (fun z => fX3_of_m (xFG F) z l1 (12 : Int32)) (Or.inl rfl) (ci := 39) (C := RX3) (T := TX3) rfl q3562 q3559 q3561 qs65 (xroom hRm (Nat.le_of_ble_eq_true rfl) (Nat.le_of_ble_eq_true rfl)) ⟨by decide, by decide⟩ n_X3_of rfl (xcat (Nat.le_of_ble_eq_true rfl)) (fun v156 => ?_)
                      exact xr_iret F dX3_field_159
  · refine xr_iconst (0 : Int32) F dX3_field_38 rfl ?_
    exact xr_iret F dX3_field_39
theorem fX3_field_m {l : Launch} {D : xD} {s0 : State} {b0 : Nat} {Γ : Nat → Option Nat} (G : xG l D s0 b0 Γ) (a0 : Nat) (p0 : Int32) (p1 : Int32) : xMeth l D s0 Γ yX3_field (Cond.code yX3_field cX3_field 3 (some .int)) (5) (100) [.ref a0, .int p0, .int p1] xeI (fX3_field a0 p0 p1) := by
  refine xMeth.of (lv0 := [(0, va_rf (some a0)), (1, .int p0), (2, .int p1)]) G (by decide +kernel) (Or.inl rfl) (Nat.le_of_ble_eq_true rfl) rfl (fun x F hnL hRm hmn ht e1 e2 e3 e4 => ?_)
  have hno : ∀ pc, xNo x pc := fun pc z hz => by rw [ht.1 rfl] at hz; cases hz
  unfold fX3_field
  refine xr_aload_n 0 (r := (some a0)) F dX3_field_0 rfl ?_
  refine xr_iconst (0 : Int32) F dX3_field_1 rfl ?_
  refine xr_put (r := (some a0)) (ref := "ReserveLedgerModel") F dX3_field_2 xk_39 (by decide) (Or.inl q3394) (Or.inl rfl) (Or.inl rfl) ⟨rfl, rfl⟩ ?_
  refine xr_aload_n 0 (r := (some a0)) F dX3_field_5 rfl ?_
  refine xr_iload_n 1 F dX3_field_6 rfl ?_
  refine xr_VI (y := yX3_noSpecies) (As := [.int p0]) (r := (some a0)) F (hno _) dX3_field_7 (fun z => fX3_noSpecies_m (xFG F) z p0) (Or.inl rfl) (ci := 39) (C := RX3) (T := TX3) rfl q3688 q3685 q3687 qs87 (xroom hRm (Nat.le_of_ble_eq_true rfl) (Nat.le_of_ble_eq_true rfl)) ⟨by decide, by decide⟩ n_X3_noSpecies rfl (xcat (Nat.le_of_ble_eq_true rfl)) (fun v7 => ?_)
  refine xr_if_ne 38 F dX3_field_10 rfl ?_ ?_
  · refine xr_aload_n 0 (r := (some a0)) F dX3_field_13 rfl ?_
    refine xr_iload_n 2 F dX3_field_14 rfl ?_
    refine xr_i2l F dX3_field_15 ?_
    refine xr_lconst 0 F dX3_field_16 rfl ?_
    refine xr_ldc2 F dX3_field_17 q3689 ?_
    refine xr_SI (y := yX3_in) (As := [.long p1.toInt64, .long (0 : Int64), .long (9 : Int64)]) F (hno _) dX3_field_20 (fX3_in_m (xFG F) p1.toInt64 (0 : Int64) (9 : Int64)) (Or.inl rfl) q3544 q144 (Or.inl q3542) q3543 (xroom hRm (Nat.le_of_ble_eq_true rfl) (Nat.le_of_ble_eq_true rfl)) ⟨by decide, by decide⟩ n_X3_in rfl (xcat (Nat.le_of_ble_eq_true rfl)) (fun v20 => ?_)
    refine xr_if_ne 30 F dX3_field_23 rfl ?_ ?_
    · refine xr_iconst (1 : Int32) F dX3_field_26 rfl ?_
      refine xr_goto 31 F dX3_field_27 rfl ?_
      exact xI.sub [0, 1, 2] rfl (fX3_field_p31_ok F hnL hRm hno hmn a0 p0 p1 (1 : Int32) a0)
    · refine xr_iconst (0 : Int32) F dX3_field_30 rfl ?_
      exact xI.sub [0, 1, 2] rfl (fX3_field_p31_ok F hnL hRm hno hmn a0 p0 p1 (0 : Int32) a0)
  · refine xr_iconst (0 : Int32) F dX3_field_38 rfl ?_
    exact xr_iret F dX3_field_39
theorem fX3_noAge_p36_ok {x : xC} (F : xF x RX3 cX3_noAge (some .boolean)) (hnL : xnL x = 3) (hRm : ∃ dc ds, x.2.2.2.1 = { frames := 4, cells := dc, slots := ds, locals := 76 }) (hno : ∀ pc, xNo x pc) (hmn : xmn x = "noAge" ∧ xmy x yX3_noAge)  : xI x xeI 36 [] [] (fX3_noAge_p36 ) := by
  unfold fX3_noAge_p36
  refine xr_iconst (1 : Int32) F dX3_noAge_36 rfl ?_
  refine xr_goto 41 F dX3_noAge_37 rfl ?_
  exact xr_zret F dX3_noAge_41 rfl
theorem fX3_noAge_p29_ok {x : xC} (F : xF x RX3 cX3_noAge (some .boolean)) (hnL : xnL x = 3) (hRm : ∃ dc ds, x.2.2.2.1 = { frames := 4, cells := dc, slots := ds, locals := 76 }) (hno : ∀ pc, xNo x pc) (hmn : xmn x = "noAge" ∧ xmy x yX3_noAge) (s0 : Int32) (s1 : Nat) : xI x xeI 29 [] [.int s0, va_rf (some s1)] (fX3_noAge_p29 s0 s1) := by
  unfold fX3_noAge_p29
  refine xr_iconst (1 : Int32) F dX3_noAge_29 rfl ?_
  refine xr_VI (y := yX3_throwsIf) (As := [.int s0, .int (1 : Int32)]) (r := (some s1)) F (hno _) dX3_noAge_30 (fun z => fX3_throwsIf_m (xFG F) z s0 (1 : Int32)) (Or.inl rfl) (ci := 39) (C := RX3) (T := TX3) rfl q3634 q3631 q3633 qs79 (xroom hRm (Nat.le_of_ble_eq_true rfl) (Nat.le_of_ble_eq_true rfl)) ⟨by decide, by decide⟩ n_X3_throwsIf rfl (xcat (Nat.le_of_ble_eq_true rfl)) (fun v30 => ?_)
  refine xr_if_eq 40 F dX3_noAge_33 rfl ?_ ?_
  · refine xr_iconst (0 : Int32) F dX3_noAge_40 rfl ?_
    exact xr_zret F dX3_noAge_41 rfl
  · exact xI.sub [] rfl (fX3_noAge_p36_ok F hnL hRm hno hmn)
theorem fX3_noAge_m {l : Launch} {D : xD} {s0 : State} {b0 : Nat} {Γ : Nat → Option Nat} (G : xG l D s0 b0 Γ) (a0 : Nat) (p0 : Int32) (p1 : Int32) : xMeth l D s0 Γ yX3_noAge (Cond.code yX3_noAge cX3_noAge 3 (some .boolean)) (4) (76) [.ref a0, .int p0, .int p1] xeI (fX3_noAge a0 p0 p1) := by
  refine xMeth.of (lv0 := [(0, va_rf (some a0)), (1, .int p0), (2, .int p1)]) G (by decide +kernel) (Or.inl rfl) (Nat.le_of_ble_eq_true rfl) rfl (fun x F hnL hRm hmn ht e1 e2 e3 e4 => ?_)
  have hno : ∀ pc, xNo x pc := fun pc z hz => by rw [ht.1 rfl] at hz; cases hz
  unfold fX3_noAge
  refine xr_aload_n 0 (r := (some a0)) F dX3_noAge_0 rfl ?_
  refine xr_iload_n 1 F dX3_noAge_1 rfl ?_
  refine xr_VI (y := yX3_noSpecies) (As := [.int p0]) (r := (some a0)) F (hno _) dX3_noAge_2 (fun z => fX3_noSpecies_m (xFG F) z p0) (Or.inl rfl) (ci := 39) (C := RX3) (T := TX3) rfl q3688 q3685 q3687 qs87 (xroom hRm (Nat.le_of_ble_eq_true rfl) (Nat.le_of_ble_eq_true rfl)) ⟨by decide, by decide⟩ n_X3_noSpecies rfl (xcat (Nat.le_of_ble_eq_true rfl)) (fun v2 => ?_)
  refine xr_if_ne 36 F dX3_noAge_5 rfl ?_ ?_
  · refine xr_aload_n 0 (r := (some a0)) F dX3_noAge_8 rfl ?_
    refine xr_iload_n 2 F dX3_noAge_9 rfl ?_
    refine xr_i2l F dX3_noAge_10 ?_
    refine xr_lconst 0 F dX3_noAge_11 rfl ?_
    refine xr_aload_n 0 (r := (some a0)) F dX3_noAge_12 rfl ?_
    refine xr_iload_n 1 F dX3_noAge_13 rfl ?_
    refine xr_VI (y := yX3_oldest) (As := [.int p0]) (r := (some a0)) F (hno _) dX3_noAge_14 (fun z => fX3_oldest_m (xFG F) z p0) (Or.inl rfl) (ci := 39) (C := RX3) (T := TX3) rfl q3583 q3580 q3582 qs68 (xroom hRm (Nat.le_of_ble_eq_true rfl) (Nat.le_of_ble_eq_true rfl)) ⟨by decide, by decide⟩ n_X3_oldest rfl (xcat (Nat.le_of_ble_eq_true rfl)) (fun v14 => ?_)
    refine xr_i2l F dX3_noAge_17 ?_
    refine xr_SI (y := yX3_in) (As := [.long p1.toInt64, .long (0 : Int64), .long v14.toInt64]) F (hno _) dX3_noAge_18 (fX3_in_m (xFG F) p1.toInt64 (0 : Int64) v14.toInt64) (Or.inl rfl) q3544 q144 (Or.inl q3542) q3543 (xroom hRm (Nat.le_of_ble_eq_true rfl) (Nat.le_of_ble_eq_true rfl)) ⟨by decide, by decide⟩ n_X3_in rfl (xcat (Nat.le_of_ble_eq_true rfl)) (fun v18 => ?_)
    refine xr_if_ne 28 F dX3_noAge_21 rfl ?_ ?_
    · refine xr_iconst (1 : Int32) F dX3_noAge_24 rfl ?_
      refine xr_goto 29 F dX3_noAge_25 rfl ?_
      exact xI.sub [] rfl (fX3_noAge_p29_ok F hnL hRm hno hmn (1 : Int32) a0)
    · refine xr_iconst (0 : Int32) F dX3_noAge_28 rfl ?_
      exact xI.sub [] rfl (fX3_noAge_p29_ok F hnL hRm hno hmn (0 : Int32) a0)
  · exact xI.sub [] rfl (fX3_noAge_p36_ok F hnL hRm hno hmn)
theorem fX3_survival_m {l : Launch} {D : xD} {s0 : State} {b0 : Nat} {Γ : Nat → Option Nat} (G : xG l D s0 b0 Γ) (a0 : Nat) (p0 : Int32) (p1 : Int32) : xMeth l D s0 Γ yX3_survival (Cond.code yX3_survival cX3_survival 3 (some .int)) (5) (98) [.ref a0, .int p0, .int p1] xeI (fX3_survival a0 p0 p1) := by
  refine xMeth.of (lv0 := [(0, va_rf (some a0)), (1, .int p0), (2, .int p1)]) G (by decide +kernel) (Or.inl rfl) (Nat.le_of_ble_eq_true rfl) rfl (fun x F hnL hRm hmn ht e1 e2 e3 e4 => ?_)
  have hno : ∀ pc, xNo x pc := fun pc z hz => by rw [ht.1 rfl] at hz; cases hz
  unfold fX3_survival
  refine xr_aload_n 0 (r := (some a0)) F dX3_survival_0 rfl ?_
  refine xr_iconst (0 : Int32) F dX3_survival_1 rfl ?_
  refine xr_put (r := (some a0)) (ref := "ReserveLedgerModel") F dX3_survival_2 xk_39 (by decide) (Or.inl q3394) (Or.inl rfl) (Or.inl rfl) ⟨rfl, rfl⟩ ?_
  refine xr_aload_n 0 (r := (some a0)) F dX3_survival_5 rfl ?_
  refine xr_iload_n 1 F dX3_survival_6 rfl ?_
  refine xr_iload_n 2 F dX3_survival_7 rfl ?_
  refine xr_VI (y := yX3_noAge) (As := [.int p0, .int p1]) (r := (some a0)) F (hno _) dX3_survival_8 (fun z => fX3_noAge_m (xFG F) z p0 p1) (Or.inl rfl) (ci := 39) (C := RX3) (T := TX3) rfl q3702 q3699 q3701 qs89 (xroom hRm (Nat.le_of_ble_eq_true rfl) (Nat.le_of_ble_eq_true rfl)) ⟨by decide, by decide⟩ n_X3_noAge rfl (xcat (Nat.le_of_ble_eq_true rfl)) (fun v8 => ?_)
  refine xr_if_eq 18 F dX3_survival_11 rfl ?_ ?_
  · refine xr_aload_n 0 (r := (some a0)) F dX3_survival_18 rfl ?_
    refine xr_iload_n 1 F dX3_survival_19 rfl ?_
    refine xr_bipush (13 : Int32) F dX3_survival_20 rfl ?_
    refine xr_iload_n 2 F dX3_survival_22 rfl ?_
    refine xr_iadd F dX3_survival_23 ?_
    refine xr_VI (y := yX3_of) (As := [.int p0, .int ((13 : Int32) + p1)]) (r := (some a0)) F (hno _) dX3_survival_24 (fun z => fX3_of_m (xFG F) z p0 ((13 : Int32) + p1)) (Or.inl rfl) (ci := 39) (C := RX3) (T := TX3) rfl q3562 q3559 q3561 qs65 (xroom hRm (Nat.le_of_ble_eq_true rfl) (Nat.le_of_ble_eq_true rfl)) ⟨by decide, by decide⟩ n_X3_of rfl (xcat (Nat.le_of_ble_eq_true rfl)) (fun v24 => ?_)
    exact xr_iret F dX3_survival_27
  · refine xr_iconst (0 : Int32) F dX3_survival_14 rfl ?_
    refine xr_goto 27 F dX3_survival_15 rfl ?_
    exact xr_iret F dX3_survival_27
theorem fX3_fecundity_m {l : Launch} {D : xD} {s0 : State} {b0 : Nat} {Γ : Nat → Option Nat} (G : xG l D s0 b0 Γ) (a0 : Nat) (p0 : Int32) (p1 : Int32) : xMeth l D s0 Γ yX3_fecundity (Cond.code yX3_fecundity cX3_fecundity 3 (some .int)) (5) (98) [.ref a0, .int p0, .int p1] xeI (fX3_fecundity a0 p0 p1) := by
  refine xMeth.of (lv0 := [(0, va_rf (some a0)), (1, .int p0), (2, .int p1)]) G (by decide +kernel) (Or.inl rfl) (Nat.le_of_ble_eq_true rfl) rfl (fun x F hnL hRm hmn ht e1 e2 e3 e4 => ?_)
  have hno : ∀ pc, xNo x pc := fun pc z hz => by rw [ht.1 rfl] at hz; cases hz
  unfold fX3_fecundity
  refine xr_aload_n 0 (r := (some a0)) F dX3_fecundity_0 rfl ?_
  refine xr_iconst (0 : Int32) F dX3_fecundity_1 rfl ?_
  refine xr_put (r := (some a0)) (ref := "ReserveLedgerModel") F dX3_fecundity_2 xk_39 (by decide) (Or.inl q3394) (Or.inl rfl) (Or.inl rfl) ⟨rfl, rfl⟩ ?_
  refine xr_aload_n 0 (r := (some a0)) F dX3_fecundity_5 rfl ?_
  refine xr_iload_n 1 F dX3_fecundity_6 rfl ?_
  refine xr_iload_n 2 F dX3_fecundity_7 rfl ?_
  refine xr_VI (y := yX3_noAge) (As := [.int p0, .int p1]) (r := (some a0)) F (hno _) dX3_fecundity_8 (fun z => fX3_noAge_m (xFG F) z p0 p1) (Or.inl rfl) (ci := 39) (C := RX3) (T := TX3) rfl q3702 q3699 q3701 qs89 (xroom hRm (Nat.le_of_ble_eq_true rfl) (Nat.le_of_ble_eq_true rfl)) ⟨by decide, by decide⟩ n_X3_noAge rfl (xcat (Nat.le_of_ble_eq_true rfl)) (fun v8 => ?_)
  refine xr_if_eq 18 F dX3_fecundity_11 rfl ?_ ?_
  · refine xr_aload_n 0 (r := (some a0)) F dX3_fecundity_18 rfl ?_
    refine xr_iload_n 1 F dX3_fecundity_19 rfl ?_
    refine xr_bipush (26 : Int32) F dX3_fecundity_20 rfl ?_
    refine xr_iload_n 2 F dX3_fecundity_22 rfl ?_
    refine xr_iadd F dX3_fecundity_23 ?_
    refine xr_VI (y := yX3_of) (As := [.int p0, .int ((26 : Int32) + p1)]) (r := (some a0)) F (hno _) dX3_fecundity_24 (fun z => fX3_of_m (xFG F) z p0 ((26 : Int32) + p1)) (Or.inl rfl) (ci := 39) (C := RX3) (T := TX3) rfl q3562 q3559 q3561 qs65 (xroom hRm (Nat.le_of_ble_eq_true rfl) (Nat.le_of_ble_eq_true rfl)) ⟨by decide, by decide⟩ n_X3_of rfl (xcat (Nat.le_of_ble_eq_true rfl)) (fun v24 => ?_)
    exact xr_iret F dX3_fecundity_27
  · refine xr_iconst (0 : Int32) F dX3_fecundity_14 rfl ?_
    refine xr_goto 27 F dX3_fecundity_15 rfl ?_
    exact xr_iret F dX3_fecundity_27
theorem fX3_cohort_m {l : Launch} {D : xD} {s0 : State} {b0 : Nat} {Γ : Nat → Option Nat} (G : xG l D s0 b0 Γ) (a0 : Nat) (p0 : Int32) (p1 : Int32) : xMeth l D s0 Γ yX3_cohort (Cond.code yX3_cohort cX3_cohort 3 (some .int)) (5) (98) [.ref a0, .int p0, .int p1] xeI (fX3_cohort a0 p0 p1) := by
  refine xMeth.of (lv0 := [(0, va_rf (some a0)), (1, .int p0), (2, .int p1)]) G (by decide +kernel) (Or.inl rfl) (Nat.le_of_ble_eq_true rfl) rfl (fun x F hnL hRm hmn ht e1 e2 e3 e4 => ?_)
  have hno : ∀ pc, xNo x pc := fun pc z hz => by rw [ht.1 rfl] at hz; cases hz
  unfold fX3_cohort
  refine xr_aload_n 0 (r := (some a0)) F dX3_cohort_0 rfl ?_
  refine xr_iconst (0 : Int32) F dX3_cohort_1 rfl ?_
  refine xr_put (r := (some a0)) (ref := "ReserveLedgerModel") F dX3_cohort_2 xk_39 (by decide) (Or.inl q3394) (Or.inl rfl) (Or.inl rfl) ⟨rfl, rfl⟩ ?_
  refine xr_aload_n 0 (r := (some a0)) F dX3_cohort_5 rfl ?_
  refine xr_iload_n 1 F dX3_cohort_6 rfl ?_
  refine xr_iload_n 2 F dX3_cohort_7 rfl ?_
  refine xr_VI (y := yX3_noAge) (As := [.int p0, .int p1]) (r := (some a0)) F (hno _) dX3_cohort_8 (fun z => fX3_noAge_m (xFG F) z p0 p1) (Or.inl rfl) (ci := 39) (C := RX3) (T := TX3) rfl q3702 q3699 q3701 qs89 (xroom hRm (Nat.le_of_ble_eq_true rfl) (Nat.le_of_ble_eq_true rfl)) ⟨by decide, by decide⟩ n_X3_noAge rfl (xcat (Nat.le_of_ble_eq_true rfl)) (fun v8 => ?_)
  refine xr_if_eq 18 F dX3_cohort_11 rfl ?_ ?_
  · refine xr_aload_n 0 (r := (some a0)) F dX3_cohort_18 rfl ?_
    refine xr_iload_n 1 F dX3_cohort_19 rfl ?_
    refine xr_iload_n 2 F dX3_cohort_20 rfl ?_
    refine xr_VI (y := yX3_cohortOf) (As := [.int p0, .int p1]) (r := (some a0)) F (hno _) dX3_cohort_21 (fun z => fX3_cohortOf_m (xFG F) z p0 p1) (Or.inl rfl) (ci := 39) (C := RX3) (T := TX3) rfl q3650 q3647 q3649 qs83 (xroom hRm (Nat.le_of_ble_eq_true rfl) (Nat.le_of_ble_eq_true rfl)) ⟨by decide, by decide⟩ n_X3_cohortOf rfl (xcat (Nat.le_of_ble_eq_true rfl)) (fun v21 => ?_)
    exact xr_iret F dX3_cohort_24
  · refine xr_iconst (0 : Int32) F dX3_cohort_14 rfl ?_
    refine xr_goto 24 F dX3_cohort_15 rfl ?_
    exact xr_iret F dX3_cohort_24
theorem fX3_aliveOf_p7_ok {x : xC} (F : xF x RX3 cX3_aliveOf (some .int)) (hnL : xnL x = 5) (hRm : ∃ dc ds, x.2.2.2.1 = { frames := 3, cells := dc, slots := ds, locals := 55 }) (hno : ∀ pc, xNo x pc) (hmn : xmn x = "aliveOf" ∧ xmy x yX3_aliveOf) : ∀ (n : Nat) (l0 : Nat) (l1 : Int32) (l2 : Int32) (l3 : Int32) (l4 : Int32), xI x xeI 7 [(0, va_rf (some l0)), (1, .int l1), (2, .int l2), (3, .int l3), (4, .int l4)] [] (fX3_aliveOf_p7 n l0 l1 l2 l3 l4) := by
  intro n
  induction n with
  | zero => intro l0 l1 l2 l3 l4; exact xI.stuck
  | succ n ih =>
    intro l0 l1 l2 l3 l4
    unfold fX3_aliveOf_p7
    refine xr_iload 4 F dX3_aliveOf_7 rfl ?_
    refine xr_iload_n 2 F dX3_aliveOf_9 rfl ?_
    refine xr_icmp_ge 39 F dX3_aliveOf_10 rfl ?_ ?_
    · refine xr_iload_n 3 F dX3_aliveOf_39 rfl ?_
      exact xr_iret F dX3_aliveOf_40
    · refine xr_iload_n 3 F dX3_aliveOf_13 rfl ?_
      refine xr_i2l F dX3_aliveOf_14 ?_
      refine xr_aload_n 0 (r := (some l0)) F dX3_aliveOf_15 rfl ?_
      refine xr_iload_n 1 F dX3_aliveOf_16 rfl ?_
      refine xr_bipush (13 : Int32) F dX3_aliveOf_17 rfl ?_
      refine xr_iload 4 F dX3_aliveOf_19 rfl ?_
      refine xr_iadd F dX3_aliveOf_21 ?_
      refine xr_VI (y := yX3_of) (As := [.int l1, .int ((13 : Int32) + l4)]) (r := (some l0)) F (hno _) dX3_aliveOf_22 (fun z => fX3_of_m (xFG F) z l1 ((13 : Int32) + l4)) (Or.inl rfl) (ci := 39) (C := RX3) (T := TX3) rfl q3562 q3559 q3561 qs65 (xroom hRm (Nat.le_of_ble_eq_true rfl) (Nat.le_of_ble_eq_true rfl)) ⟨by decide, by decide⟩ n_X3_of rfl (xcat (Nat.le_of_ble_eq_true rfl)) (fun v22 => ?_)
      refine xr_i2l F dX3_aliveOf_25 ?_
      refine xr_lmul F dX3_aliveOf_26 ?_
      refine xr_ldc2 F dX3_aliveOf_27 q3720 ?_
      refine xr_ldiv F dX3_aliveOf_30 ?_
      refine xr_l2i F dX3_aliveOf_31 ?_
      refine xr_letI (fun x3_32 => ?_)
      refine xs_i_n [0, 1, 2, 4] F dX3_aliveOf_32 hnL rfl rfl (xk1 rfl rfl (xk1 rfl rfl (xk2 rfl rfl (xk1 rfl rfl xk0)))) ?_
      refine xs_inc [4, 0, 1, 2, 3] F dX3_aliveOf_33 rfl hnL rfl rfl (xk2 rfl rfl (xk1 rfl rfl (xk1 rfl rfl (xk1 rfl rfl xk0)))) (fun x4_33 => ?_)
      refine xr_goto 7 F dX3_aliveOf_36 rfl ?_
      exact xI.sub [2, 3, 4, 1, 0] rfl (ih l0 l1 l2 x3_32 x4_33)
theorem fX3_aliveOf_m {l : Launch} {D : xD} {s0 : State} {b0 : Nat} {Γ : Nat → Option Nat} (G : xG l D s0 b0 Γ) (a0 : Nat) (p0 : Int32) (p1 : Int32) : xMeth l D s0 Γ yX3_aliveOf (Cond.code yX3_aliveOf cX3_aliveOf 5 (some .int)) (3) (55) [.ref a0, .int p0, .int p1] xeI (fX3_aliveOf a0 p0 p1) := by
  refine xMeth.of (lv0 := [(0, va_rf (some a0)), (1, .int p0), (2, .int p1)]) G (by decide +kernel) (Or.inl rfl) (Nat.le_of_ble_eq_true rfl) rfl (fun x F hnL hRm hmn ht e1 e2 e3 e4 => ?_)
  have hno : ∀ pc, xNo x pc := fun pc z hz => by rw [ht.1 rfl] at hz; cases hz
  unfold fX3_aliveOf
  refine xr_ldcw F dX3_aliveOf_0 q3719 ?_
  refine xr_letI (fun x3_3 => ?_)
  refine xs_i_n [0, 1, 2] F dX3_aliveOf_3 hnL rfl rfl (xk1 rfl rfl (xk1 rfl rfl (xk2 rfl rfl xk0))) ?_
  refine xr_iconst (0 : Int32) F dX3_aliveOf_4 rfl ?_
  refine xr_letI (fun x4_5 => ?_)
  refine xs_i [0, 1, 2, 3] F dX3_aliveOf_5 hnL rfl rfl (xk2 rfl rfl (xk1 rfl rfl (xk1 rfl rfl (xk1 rfl rfl xk0)))) ?_
  exact xI.sub [2, 3, 4, 1, 0] rfl (fX3_aliveOf_p7_ok F hnL hRm hno hmn xFU a0 p0 p1 x3_3 x4_5)
theorem fX3_alive_m {l : Launch} {D : xD} {s0 : State} {b0 : Nat} {Γ : Nat → Option Nat} (G : xG l D s0 b0 Γ) (a0 : Nat) (p0 : Int32) (p1 : Int32) : xMeth l D s0 Γ yX3_alive (Cond.code yX3_alive cX3_alive 3 (some .int)) (5) (98) [.ref a0, .int p0, .int p1] xeI (fX3_alive a0 p0 p1) := by
  refine xMeth.of (lv0 := [(0, va_rf (some a0)), (1, .int p0), (2, .int p1)]) G (by decide +kernel) (Or.inl rfl) (Nat.le_of_ble_eq_true rfl) rfl (fun x F hnL hRm hmn ht e1 e2 e3 e4 => ?_)
  have hno : ∀ pc, xNo x pc := fun pc z hz => by rw [ht.1 rfl] at hz; cases hz
  unfold fX3_alive
  refine xr_aload_n 0 (r := (some a0)) F dX3_alive_0 rfl ?_
  refine xr_iconst (0 : Int32) F dX3_alive_1 rfl ?_
  refine xr_put (r := (some a0)) (ref := "ReserveLedgerModel") F dX3_alive_2 xk_39 (by decide) (Or.inl q3394) (Or.inl rfl) (Or.inl rfl) ⟨rfl, rfl⟩ ?_
  refine xr_aload_n 0 (r := (some a0)) F dX3_alive_5 rfl ?_
  refine xr_iload_n 1 F dX3_alive_6 rfl ?_
  refine xr_iload_n 2 F dX3_alive_7 rfl ?_
  refine xr_VI (y := yX3_noAge) (As := [.int p0, .int p1]) (r := (some a0)) F (hno _) dX3_alive_8 (fun z => fX3_noAge_m (xFG F) z p0 p1) (Or.inl rfl) (ci := 39) (C := RX3) (T := TX3) rfl q3702 q3699 q3701 qs89 (xroom hRm (Nat.le_of_ble_eq_true rfl) (Nat.le_of_ble_eq_true rfl)) ⟨by decide, by decide⟩ n_X3_noAge rfl (xcat (Nat.le_of_ble_eq_true rfl)) (fun v8 => ?_)
  refine xr_if_eq 18 F dX3_alive_11 rfl ?_ ?_
  · refine xr_aload_n 0 (r := (some a0)) F dX3_alive_18 rfl ?_
    refine xr_iload_n 1 F dX3_alive_19 rfl ?_
    refine xr_iload_n 2 F dX3_alive_20 rfl ?_
    refine xr_VI (y := yX3_aliveOf) (As := [.int p0, .int p1]) (r := (some a0)) F (hno _) dX3_alive_21 (fun z => fX3_aliveOf_m (xFG F) z p0 p1) (Or.inl rfl) (ci := 39) (C := RX3) (T := TX3) rfl q3718 q3715 q3717 qs90 (xroom hRm (Nat.le_of_ble_eq_true rfl) (Nat.le_of_ble_eq_true rfl)) ⟨by decide, by decide⟩ n_X3_aliveOf rfl (xcat (Nat.le_of_ble_eq_true rfl)) (fun v21 => ?_)
    exact xr_iret F dX3_alive_24
  · refine xr_iconst (0 : Int32) F dX3_alive_14 rfl ?_
    refine xr_goto 24 F dX3_alive_15 rfl ?_
    exact xr_iret F dX3_alive_24
theorem fX3_dying_p43_ok {x : xC} (F : xF x RX3 cX3_dying (some .int)) (hnL : xnL x = 3) (hRm : ∃ dc ds, x.2.2.2.1 = { frames := 5, cells := dc, slots := ds, locals := 98 }) (hno : ∀ pc, xNo x pc) (hmn : xmn x = "dying" ∧ xmy x yX3_dying) (s0 : Int32) (s1 : Int32) : xI x xeI 43 [] [.int s0, .int s1] (fX3_dying_p43 s0 s1) := by
  unfold fX3_dying_p43
  refine xr_isub F dX3_dying_43 ?_
  exact xr_iret F dX3_dying_44
theorem fX3_dying_m {l : Launch} {D : xD} {s0 : State} {b0 : Nat} {Γ : Nat → Option Nat} (G : xG l D s0 b0 Γ) (a0 : Nat) (p0 : Int32) (p1 : Int32) : xMeth l D s0 Γ yX3_dying (Cond.code yX3_dying cX3_dying 3 (some .int)) (5) (98) [.ref a0, .int p0, .int p1] xeI (fX3_dying a0 p0 p1) := by
  refine xMeth.of (lv0 := [(0, va_rf (some a0)), (1, .int p0), (2, .int p1)]) G (by decide +kernel) (Or.inl rfl) (Nat.le_of_ble_eq_true rfl) rfl (fun x F hnL hRm hmn ht e1 e2 e3 e4 => ?_)
  have hno : ∀ pc, xNo x pc := fun pc z hz => by rw [ht.1 rfl] at hz; cases hz
  unfold fX3_dying
  refine xr_aload_n 0 (r := (some a0)) F dX3_dying_0 rfl ?_
  refine xr_iconst (0 : Int32) F dX3_dying_1 rfl ?_
  refine xr_put (r := (some a0)) (ref := "ReserveLedgerModel") F dX3_dying_2 xk_39 (by decide) (Or.inl q3394) (Or.inl rfl) (Or.inl rfl) ⟨rfl, rfl⟩ ?_
  refine xr_aload_n 0 (r := (some a0)) F dX3_dying_5 rfl ?_
  refine xr_iload_n 1 F dX3_dying_6 rfl ?_
  refine xr_iload_n 2 F dX3_dying_7 rfl ?_
  refine xr_VI (y := yX3_noAge) (As := [.int p0, .int p1]) (r := (some a0)) F (hno _) dX3_dying_8 (fun z => fX3_noAge_m (xFG F) z p0 p1) (Or.inl rfl) (ci := 39) (C := RX3) (T := TX3) rfl q3702 q3699 q3701 qs89 (xroom hRm (Nat.le_of_ble_eq_true rfl) (Nat.le_of_ble_eq_true rfl)) ⟨by decide, by decide⟩ n_X3_noAge rfl (xcat (Nat.le_of_ble_eq_true rfl)) (fun v8 => ?_)
  refine xr_if_eq 16 F dX3_dying_11 rfl ?_ ?_
  · refine xr_aload_n 0 (r := (some a0)) F dX3_dying_16 rfl ?_
    refine xr_iload_n 1 F dX3_dying_17 rfl ?_
    refine xr_iload_n 2 F dX3_dying_18 rfl ?_
    refine xr_VI (y := yX3_aliveOf) (As := [.int p0, .int p1]) (r := (some a0)) F (hno _) dX3_dying_19 (fun z => fX3_aliveOf_m (xFG F) z p0 p1) (Or.inl rfl) (ci := 39) (C := RX3) (T := TX3) rfl q3718 q3715 q3717 qs90 (xroom hRm (Nat.le_of_ble_eq_true rfl) (Nat.le_of_ble_eq_true rfl)) ⟨by decide, by decide⟩ n_X3_aliveOf rfl (xcat (Nat.le_of_ble_eq_true rfl)) (fun v19 => ?_)
    refine xr_iload_n 2 F dX3_dying_22 rfl ?_
    refine xr_aload_n 0 (r := (some a0)) F dX3_dying_23 rfl ?_
    refine xr_iload_n 1 F dX3_dying_24 rfl ?_
    refine xr_VI (y := yX3_oldest) (As := [.int p0]) (r := (some a0)) F (hno _) dX3_dying_25 (fun z => fX3_oldest_m (xFG F) z p0) (Or.inl rfl) (ci := 39) (C := RX3) (T := TX3) rfl q3583 q3580 q3582 qs68 (xroom hRm (Nat.le_of_ble_eq_true rfl) (Nat.le_of_ble_eq_true rfl)) ⟨by decide, by decide⟩ n_X3_oldest rfl (xcat (Nat.le_of_ble_eq_true rfl)) (fun v25 => ?_)
    refine xr_icmp_ne 35 F dX3_dying_28 rfl ?_ ?_
    · refine xr_iconst (0 : Int32) F dX3_dying_31 rfl ?_
      refine xr_goto 43 F dX3_dying_32 rfl ?_
      exact xI.sub [] rfl (fX3_dying_p43_ok F hnL hRm hno hmn (0 : Int32) v19)
    · refine xr_aload_n 0 (r := (some a0)) F dX3_dying_35 rfl ?_
      refine xr_iload_n 1 F dX3_dying_36 rfl ?_
      refine xr_iload_n 2 F dX3_dying_37 rfl ?_
      refine xr_iconst (1 : Int32) F dX3_dying_38 rfl ?_
      refine xr_iadd F dX3_dying_39 ?_
      refine xr_VI (y := yX3_aliveOf) (As := [.int p0, .int (p1 + (1 : Int32))]) (r := (some a0)) F (hno _) dX3_dying_40 (fun z => fX3_aliveOf_m (xFG F) z p0 (p1 + (1 : Int32))) (Or.inl rfl) (ci := 39) (C := RX3) (T := TX3) rfl q3718 q3715 q3717 qs90 (xroom hRm (Nat.le_of_ble_eq_true rfl) (Nat.le_of_ble_eq_true rfl)) ⟨by decide, by decide⟩ n_X3_aliveOf rfl (xcat (Nat.le_of_ble_eq_true rfl)) (fun v40 => ?_)
      exact xI.sub [] rfl (fX3_dying_p43_ok F hnL hRm hno hmn v40 v19)
  · refine xr_iconst (0 : Int32) F dX3_dying_14 rfl ?_
    exact xr_iret F dX3_dying_15
theorem fX3_expectation_p23_ok {x : xC} (F : xF x RX3 cX3_expectation (some .double)) (hnL : xnL x = 5) (hRm : ∃ dc ds, x.2.2.2.1 = { frames := 5, cells := dc, slots := ds, locals := 98 }) (hno : ∀ pc, xNo x pc) (hmn : xmn x = "expectation" ∧ xmy x yX3_expectation)  : xI x xeD 23 [] [] (fX3_expectation_p23 ) := by
  unfold fX3_expectation_p23
  refine xr_dconst0 F dX3_expectation_23 ?_
  exact xr_dret F dX3_expectation_24
theorem fX3_expectation_p32_ok {x : xC} (F : xF x RX3 cX3_expectation (some .double)) (hnL : xnL x = 5) (hRm : ∃ dc ds, x.2.2.2.1 = { frames := 5, cells := dc, slots := ds, locals := 98 }) (hno : ∀ pc, xNo x pc) (hmn : xmn x = "expectation" ∧ xmy x yX3_expectation) : ∀ (n : Nat) (l0 : Nat) (l1 : Int32) (l2 : Int32) (l3 : Int32) (l4 : Int32), xI x xeD 32 [(0, va_rf (some l0)), (1, .int l1), (2, .int l2), (3, .int l3), (4, .int l4)] [] (fX3_expectation_p32 n l0 l1 l2 l3 l4) := by
  intro n
  induction n with
  | zero => intro l0 l1 l2 l3 l4; exact xI.stuck
  | succ n ih =>
    intro l0 l1 l2 l3 l4
    unfold fX3_expectation_p32
    refine xr_iload 4 F dX3_expectation_32 rfl ?_
    refine xr_aload_n 0 (r := (some l0)) F dX3_expectation_34 rfl ?_
    refine xr_iload_n 1 F dX3_expectation_35 rfl ?_
    refine xr_VI (y := yX3_oldest) (As := [.int l1]) (r := (some l0)) F (hno _) dX3_expectation_36 (fun z => fX3_oldest_m (xFG F) z l1) (Or.inl rfl) (ci := 39) (C := RX3) (T := TX3) rfl q3583 q3580 q3582 qs68 (xroom hRm (Nat.le_of_ble_eq_true rfl) (Nat.le_of_ble_eq_true rfl)) ⟨by decide, by decide⟩ n_X3_oldest rfl (xcat (Nat.le_of_ble_eq_true rfl)) (fun v36 => ?_)
    refine xr_icmp_gt 58 F dX3_expectation_39 rfl ?_ ?_
    · refine xr_iload_n 3 F dX3_expectation_58 rfl ?_
      refine xr_i2d F dX3_expectation_59 ?_
      refine xr_aload_n 0 (r := (some l0)) F dX3_expectation_60 rfl ?_
      refine xr_iload_n 1 F dX3_expectation_61 rfl ?_
      refine xr_iload_n 2 F dX3_expectation_62 rfl ?_
      refine xr_VI (y := yX3_aliveOf) (As := [.int l1, .int l2]) (r := (some l0)) F (hno _) dX3_expectation_63 (fun z => fX3_aliveOf_m (xFG F) z l1 l2) (Or.inl rfl) (ci := 39) (C := RX3) (T := TX3) rfl q3718 q3715 q3717 qs90 (xroom hRm (Nat.le_of_ble_eq_true rfl) (Nat.le_of_ble_eq_true rfl)) ⟨by decide, by decide⟩ n_X3_aliveOf rfl (xcat (Nat.le_of_ble_eq_true rfl)) (fun v63 => ?_)
      refine xr_i2d F dX3_expectation_66 ?_
      refine xr_ddiv F dX3_expectation_67 ?_
      refine xr_ldc2d F dX3_expectation_68 q3729 ?_
      refine xr_dadd F dX3_expectation_71 ?_
      exact xr_dret F dX3_expectation_72
    · refine xr_iload_n 3 F dX3_expectation_42 rfl ?_
      refine xr_aload_n 0 (r := (some l0)) F dX3_expectation_43 rfl ?_
      refine xr_iload_n 1 F dX3_expectation_44 rfl ?_
      refine xr_iload 4 F dX3_expectation_45 rfl ?_
      refine xr_VI (y := yX3_aliveOf) (As := [.int l1, .int l4]) (r := (some l0)) F (hno _) dX3_expectation_47 (fun z => fX3_aliveOf_m (xFG F) z l1 l4) (Or.inl rfl) (ci := 39) (C := RX3) (T := TX3) rfl q3718 q3715 q3717 qs90 (xroom hRm (Nat.le_of_ble_eq_true rfl) (Nat.le_of_ble_eq_true rfl)) ⟨by decide, by decide⟩ n_X3_aliveOf rfl (xcat (Nat.le_of_ble_eq_true rfl)) (fun v47 => ?_)
      refine xr_iadd F dX3_expectation_50 ?_
      refine xr_letI (fun x3_51 => ?_)
      refine xs_i_n [0, 1, 2, 4] F dX3_expectation_51 hnL rfl rfl (xk1 rfl rfl (xk1 rfl rfl (xk2 rfl rfl (xk1 rfl rfl xk0)))) ?_
      refine xs_inc [4, 0, 1, 2, 3] F dX3_expectation_52 rfl hnL rfl rfl (xk2 rfl rfl (xk1 rfl rfl (xk1 rfl rfl (xk1 rfl rfl xk0)))) (fun x4_52 => ?_)
      refine xr_goto 32 F dX3_expectation_55 rfl ?_
      exact xI.sub [2, 3, 4, 1, 0] rfl (ih l0 l1 l2 x3_51 x4_52)
theorem fX3_expectation_m {l : Launch} {D : xD} {s0 : State} {b0 : Nat} {Γ : Nat → Option Nat} (G : xG l D s0 b0 Γ) (a0 : Nat) (p0 : Int32) (p1 : Int32) : xMeth l D s0 Γ yX3_expectation (Cond.code yX3_expectation cX3_expectation 5 (some .double)) (5) (98) [.ref a0, .int p0, .int p1] xeD (fX3_expectation a0 p0 p1) := by
  refine xMeth.of (lv0 := [(0, va_rf (some a0)), (1, .int p0), (2, .int p1)]) G (by decide +kernel) (Or.inl rfl) (Nat.le_of_ble_eq_true rfl) rfl (fun x F hnL hRm hmn ht e1 e2 e3 e4 => ?_)
  have hno : ∀ pc, xNo x pc := fun pc z hz => by rw [ht.1 rfl] at hz; cases hz
  unfold fX3_expectation
  refine xr_aload_n 0 (r := (some a0)) F dX3_expectation_0 rfl ?_
  refine xr_iconst (0 : Int32) F dX3_expectation_1 rfl ?_
  refine xr_put (r := (some a0)) (ref := "ReserveLedgerModel") F dX3_expectation_2 xk_39 (by decide) (Or.inl q3394) (Or.inl rfl) (Or.inl rfl) ⟨rfl, rfl⟩ ?_
  refine xr_aload_n 0 (r := (some a0)) F dX3_expectation_5 rfl ?_
  refine xr_iload_n 1 F dX3_expectation_6 rfl ?_
  refine xr_iload_n 2 F dX3_expectation_7 rfl ?_
  refine xr_VI (y := yX3_noAge) (As := [.int p0, .int p1]) (r := (some a0)) F (hno _) dX3_expectation_8 (fun z => fX3_noAge_m (xFG F) z p0 p1) (Or.inl rfl) (ci := 39) (C := RX3) (T := TX3) rfl q3702 q3699 q3701 qs89 (xroom hRm (Nat.le_of_ble_eq_true rfl) (Nat.le_of_ble_eq_true rfl)) ⟨by decide, by decide⟩ n_X3_noAge rfl (xcat (Nat.le_of_ble_eq_true rfl)) (fun v8 => ?_)
  refine xr_if_ne 23 F dX3_expectation_11 rfl ?_ ?_
  · refine xr_aload_n 0 (r := (some a0)) F dX3_expectation_14 rfl ?_
    refine xr_iload_n 1 F dX3_expectation_15 rfl ?_
    refine xr_iload_n 2 F dX3_expectation_16 rfl ?_
    refine xr_VI (y := yX3_aliveOf) (As := [.int p0, .int p1]) (r := (some a0)) F (hno _) dX3_expectation_17 (fun z => fX3_aliveOf_m (xFG F) z p0 p1) (Or.inl rfl) (ci := 39) (C := RX3) (T := TX3) rfl q3718 q3715 q3717 qs90 (xroom hRm (Nat.le_of_ble_eq_true rfl) (Nat.le_of_ble_eq_true rfl)) ⟨by decide, by decide⟩ n_X3_aliveOf rfl (xcat (Nat.le_of_ble_eq_true rfl)) (fun v17 => ?_)
    refine xr_if_ne 25 F dX3_expectation_20 rfl ?_ ?_
    · exact xI.sub [] rfl (fX3_expectation_p23_ok F hnL hRm hno hmn)
    · refine xr_iconst (0 : Int32) F dX3_expectation_25 rfl ?_
      refine xr_letI (fun x3_26 => ?_)
      refine xs_i_n [0, 1, 2] F dX3_expectation_26 hnL rfl rfl (xk1 rfl rfl (xk1 rfl rfl (xk2 rfl rfl xk0))) ?_
      refine xr_iload_n 3 F dX3_expectation_27 rfl ?_
      refine xr_iconst (1 : Int32) F dX3_expectation_28 rfl ?_
      refine xr_iadd F dX3_expectation_29 ?_
      refine xr_letI (fun x4_30 => ?_)
      refine xs_i [0, 1, 2, 3] F dX3_expectation_30 hnL rfl rfl (xk2 rfl rfl (xk1 rfl rfl (xk1 rfl rfl (xk1 rfl rfl xk0)))) ?_
      exact xI.sub [2, 3, 4, 1, 0] rfl (fX3_expectation_p32_ok F hnL hRm hno hmn xFU a0 p0 p1 x3_26 x4_30)
  · exact xI.sub [] rfl (fX3_expectation_p23_ok F hnL hRm hno hmn)
