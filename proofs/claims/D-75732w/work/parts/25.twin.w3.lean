theorem fX3_bornOf_m {l : Launch} {D : xD} {s0 : State} {b0 : Nat} {Γ : Nat → Option Nat} (G : xG l D s0 b0 Γ) (a0 : Nat) (p0 : Int32) (p1 : Int32) : xMeth l D s0 Γ yX3_bornOf (Cond.code yX3_bornOf cX3_bornOf 3 (some .long)) (4) (79) [.ref a0, .int p0, .int p1] xeJ (fX3_bornOf a0 p0 p1) := by
  refine xMeth.of (lv0 := [(0, va_rf (some a0)), (1, .int p0), (2, .int p1)]) G (by decide +kernel) (Or.inl rfl) (Nat.le_of_ble_eq_true rfl) rfl (fun x F hnL hRm hmn ht e1 e2 e3 e4 => ?_)
  have hno : ∀ pc, xNo x pc := fun pc z hz => by rw [ht.1 rfl] at hz; cases hz
  unfold fX3_bornOf
  refine xr_aload_n 0 (r := (some a0)) F dX3_bornOf_0 rfl ?_
  refine xr_iload_n 1 F dX3_bornOf_1 rfl ?_
  refine xr_iload_n 2 F dX3_bornOf_2 rfl ?_
  refine xr_VI (y := yX3_aliveOf) (As := [.int p0, .int p1]) (r := (some a0)) F (hno _) dX3_bornOf_3 (fun z => fX3_aliveOf_m (xFG F) z p0 p1) (Or.inl rfl) (ci := 39) (C := RX3) (T := TX3) rfl q3718 q3715 q3717 qs90 (xroom hRm (Nat.le_of_ble_eq_true rfl) (Nat.le_of_ble_eq_true rfl)) ⟨by decide, by decide⟩ n_X3_aliveOf rfl (xcat (Nat.le_of_ble_eq_true rfl)) (fun v3 => ?_)
  refine xr_i2l F dX3_bornOf_6 ?_
  refine xr_aload_n 0 (r := (some a0)) F dX3_bornOf_7 rfl ?_
  refine xr_iload_n 1 F dX3_bornOf_8 rfl ?_
  refine xr_bipush (26 : Int32) F dX3_bornOf_9 rfl ?_
  refine xr_iload_n 2 F dX3_bornOf_11 rfl ?_
  refine xr_iadd F dX3_bornOf_12 ?_
  refine xr_VI (y := yX3_of) (As := [.int p0, .int ((26 : Int32) + p1)]) (r := (some a0)) F (hno _) dX3_bornOf_13 (fun z => fX3_of_m (xFG F) z p0 ((26 : Int32) + p1)) (Or.inl rfl) (ci := 39) (C := RX3) (T := TX3) rfl q3562 q3559 q3561 qs65 (xroom hRm (Nat.le_of_ble_eq_true rfl) (Nat.le_of_ble_eq_true rfl)) ⟨by decide, by decide⟩ n_X3_of rfl (xcat (Nat.le_of_ble_eq_true rfl)) (fun v13 => ?_)
  refine xr_i2l F dX3_bornOf_16 ?_
  refine xr_lmul F dX3_bornOf_17 ?_
  exact xr_lret F dX3_bornOf_18
theorem fX3_reproduction_p20_ok {x : xC} (F : xF x RX3 cX3_reproduction (some .double)) (hnL : xnL x = 5) (hRm : ∃ dc ds, x.2.2.2.1 = { frames := 5, cells := dc, slots := ds, locals := 101 }) (hno : ∀ pc, xNo x pc) (hmn : xmn x = "reproduction" ∧ xmy x yX3_reproduction) : ∀ (n : Nat) (l0 : Nat) (l1 : Int32) (l2 : Int64) (l4 : Int32), xI x xeD 20 [(0, va_rf (some l0)), (1, .int l1), (2, .long l2), (4, .int l4)] [] (fX3_reproduction_p20 n l0 l1 l2 l4) := by
  intro n
  induction n with
  | zero => intro l0 l1 l2 l4; exact xI.stuck
  | succ n ih =>
    intro l0 l1 l2 l4
    unfold fX3_reproduction_p20
    refine xr_iload 3 F dX3_reproduction_20 rfl ?_
    refine xr_aload_n 0 (r := (some l0)) F dX3_reproduction_22 rfl ?_
    refine xr_iload_n 1 F dX3_reproduction_23 rfl ?_
    refine xr_VI (y := yX3_oldest) (As := [.int l1]) (r := (some l0)) F (hno _) dX3_reproduction_24 (fun z => fX3_oldest_m (xFG F) z l1) (Or.inl rfl) (ci := 39) (C := RX3) (T := TX3) rfl q3583 q3580 q3582 qs68 (xroom hRm (Nat.le_of_ble_eq_true rfl) (Nat.le_of_ble_eq_true rfl)) ⟨by decide, by decide⟩ n_X3_oldest rfl (xcat (Nat.le_of_ble_eq_true rfl)) (fun v24 => ?_)
    refine xr_icmp_gt 46 F dX3_reproduction_27 rfl ?_ ?_
    · refine xr_lload_n 2 F dX3_reproduction_46 rfl ?_
      refine xr_l2d F dX3_reproduction_47 ?_
      refine xr_ldc2d F dX3_reproduction_48 q3738 ?_
      refine xr_ddiv F dX3_reproduction_51 ?_
      exact xr_dret F dX3_reproduction_52
    · refine xr_lload_n 2 F dX3_reproduction_30 rfl ?_
      refine xr_aload_n 0 (r := (some l0)) F dX3_reproduction_31 rfl ?_
      refine xr_iload_n 1 F dX3_reproduction_32 rfl ?_
      refine xr_iload 3 F dX3_reproduction_33 rfl ?_
      refine xr_VJ (y := yX3_bornOf) (As := [.int l1, .int l4]) (r := (some l0)) F (hno _) dX3_reproduction_35 (fun z => fX3_bornOf_m (xFG F) z l1 l4) (Or.inl rfl) (ci := 39) (C := RX3) (T := TX3) rfl q3737 q3734 q3736 qs91 (xroom hRm (Nat.le_of_ble_eq_true rfl) (Nat.le_of_ble_eq_true rfl)) ⟨by decide, by decide⟩ n_X3_bornOf rfl (xcat (Nat.le_of_ble_eq_true rfl)) (fun v35 => ?_)
      refine xr_ladd F dX3_reproduction_38 ?_
      refine xr_letJ (fun x2_39 => ?_)
      refine xs_l_n [0, 1, 3] F dX3_reproduction_39 hnL rfl rfl (xk1 rfl rfl (xk2 rfl rfl (xk1 rfl rfl xk0))) (xk21 rfl (xk21 rfl (xk21 rfl xk20))) ?_
      refine xs_inc [3, 0, 1, 2] F dX3_reproduction_40 rfl hnL rfl rfl (xk1 rfl rfl (xk1 rfl rfl (xk1 rfl rfl xk0))) (fun x4_40 => ?_)
      refine xr_goto 20 F dX3_reproduction_43 rfl ?_
      exact xI.sub [2, 3, 1, 0] rfl (ih l0 l1 x2_39 x4_40)
theorem fX3_reproduction_m {l : Launch} {D : xD} {s0 : State} {b0 : Nat} {Γ : Nat → Option Nat} (G : xG l D s0 b0 Γ) (a0 : Nat) (p0 : Int32) : xMeth l D s0 Γ yX3_reproduction (Cond.code yX3_reproduction cX3_reproduction 5 (some .double)) (5) (101) [.ref a0, .int p0] xeD (fX3_reproduction a0 p0) := by
  refine xMeth.of (lv0 := [(0, va_rf (some a0)), (1, .int p0)]) G (by decide +kernel) (Or.inl rfl) (Nat.le_of_ble_eq_true rfl) rfl (fun x F hnL hRm hmn ht e1 e2 e3 e4 => ?_)
  have hno : ∀ pc, xNo x pc := fun pc z hz => by rw [ht.1 rfl] at hz; cases hz
  unfold fX3_reproduction
  refine xr_aload_n 0 (r := (some a0)) F dX3_reproduction_0 rfl ?_
  refine xr_iconst (0 : Int32) F dX3_reproduction_1 rfl ?_
  refine xr_put (r := (some a0)) (ref := "ReserveLedgerModel") F dX3_reproduction_2 xk_39 (by decide) (Or.inl q3394) (Or.inl rfl) (Or.inl rfl) ⟨rfl, rfl⟩ ?_
  refine xr_aload_n 0 (r := (some a0)) F dX3_reproduction_5 rfl ?_
  refine xr_iload_n 1 F dX3_reproduction_6 rfl ?_
  refine xr_VI (y := yX3_noSpecies) (As := [.int p0]) (r := (some a0)) F (hno _) dX3_reproduction_7 (fun z => fX3_noSpecies_m (xFG F) z p0) (Or.inl rfl) (ci := 39) (C := RX3) (T := TX3) rfl q3688 q3685 q3687 qs87 (xroom hRm (Nat.le_of_ble_eq_true rfl) (Nat.le_of_ble_eq_true rfl)) ⟨by decide, by decide⟩ n_X3_noSpecies rfl (xcat (Nat.le_of_ble_eq_true rfl)) (fun v7 => ?_)
  refine xr_if_eq 15 F dX3_reproduction_10 rfl ?_ ?_
  · refine xr_lconst 0 F dX3_reproduction_15 rfl ?_
    refine xr_letJ (fun x2_16 => ?_)
    refine xs_l_n [0, 1] F dX3_reproduction_16 hnL rfl rfl (xk1 rfl rfl (xk2 rfl rfl xk0)) (xk21 rfl (xk21 rfl xk20)) ?_
    refine xr_iconst (0 : Int32) F dX3_reproduction_17 rfl ?_
    refine xr_letI (fun x4_18 => ?_)
    refine xs_i [0, 1, 2] F dX3_reproduction_18 hnL rfl rfl (xk1 rfl rfl (xk1 rfl rfl (xk1 rfl rfl xk0))) ?_
    exact xI.sub [2, 3, 1, 0] rfl (fX3_reproduction_p20_ok F hnL hRm hno hmn xFU a0 p0 x2_16 x4_18)
  · refine xr_dconst0 F dX3_reproduction_13 ?_
    exact xr_dret F dX3_reproduction_14
theorem fX3_generation_p23_ok {x : xC} (F : xF x RX3 cX3_generation (some .double)) (hnL : xnL x = 7) (hRm : ∃ dc ds, x.2.2.2.1 = { frames := 5, cells := dc, slots := ds, locals := 101 }) (hno : ∀ pc, xNo x pc) (hmn : xmn x = "generation" ∧ xmy x yX3_generation) : ∀ (n : Nat) (l0 : Nat) (l1 : Int32) (l2 : Int64) (l4 : Int64) (l6 : Int32), xI x xeD 23 [(0, va_rf (some l0)), (1, .int l1), (2, .long l2), (4, .long l4), (6, .int l6)] [] (fX3_generation_p23 n l0 l1 l2 l4 l6) := by
  intro n
  induction n with
  | zero => intro l0 l1 l2 l4 l6; exact xI.stuck
  | succ n ih =>
    intro l0 l1 l2 l4 l6
    unfold fX3_generation_p23
    refine xr_iload 4 F dX3_generation_23 rfl ?_
    refine xr_aload_n 0 (r := (some l0)) F dX3_generation_25 rfl ?_
    refine xr_iload_n 1 F dX3_generation_26 rfl ?_
    refine xr_VI (y := yX3_oldest) (As := [.int l1]) (r := (some l0)) F (hno _) dX3_generation_27 (fun z => fX3_oldest_m (xFG F) z l1) (Or.inl rfl) (ci := 39) (C := RX3) (T := TX3) rfl q3583 q3580 q3582 qs68 (xroom hRm (Nat.le_of_ble_eq_true rfl) (Nat.le_of_ble_eq_true rfl)) ⟨by decide, by decide⟩ n_X3_oldest rfl (xcat (Nat.le_of_ble_eq_true rfl)) (fun v27 => ?_)
    refine xr_icmp_gt 65 F dX3_generation_30 rfl ?_ ?_
    · refine xr_lload 3 F dX3_generation_65 rfl ?_
      refine xr_lconst 0 F dX3_generation_67 rfl ?_
      refine xr_lcmp F dX3_generation_68 ?_
      refine xr_if_ne 76 F dX3_generation_69 rfl ?_ ?_
      · refine xr_dconst0 F dX3_generation_72 ?_
        refine xr_goto 82 F dX3_generation_73 rfl ?_
        exact xr_dret F dX3_generation_82
      · refine xr_lload_n 2 F dX3_generation_76 rfl ?_
        refine xr_l2d F dX3_generation_77 ?_
        refine xr_lload 3 F dX3_generation_78 rfl ?_
        refine xr_l2d F dX3_generation_80 ?_
        refine xr_ddiv F dX3_generation_81 ?_
        exact xr_dret F dX3_generation_82
    · refine xr_lload_n 2 F dX3_generation_33 rfl ?_
      refine xr_iload 4 F dX3_generation_34 rfl ?_
      refine xr_i2l F dX3_generation_36 ?_
      refine xr_aload_n 0 (r := (some l0)) F dX3_generation_37 rfl ?_
      refine xr_iload_n 1 F dX3_generation_38 rfl ?_
      refine xr_iload 4 F dX3_generation_39 rfl ?_
      refine xr_VJ (y := yX3_bornOf) (As := [.int l1, .int l6]) (r := (some l0)) F (hno _) dX3_generation_41 (fun z => fX3_bornOf_m (xFG F) z l1 l6) (Or.inl rfl) (ci := 39) (C := RX3) (T := TX3) rfl q3737 q3734 q3736 qs91 (xroom hRm (Nat.le_of_ble_eq_true rfl) (Nat.le_of_ble_eq_true rfl)) ⟨by decide, by decide⟩ n_X3_bornOf rfl (xcat (Nat.le_of_ble_eq_true rfl)) (fun v41 => ?_)
      refine xr_lmul F dX3_generation_44 ?_
      refine xr_ladd F dX3_generation_45 ?_
      refine xr_letJ (fun x2_46 => ?_)
      refine xs_l_n [0, 1, 3, 4] F dX3_generation_46 hnL rfl rfl (xk1 rfl rfl (xk2 rfl rfl (xk1 rfl rfl (xk1 rfl rfl xk0)))) (xk21 rfl (xk21 rfl (xk21 rfl (xk21 rfl xk20)))) ?_
      refine xr_lload 3 F dX3_generation_47 rfl ?_
      refine xr_aload_n 1 (r := (some l0)) F dX3_generation_49 rfl ?_
      refine xr_iload_n 2 F dX3_generation_50 rfl ?_
      refine xr_iload 4 F dX3_generation_51 rfl ?_
      refine xr_VJ (y := yX3_bornOf) (As := [.int l1, .int l6]) (r := (some l0)) F (hno _) dX3_generation_53 (fun z => fX3_bornOf_m (xFG F) z l1 l6) (Or.inl rfl) (ci := 39) (C := RX3) (T := TX3) rfl q3737 q3734 q3736 qs91 (xroom hRm (Nat.le_of_ble_eq_true rfl) (Nat.le_of_ble_eq_true rfl)) ⟨by decide, by decide⟩ n_X3_bornOf rfl (xcat (Nat.le_of_ble_eq_true rfl)) (fun v53 => ?_)
      refine xr_ladd F dX3_generation_56 ?_
      refine xr_letJ (fun x4_57 => ?_)
      refine xs_l [0, 1, 2, 4] F dX3_generation_57 hnL rfl rfl (xk1 rfl rfl (xk1 rfl rfl (xk1 rfl rfl (xk1 rfl rfl xk0)))) (xk21 rfl (xk21 rfl (xk21 rfl (xk21 rfl xk20)))) ?_
      refine xs_inc [4, 0, 1, 2, 3] F dX3_generation_59 rfl hnL rfl rfl (xk1 rfl rfl (xk1 rfl rfl (xk1 rfl rfl (xk1 rfl rfl xk0)))) (fun x6_59 => ?_)
      refine xr_goto 23 F dX3_generation_62 rfl ?_
      exact xI.sub [3, 4, 2, 1, 0] rfl (ih l0 l1 x2_46 x4_57 x6_59)
theorem fX3_generation_m {l : Launch} {D : xD} {s0 : State} {b0 : Nat} {Γ : Nat → Option Nat} (G : xG l D s0 b0 Γ) (a0 : Nat) (p0 : Int32) : xMeth l D s0 Γ yX3_generation (Cond.code yX3_generation cX3_generation 7 (some .double)) (5) (101) [.ref a0, .int p0] xeD (fX3_generation a0 p0) := by
  refine xMeth.of (lv0 := [(0, va_rf (some a0)), (1, .int p0)]) G (by decide +kernel) (Or.inl rfl) (Nat.le_of_ble_eq_true rfl) rfl (fun x F hnL hRm hmn ht e1 e2 e3 e4 => ?_)
  have hno : ∀ pc, xNo x pc := fun pc z hz => by rw [ht.1 rfl] at hz; cases hz
  unfold fX3_generation
  refine xr_aload_n 0 (r := (some a0)) F dX3_generation_0 rfl ?_
  refine xr_iconst (0 : Int32) F dX3_generation_1 rfl ?_
  refine xr_put (r := (some a0)) (ref := "ReserveLedgerModel") F dX3_generation_2 xk_39 (by decide) (Or.inl q3394) (Or.inl rfl) (Or.inl rfl) ⟨rfl, rfl⟩ ?_
  refine xr_aload_n 0 (r := (some a0)) F dX3_generation_5 rfl ?_
  refine xr_iload_n 1 F dX3_generation_6 rfl ?_
  refine xr_VI (y := yX3_noSpecies) (As := [.int p0]) (r := (some a0)) F (hno _) dX3_generation_7 (fun z => fX3_noSpecies_m (xFG F) z p0) (Or.inl rfl) (ci := 39) (C := RX3) (T := TX3) rfl q3688 q3685 q3687 qs87 (xroom hRm (Nat.le_of_ble_eq_true rfl) (Nat.le_of_ble_eq_true rfl)) ⟨by decide, by decide⟩ n_X3_noSpecies rfl (xcat (Nat.le_of_ble_eq_true rfl)) (fun v7 => ?_)
  refine xr_if_eq 15 F dX3_generation_10 rfl ?_ ?_
  · refine xr_lconst 0 F dX3_generation_15 rfl ?_
    refine xr_letJ (fun x2_16 => ?_)
    refine xs_l_n [0, 1] F dX3_generation_16 hnL rfl rfl (xk1 rfl rfl (xk2 rfl rfl xk0)) (xk21 rfl (xk21 rfl xk20)) ?_
    refine xr_lconst 0 F dX3_generation_17 rfl ?_
    refine xr_letJ (fun x4_18 => ?_)
    refine xs_l [0, 1, 2] F dX3_generation_18 hnL rfl rfl (xk1 rfl rfl (xk1 rfl rfl (xk1 rfl rfl xk0))) (xk21 rfl (xk21 rfl (xk21 rfl xk20))) ?_
    refine xr_iconst (0 : Int32) F dX3_generation_20 rfl ?_
    refine xr_letI (fun x6_21 => ?_)
    refine xs_i [0, 1, 2, 3] F dX3_generation_21 hnL rfl rfl (xk1 rfl rfl (xk1 rfl rfl (xk1 rfl rfl (xk1 rfl rfl xk0)))) ?_
    exact xI.sub [3, 4, 2, 1, 0] rfl (fX3_generation_p23_ok F hnL hRm hno hmn xFU a0 p0 x2_16 x4_18 x6_21)
  · refine xr_dconst0 F dX3_generation_13 ?_
    exact xr_dret F dX3_generation_14
theorem fX3_firstYear_m {l : Launch} {D : xD} {s0 : State} {b0 : Nat} {Γ : Nat → Option Nat} (G : xG l D s0 b0 Γ) (a0 : Nat) : xMeth l D s0 Γ yX3_firstYear (Cond.code yX3_firstYear cX3_firstYear 1 (some .int)) (1) (12) [.ref a0] xeI (fX3_firstYear a0) := by
  refine xMeth.of (lv0 := [(0, va_rf (some a0))]) G (by decide +kernel) (Or.inl rfl) (Nat.le_of_ble_eq_true rfl) rfl (fun x F hnL hRm hmn ht e1 e2 e3 e4 => ?_)
  have hno : ∀ pc, xNo x pc := fun pc z hz => by rw [ht.1 rfl] at hz; cases hz
  unfold fX3_firstYear
  refine xr_aload_n 0 (r := (some a0)) F dX3_firstYear_0 rfl ?_
  refine xr_gR (r := (some a0)) (ref := "ReserveLedgerModel") F dX3_firstYear_1 (C := RX3) (T := TX3) (N := 25) rfl (by decide) (Or.inl q3395) (Or.inl rfl) (fun v1 => ?_)
  refine xr_iconst (1 : Int32) F dX3_firstYear_4 rfl ?_
  refine xr_iald (r := v1) F dX3_firstYear_5 (fun v5 => ?_)
  refine xr_aload_n 0 (r := (some a0)) F dX3_firstYear_6 rfl ?_
  refine xr_gR (r := (some a0)) (ref := "ReserveLedgerModel") F dX3_firstYear_7 (C := RX3) (T := TX3) (N := 25) rfl (by decide) (Or.inl q3395) (Or.inl rfl) (fun v7 => ?_)
  refine xr_iconst (2 : Int32) F dX3_firstYear_10 rfl ?_
  refine xr_iald (r := v7) F dX3_firstYear_11 (fun v11 => ?_)
  refine xr_isub F dX3_firstYear_12 ?_
  exact xr_iret F dX3_firstYear_13
theorem fX3_part_m {l : Launch} {D : xD} {s0 : State} {b0 : Nat} {Γ : Nat → Option Nat} (G : xG l D s0 b0 Γ) (a0 : Nat) (p0 : Int32) (p1 : Int32) : xMeth l D s0 Γ yX3_part (Cond.code yX3_part cX3_part 3 (some .int)) (5) (100) [.ref a0, .int p0, .int p1] xeI (fX3_part a0 p0 p1) := by
  refine xMeth.of (lv0 := [(0, va_rf (some a0)), (1, .int p0), (2, .int p1)]) G (by decide +kernel) (Or.inl rfl) (Nat.le_of_ble_eq_true rfl) rfl (fun x F hnL hRm hmn ht e1 e2 e3 e4 => ?_)
  have hno : ∀ pc, xNo x pc := fun pc z hz => by rw [ht.1 rfl] at hz; cases hz
  unfold fX3_part
  refine xr_iload_n 2 F dX3_part_0 rfl ?_
  refine xI.split (fun h_0 => ?_) (fun h_0 => ?_)
  · refine xr_tableIn 40 F dX3_part_1 (by rw [h_0]; decide) (by rw [h_0]; decide) (by rw [h_0]; rfl) rfl ?_
    refine xr_aload_n 0 (r := (some a0)) F dX3_part_40 rfl ?_
    refine xr_iload_n 1 F dX3_part_41 rfl ?_
    refine xr_bipush (7 : Int32) F dX3_part_42 rfl ?_
    refine xr_VI (y := yX3_of) (As := [.int p0, .int (7 : Int32)]) (r := (some a0)) F (hno _) dX3_part_44 (fun z => fX3_of_m (xFG F) z p0 (7 : Int32)) (Or.inl rfl) (ci := 39) (C := RX3) (T := TX3) rfl q3562 q3559 q3561 qs65 (xroom hRm (Nat.le_of_ble_eq_true rfl) (Nat.le_of_ble_eq_true rfl)) ⟨by decide, by decide⟩ n_X3_of rfl (xcat (Nat.le_of_ble_eq_true rfl)) (fun v44 => ?_)
    exact xr_iret F dX3_part_47
  · refine xI.split (fun h_1 => ?_) (fun h_1 => ?_)
    · refine xr_tableIn 48 F dX3_part_1 (by rw [h_1]; decide) (by rw [h_1]; decide) (by rw [h_1]; rfl) rfl ?_
      refine xr_aload_n 0 (r := (some a0)) F dX3_part_48 rfl ?_
      refine xr_iload_n 1 F dX3_part_49 rfl ?_
      refine xr_bipush (8 : Int32) F dX3_part_50 rfl ?_
      refine xr_VI (y := yX3_of) (As := [.int p0, .int (8 : Int32)]) (r := (some a0)) F (hno _) dX3_part_52 (fun z => fX3_of_m (xFG F) z p0 (8 : Int32)) (Or.inl rfl) (ci := 39) (C := RX3) (T := TX3) rfl q3562 q3559 q3561 qs65 (xroom hRm (Nat.le_of_ble_eq_true rfl) (Nat.le_of_ble_eq_true rfl)) ⟨by decide, by decide⟩ n_X3_of rfl (xcat (Nat.le_of_ble_eq_true rfl)) (fun v52 => ?_)
      exact xr_iret F dX3_part_55
    · refine xI.split (fun h_2 => ?_) (fun h_2 => ?_)
      · refine xr_tableIn 56 F dX3_part_1 (by rw [h_2]; decide) (by rw [h_2]; decide) (by rw [h_2]; rfl) rfl ?_
        refine xr_aload_n 0 (r := (some a0)) F dX3_part_56 rfl ?_
        refine xr_iload_n 1 F dX3_part_57 rfl ?_
        refine xr_bipush (9 : Int32) F dX3_part_58 rfl ?_
        refine xr_VI (y := yX3_of) (As := [.int p0, .int (9 : Int32)]) (r := (some a0)) F (hno _) dX3_part_60 (fun z => fX3_of_m (xFG F) z p0 (9 : Int32)) (Or.inl rfl) (ci := 39) (C := RX3) (T := TX3) rfl q3562 q3559 q3561 qs65 (xroom hRm (Nat.le_of_ble_eq_true rfl) (Nat.le_of_ble_eq_true rfl)) ⟨by decide, by decide⟩ n_X3_of rfl (xcat (Nat.le_of_ble_eq_true rfl)) (fun v60 => ?_)
        exact xr_iret F dX3_part_63
      · refine xI.split (fun h_3 => ?_) (fun h_3 => ?_)
        · refine xr_tableIn 64 F dX3_part_1 (by rw [h_3]; decide) (by rw [h_3]; decide) (by rw [h_3]; rfl) rfl ?_
          refine xr_aload_n 0 (r := (some a0)) F dX3_part_64 rfl ?_
          refine xr_iload_n 1 F dX3_part_65 rfl ?_
          refine xr_bipush (10 : Int32) F dX3_part_66 rfl ?_
          refine xr_VI (y := yX3_of) (As := [.int p0, .int (10 : Int32)]) (r := (some a0)) F (hno _) dX3_part_68 (fun z => fX3_of_m (xFG F) z p0 (10 : Int32)) (Or.inl rfl) (ci := 39) (C := RX3) (T := TX3) rfl q3562 q3559 q3561 qs65 (xroom hRm (Nat.le_of_ble_eq_true rfl) (Nat.le_of_ble_eq_true rfl)) ⟨by decide, by decide⟩ n_X3_of rfl (xcat (Nat.le_of_ble_eq_true rfl)) (fun v68 => ?_)
          exact xr_iret F dX3_part_71
        · refine xI.split (fun h_4 => ?_) (fun h_4 => ?_)
          · refine xr_tableIn 72 F dX3_part_1 (by rw [h_4]; decide) (by rw [h_4]; decide) (by rw [h_4]; rfl) rfl ?_
            refine xr_aload_n 0 (r := (some a0)) F dX3_part_72 rfl ?_
            refine xr_iload_n 1 F dX3_part_73 rfl ?_
            refine xr_bipush (11 : Int32) F dX3_part_74 rfl ?_
            refine xr_VI (y := yX3_of) (As := [.int p0, .int (11 : Int32)]) (r := (some a0)) F (hno _) dX3_part_76 (fun z => fX3_of_m (xFG F) z p0 (11 : Int32)) (Or.inl rfl) (ci := 39) (C := RX3) (T := TX3) rfl q3562 q3559 q3561 qs65 (xroom hRm (Nat.le_of_ble_eq_true rfl) (Nat.le_of_ble_eq_true rfl)) ⟨by decide, by decide⟩ n_X3_of rfl (xcat (Nat.le_of_ble_eq_true rfl)) (fun v76 => ?_)
            exact xr_iret F dX3_part_79
          · refine xI.split (fun h_5 => ?_) (fun h_5 => ?_)
            · refine xr_tableIn 80 F dX3_part_1 (by rw [h_5]; decide) (by rw [h_5]; decide) (by rw [h_5]; rfl) rfl ?_
              refine xr_aload_n 0 (r := (some a0)) F dX3_part_80 rfl ?_
              refine xr_iload_n 1 F dX3_part_81 rfl ?_
              refine xr_VI (y := yX3_totalOf) (As := [.int p0]) (r := (some a0)) F (hno _) dX3_part_82 (fun z => fX3_totalOf_m (xFG F) z p0) (Or.inl rfl) (ci := 39) (C := RX3) (T := TX3) rfl q3646 q3643 q3645 qs82 (xroom hRm (Nat.le_of_ble_eq_true rfl) (Nat.le_of_ble_eq_true rfl)) ⟨by decide, by decide⟩ n_X3_totalOf rfl (xcat (Nat.le_of_ble_eq_true rfl)) (fun v82 => ?_)
              exact xr_iret F dX3_part_85
            · refine xr_tableOut 86 F dX3_part_1 (by intro i g1 g2; have g3 : i = 0 ∨ i = 1 ∨ i = 2 ∨ i = 3 ∨ i = 4 ∨ i = 5 := (by omega); rcases g3 with rfl | rfl | rfl | rfl | rfl | rfl; all_goals assumption) rfl ?_
              refine xr_aload_n 0 (r := (some a0)) F dX3_part_86 rfl ?_
              refine xr_iload_n 1 F dX3_part_87 rfl ?_
              refine xr_iconst (5 : Int32) F dX3_part_88 rfl ?_
              refine xr_VI (y := yX3_of) (As := [.int p0, .int (5 : Int32)]) (r := (some a0)) F (hno _) dX3_part_89 (fun z => fX3_of_m (xFG F) z p0 (5 : Int32)) (Or.inl rfl) (ci := 39) (C := RX3) (T := TX3) rfl q3562 q3559 q3561 qs65 (xroom hRm (Nat.le_of_ble_eq_true rfl) (Nat.le_of_ble_eq_true rfl)) ⟨by decide, by decide⟩ n_X3_of rfl (xcat (Nat.le_of_ble_eq_true rfl)) (fun v89 => ?_)
              exact xr_iret F dX3_part_92
theorem fX3_ledgerPart_m {l : Launch} {D : xD} {s0 : State} {b0 : Nat} {Γ : Nat → Option Nat} (G : xG l D s0 b0 Γ) (a0 : Nat) (p0 : Int32) (p1 : Int32) (p2 : Int32) : xMeth l D s0 Γ yX3_ledgerPart (Cond.code yX3_ledgerPart cX3_ledgerPart 4 (some .int)) (6) (122) [.ref a0, .int p0, .int p1, .int p2] xeI (fX3_ledgerPart a0 p0 p1 p2) := by
  refine xMeth.of (lv0 := [(0, va_rf (some a0)), (1, .int p0), (2, .int p1), (3, .int p2)]) G (by decide +kernel) (Or.inl rfl) (Nat.le_of_ble_eq_true rfl) rfl (fun x F hnL hRm hmn ht e1 e2 e3 e4 => ?_)
  have hno : ∀ pc, xNo x pc := fun pc z hz => by rw [ht.1 rfl] at hz; cases hz
  unfold fX3_ledgerPart
  refine xr_iload_n 2 F dX3_ledgerPart_0 rfl ?_
  refine xr_aload_n 0 (r := (some a0)) F dX3_ledgerPart_1 rfl ?_
  refine xr_gR (r := (some a0)) (ref := "ReserveLedgerModel") F dX3_ledgerPart_2 (C := RX3) (T := TX3) (N := 25) rfl (by decide) (Or.inl q3395) (Or.inl rfl) (fun v2 => ?_)
  refine xr_iconst (2 : Int32) F dX3_ledgerPart_5 rfl ?_
  refine xr_iald (r := v2) F dX3_ledgerPart_6 (fun v6 => ?_)
  refine xr_icmp_ne 19 F dX3_ledgerPart_7 rfl ?_ ?_
  · refine xr_aload_n 0 (r := (some a0)) F dX3_ledgerPart_10 rfl ?_
    refine xr_iload_n 1 F dX3_ledgerPart_11 rfl ?_
    refine xr_iload_n 3 F dX3_ledgerPart_12 rfl ?_
    refine xr_VI (y := yX3_part) (As := [.int p0, .int p2]) (r := (some a0)) F (hno _) dX3_ledgerPart_13 (fun z => fX3_part_m (xFG F) z p0 p2) (Or.inl rfl) (ci := 39) (C := RX3) (T := TX3) rfl q3762 q3759 q3761 qs95 (xroom hRm (Nat.le_of_ble_eq_true rfl) (Nat.le_of_ble_eq_true rfl)) ⟨by decide, by decide⟩ n_X3_part rfl (xcat (Nat.le_of_ble_eq_true rfl)) (fun v13 => ?_)
    refine xr_goto 34 F dX3_ledgerPart_16 rfl ?_
    exact xr_iret F dX3_ledgerPart_34
  · refine xr_aload_n 0 (r := (some a0)) F dX3_ledgerPart_19 rfl ?_
    refine xr_gR (r := (some a0)) (ref := "ReserveLedgerModel") F dX3_ledgerPart_20 (C := RX3) (T := TX3) (N := 25) rfl (by decide) (Or.inl q3399) (Or.inl rfl) (fun v20 => ?_)
    refine xr_iload_n 2 F dX3_ledgerPart_23 rfl ?_
    refine xr_iconst (4 : Int32) F dX3_ledgerPart_24 rfl ?_
    refine xr_imul F dX3_ledgerPart_25 ?_
    refine xr_iload_n 1 F dX3_ledgerPart_26 rfl ?_
    refine xr_iadd F dX3_ledgerPart_27 ?_
    refine xr_bipush (7 : Int32) F dX3_ledgerPart_28 rfl ?_
    refine xr_imul F dX3_ledgerPart_30 ?_
    refine xr_iload_n 3 F dX3_ledgerPart_31 rfl ?_
    refine xr_iadd F dX3_ledgerPart_32 ?_
    refine xr_iald (r := v20) F dX3_ledgerPart_33 (fun v33 => ?_)
    exact xr_iret F dX3_ledgerPart_34
theorem fX3_isYear_m {l : Launch} {D : xD} {s0 : State} {b0 : Nat} {Γ : Nat → Option Nat} (G : xG l D s0 b0 Γ) (a0 : Nat) (p0 : Int32) : xMeth l D s0 Γ yX3_isYear (Cond.code yX3_isYear cX3_isYear 2 (some .boolean)) (2) (37) [.ref a0, .int p0] xeI (fX3_isYear a0 p0) := by
  refine xMeth.of (lv0 := [(0, va_rf (some a0)), (1, .int p0)]) G (by decide +kernel) (Or.inl rfl) (Nat.le_of_ble_eq_true rfl) rfl (fun x F hnL hRm hmn ht e1 e2 e3 e4 => ?_)
  have hno : ∀ pc, xNo x pc := fun pc z hz => by rw [ht.1 rfl] at hz; cases hz
  unfold fX3_isYear
  refine xr_iload_n 1 F dX3_isYear_0 rfl ?_
  refine xr_i2l F dX3_isYear_1 ?_
  refine xr_aload_n 0 (r := (some a0)) F dX3_isYear_2 rfl ?_
  refine xr_VI (y := yX3_firstYear) (As := []) (r := (some a0)) F (hno _) dX3_isYear_3 (fun z => fX3_firstYear_m (xFG F) z) (Or.inl rfl) (ci := 39) (C := RX3) (T := TX3) rfl q3754 q3751 q3753 qs93 (xroom hRm (Nat.le_of_ble_eq_true rfl) (Nat.le_of_ble_eq_true rfl)) ⟨by decide, by decide⟩ n_X3_firstYear rfl (xcat (Nat.le_of_ble_eq_true rfl)) (fun v3 => ?_)
  refine xr_i2l F dX3_isYear_6 ?_
  refine xr_aload_n 0 (r := (some a0)) F dX3_isYear_7 rfl ?_
  refine xr_gR (r := (some a0)) (ref := "ReserveLedgerModel") F dX3_isYear_8 (C := RX3) (T := TX3) (N := 25) rfl (by decide) (Or.inl q3395) (Or.inl rfl) (fun v8 => ?_)
  refine xr_iconst (1 : Int32) F dX3_isYear_11 rfl ?_
  refine xr_iald (r := v8) F dX3_isYear_12 (fun v12 => ?_)
  refine xr_i2l F dX3_isYear_13 ?_
  refine xr_SI (y := yX3_in) (As := [.long p0.toInt64, .long v3.toInt64, .long v12.toInt64]) F (hno _) dX3_isYear_14 (fX3_in_m (xFG F) p0.toInt64 v3.toInt64 v12.toInt64) (Or.inl rfl) q3544 q144 (Or.inl q3542) q3543 (xroom hRm (Nat.le_of_ble_eq_true rfl) (Nat.le_of_ble_eq_true rfl)) ⟨by decide, by decide⟩ n_X3_in rfl (xcat (Nat.le_of_ble_eq_true rfl)) (fun v14 => ?_)
  exact xr_nret F dX3_isYear_17
theorem fX3_ledger_p46_ok {x : xC} (F : xF x RX3 cX3_ledger (some .int)) (hnL : xnL x = 4) (hRm : ∃ dc ds, x.2.2.2.1 = { frames := 7, cells := dc, slots := ds, locals := 145 }) (hno : ∀ pc, xNo x pc) (hmn : xmn x = "ledger" ∧ xmy x yX3_ledger)  : xI x xeI 46 [] [] (fX3_ledger_p46 ) := by
  unfold fX3_ledger_p46
  refine xr_iconst (0 : Int32) F dX3_ledger_46 rfl ?_
  refine xr_goto 62 F dX3_ledger_47 rfl ?_
  exact xr_iret F dX3_ledger_62
theorem fX3_ledger_p39_ok {x : xC} (F : xF x RX3 cX3_ledger (some .int)) (hnL : xnL x = 4) (hRm : ∃ dc ds, x.2.2.2.1 = { frames := 7, cells := dc, slots := ds, locals := 145 }) (hno : ∀ pc, xNo x pc) (hmn : xmn x = "ledger" ∧ xmy x yX3_ledger) (l0 : Nat) (l1 : Int32) (l2 : Int32) (l3 : Int32) (s0 : Int32) (s1 : Nat) : xI x xeI 39 [(0, va_rf (some l0)), (1, .int l1), (2, .int l2), (3, .int l3)] [.int s0, va_rf (some s1)] (fX3_ledger_p39 l0 l1 l2 l3 s0 s1) := by
  unfold fX3_ledger_p39
  refine xr_iconst (2 : Int32) F dX3_ledger_39 rfl ?_
  refine xr_VI (y := yX3_throwsIf) (As := [.int s0, .int (2 : Int32)]) (r := (some s1)) F (hno _) dX3_ledger_40 (fun z => fX3_throwsIf_m (xFG F) z s0 (2 : Int32)) (Or.inl rfl) (ci := 39) (C := RX3) (T := TX3) rfl q3634 q3631 q3633 qs79 (xroom hRm (Nat.le_of_ble_eq_true rfl) (Nat.le_of_ble_eq_true rfl)) ⟨by decide, by decide⟩ n_X3_throwsIf rfl (xcat (Nat.le_of_ble_eq_true rfl)) (fun v40 => ?_)
  refine xr_if_eq 50 F dX3_ledger_43 rfl ?_ ?_
  · refine xr_aload_n 0 (r := (some l0)) F dX3_ledger_50 rfl ?_
    refine xr_iload_n 1 F dX3_ledger_51 rfl ?_
    refine xr_iload_n 2 F dX3_ledger_52 rfl ?_
    refine xr_aload_n 0 (r := (some l0)) F dX3_ledger_53 rfl ?_
    refine xr_VI (y := yX3_firstYear) (As := []) (r := (some l0)) F (hno _) dX3_ledger_54 (fun z => fX3_firstYear_m (xFG F) z) (Or.inl rfl) (ci := 39) (C := RX3) (T := TX3) rfl q3754 q3751 q3753 qs93 (xroom hRm (Nat.le_of_ble_eq_true rfl) (Nat.le_of_ble_eq_true rfl)) ⟨by decide, by decide⟩ n_X3_firstYear rfl (xcat (Nat.le_of_ble_eq_true rfl)) (fun v54 => ?_)
    refine xr_isub F dX3_ledger_57 ?_
    refine xr_iload_n 3 F dX3_ledger_58 rfl ?_
    refine xr_VI (y := yX3_ledgerPart) (As := [.int l1, .int (l2 - v54), .int l3]) (r := (some l0)) F (hno _) dX3_ledger_59 (fun z => fX3_ledgerPart_m (xFG F) z l1 (l2 - v54) l3) (Or.inl rfl) (ci := 39) (C := RX3) (T := TX3) rfl q3758 q3755 q3757 qs94 (xroom hRm (Nat.le_of_ble_eq_true rfl) (Nat.le_of_ble_eq_true rfl)) ⟨by decide, by decide⟩ n_X3_ledgerPart rfl (xcat (Nat.le_of_ble_eq_true rfl)) (fun v59 => ?_)
    exact xr_iret F dX3_ledger_62
  · exact xI.sub [] rfl (fX3_ledger_p46_ok F hnL hRm hno hmn)
theorem fX3_ledger_p34_ok {x : xC} (F : xF x RX3 cX3_ledger (some .int)) (hnL : xnL x = 4) (hRm : ∃ dc ds, x.2.2.2.1 = { frames := 7, cells := dc, slots := ds, locals := 145 }) (hno : ∀ pc, xNo x pc) (hmn : xmn x = "ledger" ∧ xmy x yX3_ledger) (l0 : Nat) (l1 : Int32) (l2 : Int32) (l3 : Int32) (s0 : Nat) : xI x xeI 34 [(0, va_rf (some l0)), (1, .int l1), (2, .int l2), (3, .int l3)] [va_rf (some s0)] (fX3_ledger_p34 l0 l1 l2 l3 s0) := by
  unfold fX3_ledger_p34
  refine xr_iconst (1 : Int32) F dX3_ledger_34 rfl ?_
  refine xr_goto 39 F dX3_ledger_35 rfl ?_
  exact xI.sub [0, 1, 2, 3] rfl (fX3_ledger_p39_ok F hnL hRm hno hmn l0 l1 l2 l3 (1 : Int32) s0)
theorem fX3_ledger_m {l : Launch} {D : xD} {s0 : State} {b0 : Nat} {Γ : Nat → Option Nat} (G : xG l D s0 b0 Γ) (a0 : Nat) (p0 : Int32) (p1 : Int32) (p2 : Int32) : xMeth l D s0 Γ yX3_ledger (Cond.code yX3_ledger cX3_ledger 4 (some .int)) (7) (145) [.ref a0, .int p0, .int p1, .int p2] xeI (fX3_ledger a0 p0 p1 p2) := by
  refine xMeth.of (lv0 := [(0, va_rf (some a0)), (1, .int p0), (2, .int p1), (3, .int p2)]) G (by decide +kernel) (Or.inl rfl) (Nat.le_of_ble_eq_true rfl) rfl (fun x F hnL hRm hmn ht e1 e2 e3 e4 => ?_)
  have hno : ∀ pc, xNo x pc := fun pc z hz => by rw [ht.1 rfl] at hz; cases hz
  unfold fX3_ledger
  refine xr_aload_n 0 (r := (some a0)) F dX3_ledger_0 rfl ?_
  refine xr_iconst (0 : Int32) F dX3_ledger_1 rfl ?_
  refine xr_put (r := (some a0)) (ref := "ReserveLedgerModel") F dX3_ledger_2 xk_39 (by decide) (Or.inl q3394) (Or.inl rfl) (Or.inl rfl) ⟨rfl, rfl⟩ ?_
  refine xr_aload_n 0 (r := (some a0)) F dX3_ledger_5 rfl ?_
  refine xr_iload_n 1 F dX3_ledger_6 rfl ?_
  refine xr_VI (y := yX3_noSpecies) (As := [.int p0]) (r := (some a0)) F (hno _) dX3_ledger_7 (fun z => fX3_noSpecies_m (xFG F) z p0) (Or.inl rfl) (ci := 39) (C := RX3) (T := TX3) rfl q3688 q3685 q3687 qs87 (xroom hRm (Nat.le_of_ble_eq_true rfl) (Nat.le_of_ble_eq_true rfl)) ⟨by decide, by decide⟩ n_X3_noSpecies rfl (xcat (Nat.le_of_ble_eq_true rfl)) (fun v7 => ?_)
  refine xr_if_ne 46 F dX3_ledger_10 rfl ?_ ?_
  · refine xr_aload_n 0 (r := (some a0)) F dX3_ledger_13 rfl ?_
    refine xr_aload_n 0 (r := (some a0)) F dX3_ledger_14 rfl ?_
    refine xr_iload_n 2 F dX3_ledger_15 rfl ?_
    refine xr_VI (y := yX3_isYear) (As := [.int p1]) (r := (some a0)) F (hno _) dX3_ledger_16 (fun z => fX3_isYear_m (xFG F) z p1) (Or.inl rfl) (ci := 39) (C := RX3) (T := TX3) rfl q3750 q3747 q3749 qs92 (xroom hRm (Nat.le_of_ble_eq_true rfl) (Nat.le_of_ble_eq_true rfl)) ⟨by decide, by decide⟩ n_X3_isYear rfl (xcat (Nat.le_of_ble_eq_true rfl)) (fun v16 => ?_)
    refine xr_if_eq 34 F dX3_ledger_19 rfl ?_ ?_
    · exact xI.sub [0, 1, 2, 3] rfl (fX3_ledger_p34_ok F hnL hRm hno hmn a0 p0 p1 p2 a0)
    · refine xr_iload_n 3 F dX3_ledger_22 rfl ?_
      refine xr_i2l F dX3_ledger_23 ?_
      refine xr_lconst 0 F dX3_ledger_24 rfl ?_
      refine xr_ldc2 F dX3_ledger_25 q3554 ?_
      refine xr_SI (y := yX3_in) (As := [.long p2.toInt64, .long (0 : Int64), .long (6 : Int64)]) F (hno _) dX3_ledger_28 (fX3_in_m (xFG F) p2.toInt64 (0 : Int64) (6 : Int64)) (Or.inl rfl) q3544 q144 (Or.inl q3542) q3543 (xroom hRm (Nat.le_of_ble_eq_true rfl) (Nat.le_of_ble_eq_true rfl)) ⟨by decide, by decide⟩ n_X3_in rfl (xcat (Nat.le_of_ble_eq_true rfl)) (fun v28 => ?_)
      refine xr_if_ne 38 F dX3_ledger_31 rfl ?_ ?_
      · exact xI.sub [0, 1, 2, 3] rfl (fX3_ledger_p34_ok F hnL hRm hno hmn a0 p0 p1 p2 a0)
      · refine xr_iconst (0 : Int32) F dX3_ledger_38 rfl ?_
        exact xI.sub [0, 1, 2, 3] rfl (fX3_ledger_p39_ok F hnL hRm hno hmn a0 p0 p1 p2 (0 : Int32) a0)
  · exact xI.sub [] rfl (fX3_ledger_p46_ok F hnL hRm hno hmn)
theorem fJ12_min_m {l : Launch} {D : xD} {s0 : State} {b0 : Nat} {Γ : Nat → Option Nat} (G : xG l D s0 b0 Γ) (p0 : Int32) (p1 : Int32) : xMeth l D s0 Γ yJ12_min (Cond.code yJ12_min cJ12_min 2 (some .int)) (1) (12) [.int p0, .int p1] xeI (fJ12_min p0 p1) := by
  refine xMeth.of (lv0 := [(0, .int p0), (1, .int p1)]) G (by decide +kernel) (Or.inl rfl) (Nat.le_of_ble_eq_true rfl) rfl (fun x F hnL hRm hmn ht e1 e2 e3 e4 => ?_)
  have hno : ∀ pc, xNo x pc := fun pc z hz => by rw [ht.1 rfl] at hz; cases hz
  unfold fJ12_min
  refine xr_iload_n 0 F dJ12_min_0 rfl ?_
  refine xr_iload_n 1 F dJ12_min_1 rfl ?_
  refine xr_icmp_gt 9 F dJ12_min_2 rfl ?_ ?_
  · refine xr_iload_n 1 F dJ12_min_9 rfl ?_
    exact xr_iret F dJ12_min_10
  · refine xr_iload_n 0 F dJ12_min_5 rfl ?_
    refine xr_goto 10 F dJ12_min_6 rfl ?_
    exact xr_iret F dJ12_min_10
theorem fX3_closingUpTo_p45_ok {x : xC} (F : xF x RX3 cX3_closingUpTo (some .int)) (hnL : xnL x = 4) (hRm : ∃ dc ds, x.2.2.2.1 = { frames := 7, cells := dc, slots := ds, locals := 145 }) (hno : ∀ pc, xNo x pc) (hmn : xmn x = "closingUpTo" ∧ xmy x yX3_closingUpTo)  : xI x xeI 45 [] [] (fX3_closingUpTo_p45 ) := by
  unfold fX3_closingUpTo_p45
  refine xr_iconst (-1 : Int32) F dX3_closingUpTo_45 rfl ?_
  refine xr_goto 61 F dX3_closingUpTo_46 rfl ?_
  exact xr_iret F dX3_closingUpTo_61
theorem fX3_closingUpTo_m {l : Launch} {D : xD} {s0 : State} {b0 : Nat} {Γ : Nat → Option Nat} (G : xG l D s0 b0 Γ) (a0 : Nat) (p0 : Int32) (p1 : Int32) : xMeth l D s0 Γ yX3_closingUpTo (Cond.code yX3_closingUpTo cX3_closingUpTo 4 (some .int)) (7) (145) [.ref a0, .int p0, .int p1] xeI (fX3_closingUpTo a0 p0 p1) := by
  refine xMeth.of (lv0 := [(0, va_rf (some a0)), (1, .int p0), (2, .int p1)]) G (by decide +kernel) (Or.inl rfl) (Nat.le_of_ble_eq_true rfl) rfl (fun x F hnL hRm hmn ht e1 e2 e3 e4 => ?_)
  have hno : ∀ pc, xNo x pc := fun pc z hz => by rw [ht.1 rfl] at hz; cases hz
  unfold fX3_closingUpTo
  refine xr_aload_n 0 (r := (some a0)) F dX3_closingUpTo_0 rfl ?_
  refine xr_iconst (0 : Int32) F dX3_closingUpTo_1 rfl ?_
  refine xr_put (r := (some a0)) (ref := "ReserveLedgerModel") F dX3_closingUpTo_2 xk_39 (by decide) (Or.inl q3394) (Or.inl rfl) (Or.inl rfl) ⟨rfl, rfl⟩ ?_
  refine xr_aload_n 0 (r := (some a0)) F dX3_closingUpTo_5 rfl ?_
  refine xr_iload_n 1 F dX3_closingUpTo_6 rfl ?_
  refine xr_VI (y := yX3_noSpecies) (As := [.int p0]) (r := (some a0)) F (hno _) dX3_closingUpTo_7 (fun z => fX3_noSpecies_m (xFG F) z p0) (Or.inl rfl) (ci := 39) (C := RX3) (T := TX3) rfl q3688 q3685 q3687 qs87 (xroom hRm (Nat.le_of_ble_eq_true rfl) (Nat.le_of_ble_eq_true rfl)) ⟨by decide, by decide⟩ n_X3_noSpecies rfl (xcat (Nat.le_of_ble_eq_true rfl)) (fun v7 => ?_)
  refine xr_if_eq 15 F dX3_closingUpTo_10 rfl ?_ ?_
  · refine xr_iload_n 2 F dX3_closingUpTo_15 rfl ?_
    refine xr_aload_n 0 (r := (some a0)) F dX3_closingUpTo_16 rfl ?_
    refine xr_gR (r := (some a0)) (ref := "ReserveLedgerModel") F dX3_closingUpTo_17 (C := RX3) (T := TX3) (N := 25) rfl (by decide) (Or.inl q3395) (Or.inl rfl) (fun v17 => ?_)
    refine xr_iconst (1 : Int32) F dX3_closingUpTo_20 rfl ?_
    refine xr_iald (r := v17) F dX3_closingUpTo_21 (fun v21 => ?_)
    refine xr_iconst (1 : Int32) F dX3_closingUpTo_22 rfl ?_
    refine xr_isub F dX3_closingUpTo_23 ?_
    refine xr_SI (y := yJ12_min) (As := [.int p1, .int (v21 - (1 : Int32))]) F (hno _) dX3_closingUpTo_24 (fJ12_min_m (xFG F) p1 (v21 - (1 : Int32))) (Or.inl rfl) q345 q135 (Or.inl q3767) q344 (xroom hRm (Nat.le_of_ble_eq_true rfl) (Nat.le_of_ble_eq_true rfl)) ⟨by decide, by decide⟩ n_J12_min rfl (xcat (Nat.le_of_ble_eq_true rfl)) (fun v24 => ?_)
    refine xs_i_n [0, 1] F dX3_closingUpTo_27 hnL rfl rfl (xk1 rfl rfl (xk1 rfl rfl xk0)) ?_
    refine xr_aload_n 1 (r := (some a0)) F dX3_closingUpTo_28 rfl ?_
    refine xr_gR (r := (some a0)) (ref := "ReserveLedgerModel") F dX3_closingUpTo_29 (C := RX3) (T := TX3) (N := 25) rfl (by decide) (Or.inl q3395) (Or.inl rfl) (fun v29 => ?_)
    refine xr_iconst (2 : Int32) F dX3_closingUpTo_32 rfl ?_
    refine xr_iald (r := v29) F dX3_closingUpTo_33 (fun v33 => ?_)
    refine xr_if_eq 45 F dX3_closingUpTo_34 rfl ?_ ?_
    · exact xI.sub [] rfl (fX3_closingUpTo_p45_ok F hnL hRm hno hmn)
    · refine xr_iload_n 0 F dX3_closingUpTo_37 rfl ?_
      refine xr_aload_n 1 (r := (some a0)) F dX3_closingUpTo_38 rfl ?_
      refine xr_VI (y := yX3_firstYear) (As := []) (r := (some a0)) F (hno _) dX3_closingUpTo_39 (fun z => fX3_firstYear_m (xFG F) z) (Or.inl rfl) (ci := 39) (C := RX3) (T := TX3) rfl q3754 q3751 q3753 qs93 (xroom hRm (Nat.le_of_ble_eq_true rfl) (Nat.le_of_ble_eq_true rfl)) ⟨by decide, by decide⟩ n_X3_firstYear rfl (xcat (Nat.le_of_ble_eq_true rfl)) (fun v39 => ?_)
      refine xr_icmp_ge 49 F dX3_closingUpTo_42 rfl ?_ ?_
      · refine xr_aload_n 1 (r := (some a0)) F dX3_closingUpTo_49 rfl ?_
        refine xr_iload_n 2 F dX3_closingUpTo_50 rfl ?_
        refine xr_iload_n 0 F dX3_closingUpTo_51 rfl ?_
        refine xr_aload_n 1 (r := (some a0)) F dX3_closingUpTo_52 rfl ?_
        refine xr_VI (y := yX3_firstYear) (As := []) (r := (some a0)) F (hno _) dX3_closingUpTo_53 (fun z => fX3_firstYear_m (xFG F) z) (Or.inl rfl) (ci := 39) (C := RX3) (T := TX3) rfl q3754 q3751 q3753 qs93 (xroom hRm (Nat.le_of_ble_eq_true rfl) (Nat.le_of_ble_eq_true rfl)) ⟨by decide, by decide⟩ n_X3_firstYear rfl (xcat (Nat.le_of_ble_eq_true rfl)) (fun v53 => ?_)
        refine xr_isub F dX3_closingUpTo_56 ?_
        refine xr_iconst (5 : Int32) F dX3_closingUpTo_57 rfl ?_
        refine xr_VI (y := yX3_ledgerPart) (As := [.int p0, .int (v24 - v53), .int (5 : Int32)]) (r := (some a0)) F (hno _) dX3_closingUpTo_58 (fun z => fX3_ledgerPart_m (xFG F) z p0 (v24 - v53) (5 : Int32)) (Or.inl rfl) (ci := 39) (C := RX3) (T := TX3) rfl q3758 q3755 q3757 qs94 (xroom hRm (Nat.le_of_ble_eq_true rfl) (Nat.le_of_ble_eq_true rfl)) ⟨by decide, by decide⟩ n_X3_ledgerPart rfl (xcat (Nat.le_of_ble_eq_true rfl)) (fun v58 => ?_)
        exact xr_iret F dX3_closingUpTo_61
      · exact xI.sub [] rfl (fX3_closingUpTo_p45_ok F hnL hRm hno hmn)
  · refine xr_iconst (0 : Int32) F dX3_closingUpTo_13 rfl ?_
    exact xr_iret F dX3_closingUpTo_14
theorem fX3_worstYear_p53_ok {x : xC} (F : xF x RX3 cX3_worstYear (some .int)) (hnL : xnL x = 4) (hRm : ∃ dc ds, x.2.2.2.1 = { frames := 7, cells := dc, slots := ds, locals := 145 }) (hno : ∀ pc, xNo x pc) (hmn : xmn x = "worstYear" ∧ xmy x yX3_worstYear) {k19 : Nat → Int32 → Int32 → Int32 → xM (Int32)} (hk19 : ∀ (l0 : Nat) (l1 : Int32) (l2 : Int32) (l3 : Int32), xI x xeI 19 [(0, va_rf (some l0)), (1, .int l1), (2, .int l2), (3, .int l3)] [] (k19 l0 l1 l2 l3)) (l0 : Nat) (l1 : Int32) (l2 : Int32) (l3 : Int32) : xI x xeI 53 [(0, va_rf (some l0)), (1, .int l1), (2, .int l2), (3, .int l3)] [] (fX3_worstYear_p53 k19 l0 l1 l2 l3) := by
  unfold fX3_worstYear_p53
  refine xs_inc [3, 0, 1, 2] F dX3_worstYear_53 rfl hnL rfl rfl (xk1 rfl rfl (xk1 rfl rfl (xk2 rfl rfl xk0))) (fun x3_53 => ?_)
  refine xr_goto 19 F dX3_worstYear_56 rfl ?_
  exact xI.sub [1, 2, 3, 0] rfl (hk19 l0 l1 l2 x3_53)
theorem fX3_worstYear_p51_ok {x : xC} (F : xF x RX3 cX3_worstYear (some .int)) (hnL : xnL x = 4) (hRm : ∃ dc ds, x.2.2.2.1 = { frames := 7, cells := dc, slots := ds, locals := 145 }) (hno : ∀ pc, xNo x pc) (hmn : xmn x = "worstYear" ∧ xmy x yX3_worstYear) {k19 : Nat → Int32 → Int32 → Int32 → xM (Int32)} (hk19 : ∀ (l0 : Nat) (l1 : Int32) (l2 : Int32) (l3 : Int32), xI x xeI 19 [(0, va_rf (some l0)), (1, .int l1), (2, .int l2), (3, .int l3)] [] (k19 l0 l1 l2 l3)) (l0 : Nat) (l1 : Int32) (l3 : Int32) : xI x xeI 51 [(0, va_rf (some l0)), (1, .int l1), (3, .int l3)] [] (fX3_worstYear_p51 k19 l0 l1 l3) := by
  unfold fX3_worstYear_p51
  refine xr_iload_n 2 F dX3_worstYear_51 rfl ?_
  refine xs_i_n [0, 1, 2] F dX3_worstYear_52 hnL rfl rfl (xk1 rfl rfl (xk2 rfl rfl (xk1 rfl rfl xk0))) ?_
  exact xI.sub [1, 2, 0, 3] rfl (fX3_worstYear_p53_ok F hnL hRm hno hmn hk19 l0 l1 l3 l3)
theorem fX3_worstYear_p19_ok {x : xC} (F : xF x RX3 cX3_worstYear (some .int)) (hnL : xnL x = 4) (hRm : ∃ dc ds, x.2.2.2.1 = { frames := 7, cells := dc, slots := ds, locals := 145 }) (hno : ∀ pc, xNo x pc) (hmn : xmn x = "worstYear" ∧ xmy x yX3_worstYear) : ∀ (n : Nat) (l0 : Nat) (l1 : Int32) (l2 : Int32) (l3 : Int32), xI x xeI 19 [(0, va_rf (some l0)), (1, .int l1), (2, .int l2), (3, .int l3)] [] (fX3_worstYear_p19 n l0 l1 l2 l3) := by
  intro n
  induction n with
  | zero => intro l0 l1 l2 l3; exact xI.stuck
  | succ n ih =>
    intro l0 l1 l2 l3
    unfold fX3_worstYear_p19
    refine xr_iload_n 3 F dX3_worstYear_19 rfl ?_
    refine xr_aload_n 0 (r := (some l0)) F dX3_worstYear_20 rfl ?_
    refine xr_gR (r := (some l0)) (ref := "ReserveLedgerModel") F dX3_worstYear_21 (C := RX3) (T := TX3) (N := 25) rfl (by decide) (Or.inl q3395) (Or.inl rfl) (fun v21 => ?_)
    refine xr_iconst (2 : Int32) F dX3_worstYear_24 rfl ?_
    refine xr_iald (r := v21) F dX3_worstYear_25 (fun v25 => ?_)
    refine xr_icmp_ge 59 F dX3_worstYear_26 rfl ?_ ?_
    · refine xr_iload_n 2 F dX3_worstYear_59 rfl ?_
      refine xr_iconst (-1 : Int32) F dX3_worstYear_60 rfl ?_
      refine xr_icmp_ne 68 F dX3_worstYear_61 rfl ?_ ?_
      · refine xr_iconst (-1 : Int32) F dX3_worstYear_64 rfl ?_
        refine xr_goto 74 F dX3_worstYear_65 rfl ?_
        exact xr_iret F dX3_worstYear_74
      · refine xr_aload_n 0 (r := (some l0)) F dX3_worstYear_68 rfl ?_
        refine xr_VI (y := yX3_firstYear) (As := []) (r := (some l0)) F (hno _) dX3_worstYear_69 (fun z => fX3_firstYear_m (xFG F) z) (Or.inl rfl) (ci := 39) (C := RX3) (T := TX3) rfl q3754 q3751 q3753 qs93 (xroom hRm (Nat.le_of_ble_eq_true rfl) (Nat.le_of_ble_eq_true rfl)) ⟨by decide, by decide⟩ n_X3_firstYear rfl (xcat (Nat.le_of_ble_eq_true rfl)) (fun v69 => ?_)
        refine xr_iload_n 2 F dX3_worstYear_72 rfl ?_
        refine xr_iadd F dX3_worstYear_73 ?_
        exact xr_iret F dX3_worstYear_74
    · refine xr_iload_n 2 F dX3_worstYear_29 rfl ?_
      refine xr_iconst (-1 : Int32) F dX3_worstYear_30 rfl ?_
      refine xr_icmp_eq 51 F dX3_worstYear_31 rfl ?_ ?_
      · exact xI.sub [0, 1, 3] rfl (fX3_worstYear_p51_ok F hnL hRm hno hmn ih l0 l1 l3)
      · refine xr_aload_n 0 (r := (some l0)) F dX3_worstYear_34 rfl ?_
        refine xr_iload_n 1 F dX3_worstYear_35 rfl ?_
        refine xr_iload_n 3 F dX3_worstYear_36 rfl ?_
        refine xr_iconst (5 : Int32) F dX3_worstYear_37 rfl ?_
        refine xr_VI (y := yX3_ledgerPart) (As := [.int l1, .int l3, .int (5 : Int32)]) (r := (some l0)) F (hno _) dX3_worstYear_38 (fun z => fX3_ledgerPart_m (xFG F) z l1 l3 (5 : Int32)) (Or.inl rfl) (ci := 39) (C := RX3) (T := TX3) rfl q3758 q3755 q3757 qs94 (xroom hRm (Nat.le_of_ble_eq_true rfl) (Nat.le_of_ble_eq_true rfl)) ⟨by decide, by decide⟩ n_X3_ledgerPart rfl (xcat (Nat.le_of_ble_eq_true rfl)) (fun v38 => ?_)
        refine xr_aload_n 0 (r := (some l0)) F dX3_worstYear_41 rfl ?_
        refine xr_iload_n 1 F dX3_worstYear_42 rfl ?_
        refine xr_iload_n 2 F dX3_worstYear_43 rfl ?_
        refine xr_iconst (5 : Int32) F dX3_worstYear_44 rfl ?_
        refine xr_VI (y := yX3_ledgerPart) (As := [.int l1, .int l2, .int (5 : Int32)]) (r := (some l0)) F (hno _) dX3_worstYear_45 (fun z => fX3_ledgerPart_m (xFG F) z l1 l2 (5 : Int32)) (Or.inl rfl) (ci := 39) (C := RX3) (T := TX3) rfl q3758 q3755 q3757 qs94 (xroom hRm (Nat.le_of_ble_eq_true rfl) (Nat.le_of_ble_eq_true rfl)) ⟨by decide, by decide⟩ n_X3_ledgerPart rfl (xcat (Nat.le_of_ble_eq_true rfl)) (fun v45 => ?_)
        refine xr_icmp_gt 53 F dX3_worstYear_48 rfl ?_ ?_
        · exact xI.sub [0, 1, 2, 3] rfl (fX3_worstYear_p53_ok F hnL hRm hno hmn ih l0 l1 l2 l3)
        · exact xI.sub [0, 1, 3] rfl (fX3_worstYear_p51_ok F hnL hRm hno hmn ih l0 l1 l3)
theorem fX3_worstYear_m {l : Launch} {D : xD} {s0 : State} {b0 : Nat} {Γ : Nat → Option Nat} (G : xG l D s0 b0 Γ) (a0 : Nat) (p0 : Int32) : xMeth l D s0 Γ yX3_worstYear (Cond.code yX3_worstYear cX3_worstYear 4 (some .int)) (7) (145) [.ref a0, .int p0] xeI (fX3_worstYear a0 p0) := by
  refine xMeth.of (lv0 := [(0, va_rf (some a0)), (1, .int p0)]) G (by decide +kernel) (Or.inl rfl) (Nat.le_of_ble_eq_true rfl) rfl (fun x F hnL hRm hmn ht e1 e2 e3 e4 => ?_)
  have hno : ∀ pc, xNo x pc := fun pc z hz => by rw [ht.1 rfl] at hz; cases hz
  unfold fX3_worstYear
  refine xr_aload_n 0 (r := (some a0)) F dX3_worstYear_0 rfl ?_
  refine xr_iconst (0 : Int32) F dX3_worstYear_1 rfl ?_
  refine xr_put (r := (some a0)) (ref := "ReserveLedgerModel") F dX3_worstYear_2 xk_39 (by decide) (Or.inl q3394) (Or.inl rfl) (Or.inl rfl) ⟨rfl, rfl⟩ ?_
  refine xr_aload_n 0 (r := (some a0)) F dX3_worstYear_5 rfl ?_
  refine xr_iload_n 1 F dX3_worstYear_6 rfl ?_
  refine xr_VI (y := yX3_noSpecies) (As := [.int p0]) (r := (some a0)) F (hno _) dX3_worstYear_7 (fun z => fX3_noSpecies_m (xFG F) z p0) (Or.inl rfl) (ci := 39) (C := RX3) (T := TX3) rfl q3688 q3685 q3687 qs87 (xroom hRm (Nat.le_of_ble_eq_true rfl) (Nat.le_of_ble_eq_true rfl)) ⟨by decide, by decide⟩ n_X3_noSpecies rfl (xcat (Nat.le_of_ble_eq_true rfl)) (fun v7 => ?_)
  refine xr_if_eq 15 F dX3_worstYear_10 rfl ?_ ?_
  · refine xr_iconst (-1 : Int32) F dX3_worstYear_15 rfl ?_
    refine xr_letI (fun x2_16 => ?_)
    refine xs_i_n [0, 1] F dX3_worstYear_16 hnL rfl rfl (xk1 rfl rfl (xk2 rfl rfl xk0)) ?_
    refine xr_iconst (0 : Int32) F dX3_worstYear_17 rfl ?_
    refine xr_letI (fun x3_18 => ?_)
    refine xs_i_n [0, 1, 2] F dX3_worstYear_18 hnL rfl rfl (xk2 rfl rfl (xk1 rfl rfl (xk1 rfl rfl xk0))) ?_
    exact xI.sub [2, 3, 1, 0] rfl (fX3_worstYear_p19_ok F hnL hRm hno hmn xFU a0 p0 x2_16 x3_18)
  · refine xr_iconst (0 : Int32) F dX3_worstYear_13 rfl ?_
    exact xr_iret F dX3_worstYear_14
theorem fX3_sum_p38_ok {x : xC} (F : xF x RX3 cX3_sum (some .long)) (hnL : xnL x = 6) (hRm : ∃ dc ds, x.2.2.2.1 = { frames := 7, cells := dc, slots := ds, locals := 145 }) (hno : ∀ pc, xNo x pc) (hmn : xmn x = "sum" ∧ xmy x yX3_sum)  : xI x xeJ 38 [] [] (fX3_sum_p38 ) := by
  unfold fX3_sum_p38
  refine xr_lconst 0 F dX3_sum_38 rfl ?_
  exact xr_lret F dX3_sum_39
theorem fX3_sum_p45_ok {x : xC} (F : xF x RX3 cX3_sum (some .long)) (hnL : xnL x = 6) (hRm : ∃ dc ds, x.2.2.2.1 = { frames := 7, cells := dc, slots := ds, locals := 145 }) (hno : ∀ pc, xNo x pc) (hmn : xmn x = "sum" ∧ xmy x yX3_sum) : ∀ (n : Nat) (l0 : Nat) (l1 : Int32) (l2 : Int32) (l3 : Int64) (l5 : Int32), xI x xeJ 45 [(0, va_rf (some l0)), (1, .int l1), (2, .int l2), (3, .long l3), (5, .int l5)] [] (fX3_sum_p45 n l0 l1 l2 l3 l5) := by
  intro n
  induction n with
  | zero => intro l0 l1 l2 l3 l5; exact xI.stuck
  | succ n ih =>
    intro l0 l1 l2 l3 l5
    unfold fX3_sum_p45
    refine xr_iload 4 F dX3_sum_45 rfl ?_
    refine xr_aload_n 0 (r := (some l0)) F dX3_sum_47 rfl ?_
    refine xr_gR (r := (some l0)) (ref := "ReserveLedgerModel") F dX3_sum_48 (C := RX3) (T := TX3) (N := 25) rfl (by decide) (Or.inl q3395) (Or.inl rfl) (fun v48 => ?_)
    refine xr_iconst (2 : Int32) F dX3_sum_51 rfl ?_
    refine xr_iald (r := v48) F dX3_sum_52 (fun v52 => ?_)
    refine xr_icmp_gt 74 F dX3_sum_53 rfl ?_ ?_
    · refine xr_lload_n 3 F dX3_sum_74 rfl ?_
      exact xr_lret F dX3_sum_75
    · refine xr_lload_n 3 F dX3_sum_56 rfl ?_
      refine xr_aload_n 0 (r := (some l0)) F dX3_sum_57 rfl ?_
      refine xr_iload_n 1 F dX3_sum_58 rfl ?_
      refine xr_iload 4 F dX3_sum_59 rfl ?_
      refine xr_iload_n 2 F dX3_sum_61 rfl ?_
      refine xr_VI (y := yX3_ledgerPart) (As := [.int l1, .int l5, .int l2]) (r := (some l0)) F (hno _) dX3_sum_62 (fun z => fX3_ledgerPart_m (xFG F) z l1 l5 l2) (Or.inl rfl) (ci := 39) (C := RX3) (T := TX3) rfl q3758 q3755 q3757 qs94 (xroom hRm (Nat.le_of_ble_eq_true rfl) (Nat.le_of_ble_eq_true rfl)) ⟨by decide, by decide⟩ n_X3_ledgerPart rfl (xcat (Nat.le_of_ble_eq_true rfl)) (fun v62 => ?_)
      refine xr_i2l F dX3_sum_65 ?_
      refine xr_ladd F dX3_sum_66 ?_
      refine xr_letJ (fun x3_67 => ?_)
      refine xs_l_n [0, 1, 2, 4] F dX3_sum_67 hnL rfl rfl (xk1 rfl rfl (xk1 rfl rfl (xk2 rfl rfl (xk1 rfl rfl xk0)))) (xk21 rfl (xk21 rfl (xk21 rfl (xk21 rfl xk20)))) ?_
      refine xs_inc [4, 0, 1, 2, 3] F dX3_sum_68 rfl hnL rfl rfl (xk1 rfl rfl (xk1 rfl rfl (xk1 rfl rfl (xk1 rfl rfl xk0)))) (fun x5_68 => ?_)
      refine xr_goto 45 F dX3_sum_71 rfl ?_
      exact xI.sub [2, 3, 4, 1, 0] rfl (ih l0 l1 l2 x3_67 x5_68)
theorem fX3_sum_p31_ok {x : xC} (F : xF x RX3 cX3_sum (some .long)) (hnL : xnL x = 6) (hRm : ∃ dc ds, x.2.2.2.1 = { frames := 7, cells := dc, slots := ds, locals := 145 }) (hno : ∀ pc, xNo x pc) (hmn : xmn x = "sum" ∧ xmy x yX3_sum) (l0 : Nat) (l1 : Int32) (l2 : Int32) (s0 : Int32) (s1 : Nat) : xI x xeJ 31 [(0, va_rf (some l0)), (1, .int l1), (2, .int l2)] [.int s0, va_rf (some s1)] (fX3_sum_p31 l0 l1 l2 s0 s1) := by
  unfold fX3_sum_p31
  refine xr_iconst (2 : Int32) F dX3_sum_31 rfl ?_
  refine xr_VI (y := yX3_throwsIf) (As := [.int s0, .int (2 : Int32)]) (r := (some s1)) F (hno _) dX3_sum_32 (fun z => fX3_throwsIf_m (xFG F) z s0 (2 : Int32)) (Or.inl rfl) (ci := 39) (C := RX3) (T := TX3) rfl q3634 q3631 q3633 qs79 (xroom hRm (Nat.le_of_ble_eq_true rfl) (Nat.le_of_ble_eq_true rfl)) ⟨by decide, by decide⟩ n_X3_throwsIf rfl (xcat (Nat.le_of_ble_eq_true rfl)) (fun v32 => ?_)
  refine xr_if_eq 40 F dX3_sum_35 rfl ?_ ?_
  · refine xr_lconst 0 F dX3_sum_40 rfl ?_
    refine xr_letJ (fun x3_41 => ?_)
    refine xs_l_n [0, 1, 2] F dX3_sum_41 hnL rfl rfl (xk1 rfl rfl (xk1 rfl rfl (xk2 rfl rfl xk0))) (xk21 rfl (xk21 rfl (xk21 rfl xk20))) ?_
    refine xr_iconst (0 : Int32) F dX3_sum_42 rfl ?_
    refine xr_letI (fun x5_43 => ?_)
    refine xs_i [0, 1, 2, 3] F dX3_sum_43 hnL rfl rfl (xk1 rfl rfl (xk1 rfl rfl (xk1 rfl rfl (xk1 rfl rfl xk0)))) ?_
    exact xI.sub [2, 3, 4, 1, 0] rfl (fX3_sum_p45_ok F hnL hRm hno hmn xFU l0 l1 l2 x3_41 x5_43)
  · exact xI.sub [] rfl (fX3_sum_p38_ok F hnL hRm hno hmn)
theorem fX3_sum_m {l : Launch} {D : xD} {s0 : State} {b0 : Nat} {Γ : Nat → Option Nat} (G : xG l D s0 b0 Γ) (a0 : Nat) (p0 : Int32) (p1 : Int32) : xMeth l D s0 Γ yX3_sum (Cond.code yX3_sum cX3_sum 6 (some .long)) (7) (145) [.ref a0, .int p0, .int p1] xeJ (fX3_sum a0 p0 p1) := by
  refine xMeth.of (lv0 := [(0, va_rf (some a0)), (1, .int p0), (2, .int p1)]) G (by decide +kernel) (Or.inl rfl) (Nat.le_of_ble_eq_true rfl) rfl (fun x F hnL hRm hmn ht e1 e2 e3 e4 => ?_)
  have hno : ∀ pc, xNo x pc := fun pc z hz => by rw [ht.1 rfl] at hz; cases hz
  unfold fX3_sum
  refine xr_aload_n 0 (r := (some a0)) F dX3_sum_0 rfl ?_
  refine xr_iconst (0 : Int32) F dX3_sum_1 rfl ?_
  refine xr_put (r := (some a0)) (ref := "ReserveLedgerModel") F dX3_sum_2 xk_39 (by decide) (Or.inl q3394) (Or.inl rfl) (Or.inl rfl) ⟨rfl, rfl⟩ ?_
  refine xr_aload_n 0 (r := (some a0)) F dX3_sum_5 rfl ?_
  refine xr_iload_n 1 F dX3_sum_6 rfl ?_
  refine xr_VI (y := yX3_noSpecies) (As := [.int p0]) (r := (some a0)) F (hno _) dX3_sum_7 (fun z => fX3_noSpecies_m (xFG F) z p0) (Or.inl rfl) (ci := 39) (C := RX3) (T := TX3) rfl q3688 q3685 q3687 qs87 (xroom hRm (Nat.le_of_ble_eq_true rfl) (Nat.le_of_ble_eq_true rfl)) ⟨by decide, by decide⟩ n_X3_noSpecies rfl (xcat (Nat.le_of_ble_eq_true rfl)) (fun v7 => ?_)
  refine xr_if_ne 38 F dX3_sum_10 rfl ?_ ?_
  · refine xr_aload_n 0 (r := (some a0)) F dX3_sum_13 rfl ?_
    refine xr_iload_n 2 F dX3_sum_14 rfl ?_
    refine xr_i2l F dX3_sum_15 ?_
    refine xr_lconst 1 F dX3_sum_16 rfl ?_
    refine xr_ldc2 F dX3_sum_17 q3776 ?_
    refine xr_SI (y := yX3_in) (As := [.long p1.toInt64, .long (1 : Int64), .long (4 : Int64)]) F (hno _) dX3_sum_20 (fX3_in_m (xFG F) p1.toInt64 (1 : Int64) (4 : Int64)) (Or.inl rfl) q3544 q144 (Or.inl q3542) q3543 (xroom hRm (Nat.le_of_ble_eq_true rfl) (Nat.le_of_ble_eq_true rfl)) ⟨by decide, by decide⟩ n_X3_in rfl (xcat (Nat.le_of_ble_eq_true rfl)) (fun v20 => ?_)
    refine xr_if_ne 30 F dX3_sum_23 rfl ?_ ?_
    · refine xr_iconst (1 : Int32) F dX3_sum_26 rfl ?_
      refine xr_goto 31 F dX3_sum_27 rfl ?_
      exact xI.sub [0, 1, 2] rfl (fX3_sum_p31_ok F hnL hRm hno hmn a0 p0 p1 (1 : Int32) a0)
    · refine xr_iconst (0 : Int32) F dX3_sum_30 rfl ?_
      exact xI.sub [0, 1, 2] rfl (fX3_sum_p31_ok F hnL hRm hno hmn a0 p0 p1 (0 : Int32) a0)
  · exact xI.sub [] rfl (fX3_sum_p38_ok F hnL hRm hno hmn)
theorem fX3_isGood_p87_ok {x : xC} (F : xF x RX3 cX3_isGood (some .boolean)) (hnL : xnL x = 5) (hRm : ∃ dc ds, x.2.2.2.1 = { frames := 7, cells := dc, slots := ds, locals := 145 }) (hno : ∀ pc, xNo x pc) (hmn : xmn x = "isGood" ∧ xmy x yX3_isGood)  : xI x xeI 87 [] [] (fX3_isGood_p87 ) := by
  unfold fX3_isGood_p87
  refine xr_iconst (1 : Int32) F dX3_isGood_87 rfl ?_
  refine xr_goto 92 F dX3_isGood_88 rfl ?_
  exact xr_zret F dX3_isGood_92 rfl
theorem fX3_isGood_m {l : Launch} {D : xD} {s0 : State} {b0 : Nat} {Γ : Nat → Option Nat} (G : xG l D s0 b0 Γ) (a0 : Nat) (p0 : Int32) (p1 : Int32) : xMeth l D s0 Γ yX3_isGood (Cond.code yX3_isGood cX3_isGood 5 (some .boolean)) (7) (145) [.ref a0, .int p0, .int p1] xeI (fX3_isGood a0 p0 p1) := by
  refine xMeth.of (lv0 := [(0, va_rf (some a0)), (1, .int p0), (2, .int p1)]) G (by decide +kernel) (Or.inl rfl) (Nat.le_of_ble_eq_true rfl) rfl (fun x F hnL hRm hmn ht e1 e2 e3 e4 => ?_)
  have hno : ∀ pc, xNo x pc := fun pc z hz => by rw [ht.1 rfl] at hz; cases hz
  unfold fX3_isGood
  refine xr_aload_n 0 (r := (some a0)) F dX3_isGood_0 rfl ?_
  refine xr_iload_n 1 F dX3_isGood_1 rfl ?_
  refine xr_iload_n 2 F dX3_isGood_2 rfl ?_
  refine xr_iconst (0 : Int32) F dX3_isGood_3 rfl ?_
  refine xr_VI (y := yX3_ledgerPart) (As := [.int p0, .int p1, .int (0 : Int32)]) (r := (some a0)) F (hno _) dX3_isGood_4 (fun z => fX3_ledgerPart_m (xFG F) z p0 p1 (0 : Int32)) (Or.inl rfl) (ci := 39) (C := RX3) (T := TX3) rfl q3758 q3755 q3757 qs94 (xroom hRm (Nat.le_of_ble_eq_true rfl) (Nat.le_of_ble_eq_true rfl)) ⟨by decide, by decide⟩ n_X3_ledgerPart rfl (xcat (Nat.le_of_ble_eq_true rfl)) (fun v4 => ?_)
  refine xr_i2l F dX3_isGood_7 ?_
  refine xr_aload_n 0 (r := (some a0)) F dX3_isGood_8 rfl ?_
  refine xr_iload_n 1 F dX3_isGood_9 rfl ?_
  refine xr_iload_n 2 F dX3_isGood_10 rfl ?_
  refine xr_iconst (1 : Int32) F dX3_isGood_11 rfl ?_
  refine xr_VI (y := yX3_ledgerPart) (As := [.int p0, .int p1, .int (1 : Int32)]) (r := (some a0)) F (hno _) dX3_isGood_12 (fun z => fX3_ledgerPart_m (xFG F) z p0 p1 (1 : Int32)) (Or.inl rfl) (ci := 39) (C := RX3) (T := TX3) rfl q3758 q3755 q3757 qs94 (xroom hRm (Nat.le_of_ble_eq_true rfl) (Nat.le_of_ble_eq_true rfl)) ⟨by decide, by decide⟩ n_X3_ledgerPart rfl (xcat (Nat.le_of_ble_eq_true rfl)) (fun v12 => ?_)
  refine xr_i2l F dX3_isGood_15 ?_
  refine xr_ladd F dX3_isGood_16 ?_
  refine xr_aload_n 0 (r := (some a0)) F dX3_isGood_17 rfl ?_
  refine xr_iload_n 1 F dX3_isGood_18 rfl ?_
  refine xr_iload_n 2 F dX3_isGood_19 rfl ?_
  refine xr_iconst (4 : Int32) F dX3_isGood_20 rfl ?_
  refine xr_VI (y := yX3_ledgerPart) (As := [.int p0, .int p1, .int (4 : Int32)]) (r := (some a0)) F (hno _) dX3_isGood_21 (fun z => fX3_ledgerPart_m (xFG F) z p0 p1 (4 : Int32)) (Or.inl rfl) (ci := 39) (C := RX3) (T := TX3) rfl q3758 q3755 q3757 qs94 (xroom hRm (Nat.le_of_ble_eq_true rfl) (Nat.le_of_ble_eq_true rfl)) ⟨by decide, by decide⟩ n_X3_ledgerPart rfl (xcat (Nat.le_of_ble_eq_true rfl)) (fun v21 => ?_)
  refine xr_i2l F dX3_isGood_24 ?_
  refine xr_ladd F dX3_isGood_25 ?_
  refine xr_aload_n 0 (r := (some a0)) F dX3_isGood_26 rfl ?_
  refine xr_iload_n 1 F dX3_isGood_27 rfl ?_
  refine xr_iload_n 2 F dX3_isGood_28 rfl ?_
  refine xr_iconst (2 : Int32) F dX3_isGood_29 rfl ?_
  refine xr_VI (y := yX3_ledgerPart) (As := [.int p0, .int p1, .int (2 : Int32)]) (r := (some a0)) F (hno _) dX3_isGood_30 (fun z => fX3_ledgerPart_m (xFG F) z p0 p1 (2 : Int32)) (Or.inl rfl) (ci := 39) (C := RX3) (T := TX3) rfl q3758 q3755 q3757 qs94 (xroom hRm (Nat.le_of_ble_eq_true rfl) (Nat.le_of_ble_eq_true rfl)) ⟨by decide, by decide⟩ n_X3_ledgerPart rfl (xcat (Nat.le_of_ble_eq_true rfl)) (fun v30 => ?_)
  refine xr_i2l F dX3_isGood_33 ?_
  refine xr_lsub F dX3_isGood_34 ?_
  refine xr_aload_n 0 (r := (some a0)) F dX3_isGood_35 rfl ?_
  refine xr_iload_n 1 F dX3_isGood_36 rfl ?_
  refine xr_iload_n 2 F dX3_isGood_37 rfl ?_
  refine xr_iconst (3 : Int32) F dX3_isGood_38 rfl ?_
  refine xr_VI (y := yX3_ledgerPart) (As := [.int p0, .int p1, .int (3 : Int32)]) (r := (some a0)) F (hno _) dX3_isGood_39 (fun z => fX3_ledgerPart_m (xFG F) z p0 p1 (3 : Int32)) (Or.inl rfl) (ci := 39) (C := RX3) (T := TX3) rfl q3758 q3755 q3757 qs94 (xroom hRm (Nat.le_of_ble_eq_true rfl) (Nat.le_of_ble_eq_true rfl)) ⟨by decide, by decide⟩ n_X3_ledgerPart rfl (xcat (Nat.le_of_ble_eq_true rfl)) (fun v39 => ?_)
  refine xr_i2l F dX3_isGood_42 ?_
  refine xr_lsub F dX3_isGood_43 ?_
  refine xr_letJ (fun x3_44 => ?_)
  refine xs_l_n [0, 1, 2] F dX3_isGood_44 hnL rfl rfl (xk1 rfl rfl (xk1 rfl rfl (xk2 rfl rfl xk0))) (xk21 rfl (xk21 rfl (xk21 rfl xk20))) ?_
  refine xr_lload_n 0 F dX3_isGood_45 rfl ?_
  refine xr_aload_n 1 (r := (some a0)) F dX3_isGood_46 rfl ?_
  refine xr_iload_n 2 F dX3_isGood_47 rfl ?_
  refine xr_iload_n 3 F dX3_isGood_48 rfl ?_
  refine xr_iconst (5 : Int32) F dX3_isGood_49 rfl ?_
  refine xr_VI (y := yX3_ledgerPart) (As := [.int p0, .int p1, .int (5 : Int32)]) (r := (some a0)) F (hno _) dX3_isGood_50 (fun z => fX3_ledgerPart_m (xFG F) z p0 p1 (5 : Int32)) (Or.inl rfl) (ci := 39) (C := RX3) (T := TX3) rfl q3758 q3755 q3757 qs94 (xroom hRm (Nat.le_of_ble_eq_true rfl) (Nat.le_of_ble_eq_true rfl)) ⟨by decide, by decide⟩ n_X3_ledgerPart rfl (xcat (Nat.le_of_ble_eq_true rfl)) (fun v50 => ?_)
  refine xr_i2l F dX3_isGood_53 ?_
  refine xr_lcmp F dX3_isGood_54 ?_
  refine xr_if_ne 91 F dX3_isGood_55 rfl ?_ ?_
  · refine xr_iload_n 3 F dX3_isGood_58 rfl ?_
    refine xr_aload_n 1 (r := (some a0)) F dX3_isGood_59 rfl ?_
    refine xr_gR (r := (some a0)) (ref := "ReserveLedgerModel") F dX3_isGood_60 (C := RX3) (T := TX3) (N := 25) rfl (by decide) (Or.inl q3395) (Or.inl rfl) (fun v60 => ?_)
    refine xr_iconst (2 : Int32) F dX3_isGood_63 rfl ?_
    refine xr_iald (r := v60) F dX3_isGood_64 (fun v64 => ?_)
    refine xr_icmp_eq 87 F dX3_isGood_65 rfl ?_ ?_
    · exact xI.sub [] rfl (fX3_isGood_p87_ok F hnL hRm hno hmn)
    · refine xr_aload_n 1 (r := (some a0)) F dX3_isGood_68 rfl ?_
      refine xr_iload_n 2 F dX3_isGood_69 rfl ?_
      refine xr_iload_n 3 F dX3_isGood_70 rfl ?_
      refine xr_iconst (5 : Int32) F dX3_isGood_71 rfl ?_
      refine xr_VI (y := yX3_ledgerPart) (As := [.int p0, .int p1, .int (5 : Int32)]) (r := (some a0)) F (hno _) dX3_isGood_72 (fun z => fX3_ledgerPart_m (xFG F) z p0 p1 (5 : Int32)) (Or.inl rfl) (ci := 39) (C := RX3) (T := TX3) rfl q3758 q3755 q3757 qs94 (xroom hRm (Nat.le_of_ble_eq_true rfl) (Nat.le_of_ble_eq_true rfl)) ⟨by decide, by decide⟩ n_X3_ledgerPart rfl (xcat (Nat.le_of_ble_eq_true rfl)) (fun v72 => ?_)
      refine xr_aload_n 1 (r := (some a0)) F dX3_isGood_75 rfl ?_
      refine xr_iload_n 2 F dX3_isGood_76 rfl ?_
      refine xr_iload_n 3 F dX3_isGood_77 rfl ?_
      refine xr_iconst (1 : Int32) F dX3_isGood_78 rfl ?_
      refine xr_iadd F dX3_isGood_79 ?_
      refine xr_iconst (0 : Int32) F dX3_isGood_80 rfl ?_
      refine xr_VI (y := yX3_ledgerPart) (As := [.int p0, .int (p1 + (1 : Int32)), .int (0 : Int32)]) (r := (some a0)) F (hno _) dX3_isGood_81 (fun z => fX3_ledgerPart_m (xFG F) z p0 (p1 + (1 : Int32)) (0 : Int32)) (Or.inl rfl) (ci := 39) (C := RX3) (T := TX3) rfl q3758 q3755 q3757 qs94 (xroom hRm (Nat.le_of_ble_eq_true rfl) (Nat.le_of_ble_eq_true rfl)) ⟨by decide, by decide⟩ n_X3_ledgerPart rfl (xcat (Nat.le_of_ble_eq_true rfl)) (fun v81 => ?_)
      refine xr_icmp_ne 91 F dX3_isGood_84 rfl ?_ ?_
      · exact xI.sub [] rfl (fX3_isGood_p87_ok F hnL hRm hno hmn)
      · refine xr_iconst (0 : Int32) F dX3_isGood_91 rfl ?_
        exact xr_zret F dX3_isGood_92 rfl
  · refine xr_iconst (0 : Int32) F dX3_isGood_91 rfl ?_
    exact xr_zret F dX3_isGood_92 rfl
theorem fX3_isBalanced_p49_ok {x : xC} (F : xF x RX3 cX3_isBalanced (some .boolean)) (hnL : xnL x = 4) (hRm : ∃ dc ds, x.2.2.2.1 = { frames := 8, cells := dc, slots := ds, locals := 169 }) (hno : ∀ pc, xNo x pc) (hmn : xmn x = "isBalanced" ∧ xmy x yX3_isBalanced) {k9 : Nat → Int32 → Int32 → xM (Int32)} {k21 : Nat → Int32 → Int32 → Int32 → xM (Int32)} (hk9 : ∀ (l0 : Nat) (l1 : Int32) (l2 : Int32), xI x xeI 9 [(0, va_rf (some l0)), (1, .int l1), (2, .int l2)] [] (k9 l0 l1 l2)) (hk21 : ∀ (l0 : Nat) (l1 : Int32) (l2 : Int32) (l3 : Int32), xI x xeI 21 [(0, va_rf (some l0)), (1, .int l1), (2, .int l2), (3, .int l3)] [] (k21 l0 l1 l2 l3)) (l0 : Nat) (l2 : Int32) (l3 : Int32) (s0 : Int32) : xI x xeI 49 [(0, va_rf (some l0)), (2, .int l2), (3, .int l3)] [.int s0] (fX3_isBalanced_p49 k9 k21 l0 l2 l3 s0) := by
  unfold fX3_isBalanced_p49
  refine xs_i_n [0, 1, 2] F dX3_isBalanced_49 hnL rfl rfl (xk2 rfl (xrf_cat _) (xk1 rfl rfl (xk1 rfl rfl xk0))) ?_
  refine xs_inc [3, 0, 1, 2] F dX3_isBalanced_50 rfl hnL rfl rfl (xk1 rfl rfl (xk1 rfl rfl (xk2 rfl rfl xk0))) (fun x3_50 => ?_)
  refine xr_goto 21 F dX3_isBalanced_53 rfl ?_
  exact xI.sub [2, 1, 3, 0] rfl (hk21 l0 s0 l2 x3_50)
theorem fX3_isBalanced_p48_ok {x : xC} (F : xF x RX3 cX3_isBalanced (some .boolean)) (hnL : xnL x = 4) (hRm : ∃ dc ds, x.2.2.2.1 = { frames := 8, cells := dc, slots := ds, locals := 169 }) (hno : ∀ pc, xNo x pc) (hmn : xmn x = "isBalanced" ∧ xmy x yX3_isBalanced) {k9 : Nat → Int32 → Int32 → xM (Int32)} {k21 : Nat → Int32 → Int32 → Int32 → xM (Int32)} (hk9 : ∀ (l0 : Nat) (l1 : Int32) (l2 : Int32), xI x xeI 9 [(0, va_rf (some l0)), (1, .int l1), (2, .int l2)] [] (k9 l0 l1 l2)) (hk21 : ∀ (l0 : Nat) (l1 : Int32) (l2 : Int32) (l3 : Int32), xI x xeI 21 [(0, va_rf (some l0)), (1, .int l1), (2, .int l2), (3, .int l3)] [] (k21 l0 l1 l2 l3)) (l0 : Nat) (l2 : Int32) (l3 : Int32) : xI x xeI 48 [(0, va_rf (some l0)), (2, .int l2), (3, .int l3)] [] (fX3_isBalanced_p48 k9 k21 l0 l2 l3) := by
  unfold fX3_isBalanced_p48
  refine xr_iconst (0 : Int32) F dX3_isBalanced_48 rfl ?_
  exact xI.sub [0, 1, 2] rfl (fX3_isBalanced_p49_ok F hnL hRm hno hmn hk9 hk21 l0 l2 l3 (0 : Int32))
theorem fX3_isBalanced_p21_ok {x : xC} (F : xF x RX3 cX3_isBalanced (some .boolean)) (hnL : xnL x = 4) (hRm : ∃ dc ds, x.2.2.2.1 = { frames := 8, cells := dc, slots := ds, locals := 169 }) (hno : ∀ pc, xNo x pc) (hmn : xmn x = "isBalanced" ∧ xmy x yX3_isBalanced) {k9 : Nat → Int32 → Int32 → xM (Int32)} (hk9 : ∀ (l0 : Nat) (l1 : Int32) (l2 : Int32), xI x xeI 9 [(0, va_rf (some l0)), (1, .int l1), (2, .int l2)] [] (k9 l0 l1 l2)) : ∀ (n : Nat) (l0 : Nat) (l1 : Int32) (l2 : Int32) (l3 : Int32), xI x xeI 21 [(0, va_rf (some l0)), (1, .int l1), (2, .int l2), (3, .int l3)] [] (fX3_isBalanced_p21 k9 n l0 l1 l2 l3) := by
  intro n
  induction n with
  | zero => intro l0 l1 l2 l3; exact xI.stuck
  | succ n ih =>
    intro l0 l1 l2 l3
    unfold fX3_isBalanced_p21
    refine xr_iload_n 3 F dX3_isBalanced_21 rfl ?_
    refine xr_aload_n 0 (r := (some l0)) F dX3_isBalanced_22 rfl ?_
    refine xr_gR (r := (some l0)) (ref := "ReserveLedgerModel") F dX3_isBalanced_23 (C := RX3) (T := TX3) (N := 25) rfl (by decide) (Or.inl q3395) (Or.inl rfl) (fun v23 => ?_)
    refine xr_iconst (2 : Int32) F dX3_isBalanced_26 rfl ?_
    refine xr_iald (r := v23) F dX3_isBalanced_27 (fun v27 => ?_)
    refine xr_icmp_gt 56 F dX3_isBalanced_28 rfl ?_ ?_
    · refine xs_inc [2, 0, 1] F dX3_isBalanced_56 rfl hnL rfl rfl (xk1 rfl rfl (xk2 rfl rfl xk0)) (fun x2_56 => ?_)
      refine xr_goto 9 F dX3_isBalanced_59 rfl ?_
      exact xI.sub [1, 2, 0] rfl (hk9 l0 l1 x2_56)
    · refine xr_iload_n 1 F dX3_isBalanced_31 rfl ?_
      refine xr_if_eq 48 F dX3_isBalanced_32 rfl ?_ ?_
      · exact xI.sub [0, 2, 3] rfl (fX3_isBalanced_p48_ok F hnL hRm hno hmn hk9 ih l0 l2 l3)
      · refine xr_aload_n 0 (r := (some l0)) F dX3_isBalanced_35 rfl ?_
        refine xr_iload_n 2 F dX3_isBalanced_36 rfl ?_
        refine xr_iload_n 3 F dX3_isBalanced_37 rfl ?_
        refine xr_VI (y := yX3_isGood) (As := [.int l2, .int l3]) (r := (some l0)) F (hno _) dX3_isBalanced_38 (fun z => fX3_isGood_m (xFG F) z l2 l3) (Or.inl rfl) (ci := 39) (C := RX3) (T := TX3) rfl q3784 q3781 q3783 qs96 (xroom hRm (Nat.le_of_ble_eq_true rfl) (Nat.le_of_ble_eq_true rfl)) ⟨by decide, by decide⟩ n_X3_isGood rfl (xcat (Nat.le_of_ble_eq_true rfl)) (fun v38 => ?_)
        refine xr_if_eq 48 F dX3_isBalanced_41 rfl ?_ ?_
        · exact xI.sub [0, 2, 3] rfl (fX3_isBalanced_p48_ok F hnL hRm hno hmn hk9 ih l0 l2 l3)
        · refine xr_iconst (1 : Int32) F dX3_isBalanced_44 rfl ?_
          refine xr_goto 49 F dX3_isBalanced_45 rfl ?_
          exact xI.sub [0, 2, 3] rfl (fX3_isBalanced_p49_ok F hnL hRm hno hmn hk9 ih l0 l2 l3 (1 : Int32))
theorem fX3_isBalanced_p9_ok {x : xC} (F : xF x RX3 cX3_isBalanced (some .boolean)) (hnL : xnL x = 4) (hRm : ∃ dc ds, x.2.2.2.1 = { frames := 8, cells := dc, slots := ds, locals := 169 }) (hno : ∀ pc, xNo x pc) (hmn : xmn x = "isBalanced" ∧ xmy x yX3_isBalanced) : ∀ (n : Nat) (l0 : Nat) (l1 : Int32) (l2 : Int32), xI x xeI 9 [(0, va_rf (some l0)), (1, .int l1), (2, .int l2)] [] (fX3_isBalanced_p9 n l0 l1 l2) := by
  intro n
  induction n with
  | zero => intro l0 l1 l2; exact xI.stuck
  | succ n ih =>
    intro l0 l1 l2
    unfold fX3_isBalanced_p9
    refine xr_iload_n 2 F dX3_isBalanced_9 rfl ?_
    refine xr_aload_n 0 (r := (some l0)) F dX3_isBalanced_10 rfl ?_
    refine xr_gR (r := (some l0)) (ref := "ReserveLedgerModel") F dX3_isBalanced_11 (C := RX3) (T := TX3) (N := 25) rfl (by decide) (Or.inl q3395) (Or.inl rfl) (fun v11 => ?_)
    refine xr_iconst (0 : Int32) F dX3_isBalanced_14 rfl ?_
    refine xr_iald (r := v11) F dX3_isBalanced_15 (fun v15 => ?_)
    refine xr_icmp_ge 62 F dX3_isBalanced_16 rfl ?_ ?_
    · refine xr_iload_n 1 F dX3_isBalanced_62 rfl ?_
      exact xr_nret F dX3_isBalanced_63
    · refine xr_iconst (0 : Int32) F dX3_isBalanced_19 rfl ?_
      refine xr_letI (fun x3_20 => ?_)
      refine xs_i_n [0, 1, 2] F dX3_isBalanced_20 hnL rfl rfl (xk1 rfl rfl (xk1 rfl rfl (xk2 rfl rfl xk0))) ?_
      exact xI.sub [1, 2, 3, 0] rfl (fX3_isBalanced_p21_ok F hnL hRm hno hmn ih xFU l0 l1 l2 x3_20)
theorem fX3_isBalanced_m {l : Launch} {D : xD} {s0 : State} {b0 : Nat} {Γ : Nat → Option Nat} (G : xG l D s0 b0 Γ) (a0 : Nat) : xMeth l D s0 Γ yX3_isBalanced (Cond.code yX3_isBalanced cX3_isBalanced 4 (some .boolean)) (8) (169) [.ref a0] xeI (fX3_isBalanced a0) := by
  refine xMeth.of (lv0 := [(0, va_rf (some a0))]) G (by decide +kernel) (Or.inl rfl) (Nat.le_of_ble_eq_true rfl) rfl (fun x F hnL hRm hmn ht e1 e2 e3 e4 => ?_)
  have hno : ∀ pc, xNo x pc := fun pc z hz => by rw [ht.1 rfl] at hz; cases hz
  unfold fX3_isBalanced
  refine xr_aload_n 0 (r := (some a0)) F dX3_isBalanced_0 rfl ?_
  refine xr_iconst (0 : Int32) F dX3_isBalanced_1 rfl ?_
  refine xr_put (r := (some a0)) (ref := "ReserveLedgerModel") F dX3_isBalanced_2 xk_39 (by decide) (Or.inl q3394) (Or.inl rfl) (Or.inl rfl) ⟨rfl, rfl⟩ ?_
  refine xr_iconst (1 : Int32) F dX3_isBalanced_5 rfl ?_
  refine xr_letI (fun x1_6 => ?_)
  refine xs_i_n [0] F dX3_isBalanced_6 hnL rfl rfl (xk2 rfl (xrf_cat _) xk0) ?_
  refine xr_iconst (0 : Int32) F dX3_isBalanced_7 rfl ?_
  refine xr_letI (fun x2_8 => ?_)
  refine xs_i_n [0, 1] F dX3_isBalanced_8 hnL rfl rfl (xk2 rfl rfl (xk1 rfl rfl xk0)) ?_
  exact xI.sub [2, 1, 0] rfl (fX3_isBalanced_p9_ok F hnL hRm hno hmn xFU a0 x1_6 x2_8)
theorem fX3_isSighting_m {l : Launch} {D : xD} {s0 : State} {b0 : Nat} {Γ : Nat → Option Nat} (G : xG l D s0 b0 Γ) (a0 : Nat) (p0 : Int32) (p1 : Int32) : xMeth l D s0 Γ yX3_isSighting (Cond.code yX3_isSighting cX3_isSighting 3 (some .boolean)) (3) (55) [.ref a0, .int p0, .int p1] xeI (fX3_isSighting a0 p0 p1) := by
  refine xMeth.of (lv0 := [(0, va_rf (some a0)), (1, .int p0), (2, .int p1)]) G (by decide +kernel) (Or.inl rfl) (Nat.le_of_ble_eq_true rfl) rfl (fun x F hnL hRm hmn ht e1 e2 e3 e4 => ?_)
  have hno : ∀ pc, xNo x pc := fun pc z hz => by rw [ht.1 rfl] at hz; cases hz
  unfold fX3_isSighting
  refine xr_iload_n 2 F dX3_isSighting_0 rfl ?_
  refine xr_i2l F dX3_isSighting_1 ?_
  refine xr_lconst 0 F dX3_isSighting_2 rfl ?_
  refine xr_aload_n 0 (r := (some a0)) F dX3_isSighting_3 rfl ?_
  refine xr_iload_n 1 F dX3_isSighting_4 rfl ?_
  refine xr_bipush (12 : Int32) F dX3_isSighting_5 rfl ?_
  refine xr_VI (y := yX3_of) (As := [.int p0, .int (12 : Int32)]) (r := (some a0)) F (hno _) dX3_isSighting_7 (fun z => fX3_of_m (xFG F) z p0 (12 : Int32)) (Or.inl rfl) (ci := 39) (C := RX3) (T := TX3) rfl q3562 q3559 q3561 qs65 (xroom hRm (Nat.le_of_ble_eq_true rfl) (Nat.le_of_ble_eq_true rfl)) ⟨by decide, by decide⟩ n_X3_of rfl (xcat (Nat.le_of_ble_eq_true rfl)) (fun v7 => ?_)
  refine xr_iconst (1 : Int32) F dX3_isSighting_10 rfl ?_
  refine xr_isub F dX3_isSighting_11 ?_
  refine xr_i2l F dX3_isSighting_12 ?_
  refine xr_SI (y := yX3_in) (As := [.long p1.toInt64, .long (0 : Int64), .long ((v7 - (1 : Int32)).toInt64)]) F (hno _) dX3_isSighting_13 (fX3_in_m (xFG F) p1.toInt64 (0 : Int64) ((v7 - (1 : Int32)).toInt64)) (Or.inl rfl) q3544 q144 (Or.inl q3542) q3543 (xroom hRm (Nat.le_of_ble_eq_true rfl) (Nat.le_of_ble_eq_true rfl)) ⟨by decide, by decide⟩ n_X3_in rfl (xcat (Nat.le_of_ble_eq_true rfl)) (fun v13 => ?_)
  exact xr_nret F dX3_isSighting_16
theorem fX3_sightingOf_m {l : Launch} {D : xD} {s0 : State} {b0 : Nat} {Γ : Nat → Option Nat} (G : xG l D s0 b0 Γ) (a0 : Nat) (p0 : Int32) (p1 : Int32) (p2 : Int32) : xMeth l D s0 Γ yX3_sightingOf (Cond.code yX3_sightingOf cX3_sightingOf 4 (some .int)) (3) (55) [.ref a0, .int p0, .int p1, .int p2] xeI (fX3_sightingOf a0 p0 p1 p2) := by
  refine xMeth.of (lv0 := [(0, va_rf (some a0)), (1, .int p0), (2, .int p1), (3, .int p2)]) G (by decide +kernel) (Or.inl rfl) (Nat.le_of_ble_eq_true rfl) rfl (fun x F hnL hRm hmn ht e1 e2 e3 e4 => ?_)
  have hno : ∀ pc, xNo x pc := fun pc z hz => by rw [ht.1 rfl] at hz; cases hz
  unfold fX3_sightingOf
  refine xr_aload_n 0 (r := (some a0)) F dX3_sightingOf_0 rfl ?_
  refine xr_iload_n 1 F dX3_sightingOf_1 rfl ?_
  refine xr_bipush (52 : Int32) F dX3_sightingOf_2 rfl ?_
  refine xr_iconst (4 : Int32) F dX3_sightingOf_4 rfl ?_
  refine xr_iload_n 2 F dX3_sightingOf_5 rfl ?_
  refine xr_imul F dX3_sightingOf_6 ?_
  refine xr_iadd F dX3_sightingOf_7 ?_
  refine xr_iload_n 3 F dX3_sightingOf_8 rfl ?_
  refine xr_iadd F dX3_sightingOf_9 ?_
  refine xr_VI (y := yX3_of) (As := [.int p0, .int (((52 : Int32) + ((4 : Int32) * p1)) + p2)]) (r := (some a0)) F (hno _) dX3_sightingOf_10 (fun z => fX3_of_m (xFG F) z p0 (((52 : Int32) + ((4 : Int32) * p1)) + p2)) (Or.inl rfl) (ci := 39) (C := RX3) (T := TX3) rfl q3562 q3559 q3561 qs65 (xroom hRm (Nat.le_of_ble_eq_true rfl) (Nat.le_of_ble_eq_true rfl)) ⟨by decide, by decide⟩ n_X3_of rfl (xcat (Nat.le_of_ble_eq_true rfl)) (fun v10 => ?_)
  exact xr_iret F dX3_sightingOf_13
theorem fX3_sighting_p31_ok {x : xC} (F : xF x RX3 cX3_sighting (some .int)) (hnL : xnL x = 4) (hRm : ∃ dc ds, x.2.2.2.1 = { frames := 4, cells := dc, slots := ds, locals := 78 }) (hno : ∀ pc, xNo x pc) (hmn : xmn x = "sighting" ∧ xmy x yX3_sighting) (l0 : Nat) (l1 : Int32) (l2 : Int32) (l3 : Int32) (s0 : Int32) (s1 : Nat) : xI x xeI 31 [(0, va_rf (some l0)), (1, .int l1), (2, .int l2), (3, .int l3)] [.int s0, va_rf (some s1)] (fX3_sighting_p31 l0 l1 l2 l3 s0 s1) := by
  unfold fX3_sighting_p31
  refine xr_iconst (2 : Int32) F dX3_sighting_31 rfl ?_
  refine xr_VI (y := yX3_throwsIf) (As := [.int s0, .int (2 : Int32)]) (r := (some s1)) F (hno _) dX3_sighting_32 (fun z => fX3_throwsIf_m (xFG F) z s0 (2 : Int32)) (Or.inl rfl) (ci := 39) (C := RX3) (T := TX3) rfl q3634 q3631 q3633 qs79 (xroom hRm (Nat.le_of_ble_eq_true rfl) (Nat.le_of_ble_eq_true rfl)) ⟨by decide, by decide⟩ n_X3_throwsIf rfl (xcat (Nat.le_of_ble_eq_true rfl)) (fun v32 => ?_)
  refine xr_if_eq 40 F dX3_sighting_35 rfl ?_ ?_
  · refine xr_aload_n 0 (r := (some l0)) F dX3_sighting_40 rfl ?_
    refine xr_iload_n 1 F dX3_sighting_41 rfl ?_
    refine xr_iload_n 2 F dX3_sighting_42 rfl ?_
    refine xr_VI (y := yX3_isSighting) (As := [.int l1, .int l2]) (r := (some l0)) F (hno _) dX3_sighting_43 (fun z => fX3_isSighting_m (xFG F) z l1 l2) (Or.inl rfl) (ci := 39) (C := RX3) (T := TX3) rfl q3792 q3789 q3791 qs97 (xroom hRm (Nat.le_of_ble_eq_true rfl) (Nat.le_of_ble_eq_true rfl)) ⟨by decide, by decide⟩ n_X3_isSighting rfl (xcat (Nat.le_of_ble_eq_true rfl)) (fun v43 => ?_)
    refine xr_if_eq 59 F dX3_sighting_46 rfl ?_ ?_
    · refine xr_iconst (-1 : Int32) F dX3_sighting_59 rfl ?_
      exact xr_iret F dX3_sighting_60
    · refine xr_aload_n 0 (r := (some l0)) F dX3_sighting_49 rfl ?_
      refine xr_iload_n 1 F dX3_sighting_50 rfl ?_
      refine xr_iload_n 2 F dX3_sighting_51 rfl ?_
      refine xr_iload_n 3 F dX3_sighting_52 rfl ?_
      refine xr_VI (y := yX3_sightingOf) (As := [.int l1, .int l2, .int l3]) (r := (some l0)) F (hno _) dX3_sighting_53 (fun z => fX3_sightingOf_m (xFG F) z l1 l2 l3) (Or.inl rfl) (ci := 39) (C := RX3) (T := TX3) rfl q3796 q3793 q3795 qs98 (xroom hRm (Nat.le_of_ble_eq_true rfl) (Nat.le_of_ble_eq_true rfl)) ⟨by decide, by decide⟩ n_X3_sightingOf rfl (xcat (Nat.le_of_ble_eq_true rfl)) (fun v53 => ?_)
      refine xr_goto 60 F dX3_sighting_56 rfl ?_
      exact xr_iret F dX3_sighting_60
  · refine xr_iconst (0 : Int32) F dX3_sighting_38 rfl ?_
    exact xr_iret F dX3_sighting_39
theorem fX3_sighting_m {l : Launch} {D : xD} {s0 : State} {b0 : Nat} {Γ : Nat → Option Nat} (G : xG l D s0 b0 Γ) (a0 : Nat) (p0 : Int32) (p1 : Int32) (p2 : Int32) : xMeth l D s0 Γ yX3_sighting (Cond.code yX3_sighting cX3_sighting 4 (some .int)) (4) (78) [.ref a0, .int p0, .int p1, .int p2] xeI (fX3_sighting a0 p0 p1 p2) := by
  refine xMeth.of (lv0 := [(0, va_rf (some a0)), (1, .int p0), (2, .int p1), (3, .int p2)]) G (by decide +kernel) (Or.inl rfl) (Nat.le_of_ble_eq_true rfl) rfl (fun x F hnL hRm hmn ht e1 e2 e3 e4 => ?_)
  have hno : ∀ pc, xNo x pc := fun pc z hz => by rw [ht.1 rfl] at hz; cases hz
  unfold fX3_sighting
  refine xr_aload_n 0 (r := (some a0)) F dX3_sighting_0 rfl ?_
  refine xr_iconst (0 : Int32) F dX3_sighting_1 rfl ?_
  refine xr_put (r := (some a0)) (ref := "ReserveLedgerModel") F dX3_sighting_2 xk_39 (by decide) (Or.inl q3394) (Or.inl rfl) (Or.inl rfl) ⟨rfl, rfl⟩ ?_
  refine xr_aload_n 0 (r := (some a0)) F dX3_sighting_5 rfl ?_
  refine xr_iload_n 1 F dX3_sighting_6 rfl ?_
  refine xr_VI (y := yX3_noSpecies) (As := [.int p0]) (r := (some a0)) F (hno _) dX3_sighting_7 (fun z => fX3_noSpecies_m (xFG F) z p0) (Or.inl rfl) (ci := 39) (C := RX3) (T := TX3) rfl q3688 q3685 q3687 qs87 (xroom hRm (Nat.le_of_ble_eq_true rfl) (Nat.le_of_ble_eq_true rfl)) ⟨by decide, by decide⟩ n_X3_noSpecies rfl (xcat (Nat.le_of_ble_eq_true rfl)) (fun v7 => ?_)
  refine xr_if_ne 38 F dX3_sighting_10 rfl ?_ ?_
  · refine xr_aload_n 0 (r := (some a0)) F dX3_sighting_13 rfl ?_
    refine xr_iload_n 3 F dX3_sighting_14 rfl ?_
    refine xr_i2l F dX3_sighting_15 ?_
    refine xr_lconst 0 F dX3_sighting_16 rfl ?_
    refine xr_ldc2 F dX3_sighting_17 q3674 ?_
    refine xr_SI (y := yX3_in) (As := [.long p2.toInt64, .long (0 : Int64), .long (3 : Int64)]) F (hno _) dX3_sighting_20 (fX3_in_m (xFG F) p2.toInt64 (0 : Int64) (3 : Int64)) (Or.inl rfl) q3544 q144 (Or.inl q3542) q3543 (xroom hRm (Nat.le_of_ble_eq_true rfl) (Nat.le_of_ble_eq_true rfl)) ⟨by decide, by decide⟩ n_X3_in rfl (xcat (Nat.le_of_ble_eq_true rfl)) (fun v20 => ?_)
    refine xr_if_ne 30 F dX3_sighting_23 rfl ?_ ?_
    · refine xr_iconst (1 : Int32) F dX3_sighting_26 rfl ?_
      refine xr_goto 31 F dX3_sighting_27 rfl ?_
      exact xI.sub [0, 1, 2, 3] rfl (fX3_sighting_p31_ok F hnL hRm hno hmn a0 p0 p1 p2 (1 : Int32) a0)
    · refine xr_iconst (0 : Int32) F dX3_sighting_30 rfl ?_
      exact xI.sub [0, 1, 2, 3] rfl (fX3_sighting_p31_ok F hnL hRm hno hmn a0 p0 p1 p2 (0 : Int32) a0)
  · refine xr_iconst (0 : Int32) F dX3_sighting_38 rfl ?_
    exact xr_iret F dX3_sighting_39
theorem fX3_estimateOf_m {l : Launch} {D : xD} {s0 : State} {b0 : Nat} {Γ : Nat → Option Nat} (G : xG l D s0 b0 Γ) (a0 : Nat) (p0 : Int32) (p1 : Int32) : xMeth l D s0 Γ yX3_estimateOf (Cond.code yX3_estimateOf cX3_estimateOf 3 (some .long)) (4) (78) [.ref a0, .int p0, .int p1] xeJ (fX3_estimateOf a0 p0 p1) := by
  refine xMeth.of (lv0 := [(0, va_rf (some a0)), (1, .int p0), (2, .int p1)]) G (by decide +kernel) (Or.inl rfl) (Nat.le_of_ble_eq_true rfl) rfl (fun x F hnL hRm hmn ht e1 e2 e3 e4 => ?_)
  have hno : ∀ pc, xNo x pc := fun pc z hz => by rw [ht.1 rfl] at hz; cases hz
  unfold fX3_estimateOf
  refine xr_aload_n 0 (r := (some a0)) F dX3_estimateOf_0 rfl ?_
  refine xr_iload_n 1 F dX3_estimateOf_1 rfl ?_
  refine xr_iload_n 2 F dX3_estimateOf_2 rfl ?_
  refine xr_iconst (1 : Int32) F dX3_estimateOf_3 rfl ?_
  refine xr_VI (y := yX3_sightingOf) (As := [.int p0, .int p1, .int (1 : Int32)]) (r := (some a0)) F (hno _) dX3_estimateOf_4 (fun z => fX3_sightingOf_m (xFG F) z p0 p1 (1 : Int32)) (Or.inl rfl) (ci := 39) (C := RX3) (T := TX3) rfl q3796 q3793 q3795 qs98 (xroom hRm (Nat.le_of_ble_eq_true rfl) (Nat.le_of_ble_eq_true rfl)) ⟨by decide, by decide⟩ n_X3_sightingOf rfl (xcat (Nat.le_of_ble_eq_true rfl)) (fun v4 => ?_)
  refine xr_i2l F dX3_estimateOf_7 ?_
  refine xr_lconst 1 F dX3_estimateOf_8 rfl ?_
  refine xr_ladd F dX3_estimateOf_9 ?_
  refine xr_aload_n 0 (r := (some a0)) F dX3_estimateOf_10 rfl ?_
  refine xr_iload_n 1 F dX3_estimateOf_11 rfl ?_
  refine xr_iload_n 2 F dX3_estimateOf_12 rfl ?_
  refine xr_iconst (2 : Int32) F dX3_estimateOf_13 rfl ?_
  refine xr_VI (y := yX3_sightingOf) (As := [.int p0, .int p1, .int (2 : Int32)]) (r := (some a0)) F (hno _) dX3_estimateOf_14 (fun z => fX3_sightingOf_m (xFG F) z p0 p1 (2 : Int32)) (Or.inl rfl) (ci := 39) (C := RX3) (T := TX3) rfl q3796 q3793 q3795 qs98 (xroom hRm (Nat.le_of_ble_eq_true rfl) (Nat.le_of_ble_eq_true rfl)) ⟨by decide, by decide⟩ n_X3_sightingOf rfl (xcat (Nat.le_of_ble_eq_true rfl)) (fun v14 => ?_)
  refine xr_i2l F dX3_estimateOf_17 ?_
  refine xr_lconst 1 F dX3_estimateOf_18 rfl ?_
  refine xr_ladd F dX3_estimateOf_19 ?_
  refine xr_lmul F dX3_estimateOf_20 ?_
  refine xr_aload_n 0 (r := (some a0)) F dX3_estimateOf_21 rfl ?_
  refine xr_iload_n 1 F dX3_estimateOf_22 rfl ?_
  refine xr_iload_n 2 F dX3_estimateOf_23 rfl ?_
  refine xr_iconst (3 : Int32) F dX3_estimateOf_24 rfl ?_
  refine xr_VI (y := yX3_sightingOf) (As := [.int p0, .int p1, .int (3 : Int32)]) (r := (some a0)) F (hno _) dX3_estimateOf_25 (fun z => fX3_sightingOf_m (xFG F) z p0 p1 (3 : Int32)) (Or.inl rfl) (ci := 39) (C := RX3) (T := TX3) rfl q3796 q3793 q3795 qs98 (xroom hRm (Nat.le_of_ble_eq_true rfl) (Nat.le_of_ble_eq_true rfl)) ⟨by decide, by decide⟩ n_X3_sightingOf rfl (xcat (Nat.le_of_ble_eq_true rfl)) (fun v25 => ?_)
  refine xr_i2l F dX3_estimateOf_28 ?_
  refine xr_lconst 1 F dX3_estimateOf_29 rfl ?_
  refine xr_ladd F dX3_estimateOf_30 ?_
  refine xr_ldiv F dX3_estimateOf_31 ?_
  refine xr_lconst 1 F dX3_estimateOf_32 rfl ?_
  refine xr_lsub F dX3_estimateOf_33 ?_
  exact xr_lret F dX3_estimateOf_34
theorem fX3_estimate_m {l : Launch} {D : xD} {s0 : State} {b0 : Nat} {Γ : Nat → Option Nat} (G : xG l D s0 b0 Γ) (a0 : Nat) (p0 : Int32) (p1 : Int32) : xMeth l D s0 Γ yX3_estimate (Cond.code yX3_estimate cX3_estimate 3 (some .long)) (5) (100) [.ref a0, .int p0, .int p1] xeJ (fX3_estimate a0 p0 p1) := by
  refine xMeth.of (lv0 := [(0, va_rf (some a0)), (1, .int p0), (2, .int p1)]) G (by decide +kernel) (Or.inl rfl) (Nat.le_of_ble_eq_true rfl) rfl (fun x F hnL hRm hmn ht e1 e2 e3 e4 => ?_)
  have hno : ∀ pc, xNo x pc := fun pc z hz => by rw [ht.1 rfl] at hz; cases hz
  unfold fX3_estimate
  refine xr_aload_n 0 (r := (some a0)) F dX3_estimate_0 rfl ?_
  refine xr_iconst (0 : Int32) F dX3_estimate_1 rfl ?_
  refine xr_put (r := (some a0)) (ref := "ReserveLedgerModel") F dX3_estimate_2 xk_39 (by decide) (Or.inl q3394) (Or.inl rfl) (Or.inl rfl) ⟨rfl, rfl⟩ ?_
  refine xr_aload_n 0 (r := (some a0)) F dX3_estimate_5 rfl ?_
  refine xr_iload_n 1 F dX3_estimate_6 rfl ?_
  refine xr_VI (y := yX3_noSpecies) (As := [.int p0]) (r := (some a0)) F (hno _) dX3_estimate_7 (fun z => fX3_noSpecies_m (xFG F) z p0) (Or.inl rfl) (ci := 39) (C := RX3) (T := TX3) rfl q3688 q3685 q3687 qs87 (xroom hRm (Nat.le_of_ble_eq_true rfl) (Nat.le_of_ble_eq_true rfl)) ⟨by decide, by decide⟩ n_X3_noSpecies rfl (xcat (Nat.le_of_ble_eq_true rfl)) (fun v7 => ?_)
  refine xr_if_eq 15 F dX3_estimate_10 rfl ?_ ?_
  · refine xr_aload_n 0 (r := (some a0)) F dX3_estimate_15 rfl ?_
    refine xr_iload_n 1 F dX3_estimate_16 rfl ?_
    refine xr_iload_n 2 F dX3_estimate_17 rfl ?_
    refine xr_VI (y := yX3_isSighting) (As := [.int p0, .int p1]) (r := (some a0)) F (hno _) dX3_estimate_18 (fun z => fX3_isSighting_m (xFG F) z p0 p1) (Or.inl rfl) (ci := 39) (C := RX3) (T := TX3) rfl q3792 q3789 q3791 qs97 (xroom hRm (Nat.le_of_ble_eq_true rfl) (Nat.le_of_ble_eq_true rfl)) ⟨by decide, by decide⟩ n_X3_isSighting rfl (xcat (Nat.le_of_ble_eq_true rfl)) (fun v18 => ?_)
    refine xr_if_eq 33 F dX3_estimate_21 rfl ?_ ?_
    · refine xr_ldc2 F dX3_estimate_33 q3805 ?_
      exact xr_lret F dX3_estimate_36
    · refine xr_aload_n 0 (r := (some a0)) F dX3_estimate_24 rfl ?_
      refine xr_iload_n 1 F dX3_estimate_25 rfl ?_
      refine xr_iload_n 2 F dX3_estimate_26 rfl ?_
      refine xr_VJ (y := yX3_estimateOf) (As := [.int p0, .int p1]) (r := (some a0)) F (hno _) dX3_estimate_27 (fun z => fX3_estimateOf_m (xFG F) z p0 p1) (Or.inl rfl) (ci := 39) (C := RX3) (T := TX3) rfl q3804 q3801 q3803 qs99 (xroom hRm (Nat.le_of_ble_eq_true rfl) (Nat.le_of_ble_eq_true rfl)) ⟨by decide, by decide⟩ n_X3_estimateOf rfl (xcat (Nat.le_of_ble_eq_true rfl)) (fun v27 => ?_)
      refine xr_goto 36 F dX3_estimate_30 rfl ?_
      exact xr_lret F dX3_estimate_36
  · refine xr_lconst 0 F dX3_estimate_13 rfl ?_
    exact xr_lret F dX3_estimate_14
theorem fX3_variance_p22_ok {x : xC} (F : xF x RX3 cX3_variance (some .double)) (hnL : xnL x = 9) (hRm : ∃ dc ds, x.2.2.2.1 = { frames := 4, cells := dc, slots := ds, locals := 78 }) (hno : ∀ pc, xNo x pc) (hmn : xmn x = "variance" ∧ xmy x yX3_variance)  : xI x xeD 22 [] [] (fX3_variance_p22 ) := by
  unfold fX3_variance_p22
  refine xr_dconst0 F dX3_variance_22 ?_
  exact xr_dret F dX3_variance_23
theorem fX3_variance_m {l : Launch} {D : xD} {s0 : State} {b0 : Nat} {Γ : Nat → Option Nat} (G : xG l D s0 b0 Γ) (a0 : Nat) (p0 : Int32) (p1 : Int32) : xMeth l D s0 Γ yX3_variance (Cond.code yX3_variance cX3_variance 9 (some .double)) (4) (78) [.ref a0, .int p0, .int p1] xeD (fX3_variance a0 p0 p1) := by
  refine xMeth.of (lv0 := [(0, va_rf (some a0)), (1, .int p0), (2, .int p1)]) G (by decide +kernel) (Or.inl rfl) (Nat.le_of_ble_eq_true rfl) rfl (fun x F hnL hRm hmn ht e1 e2 e3 e4 => ?_)
  have hno : ∀ pc, xNo x pc := fun pc z hz => by rw [ht.1 rfl] at hz; cases hz
  unfold fX3_variance
  refine xr_aload_n 0 (r := (some a0)) F dX3_variance_0 rfl ?_
  refine xr_iconst (0 : Int32) F dX3_variance_1 rfl ?_
  refine xr_put (r := (some a0)) (ref := "ReserveLedgerModel") F dX3_variance_2 xk_39 (by decide) (Or.inl q3394) (Or.inl rfl) (Or.inl rfl) ⟨rfl, rfl⟩ ?_
  refine xr_aload_n 0 (r := (some a0)) F dX3_variance_5 rfl ?_
  refine xr_iload_n 1 F dX3_variance_6 rfl ?_
  refine xr_VI (y := yX3_noSpecies) (As := [.int p0]) (r := (some a0)) F (hno _) dX3_variance_7 (fun z => fX3_noSpecies_m (xFG F) z p0) (Or.inl rfl) (ci := 39) (C := RX3) (T := TX3) rfl q3688 q3685 q3687 qs87 (xroom hRm (Nat.le_of_ble_eq_true rfl) (Nat.le_of_ble_eq_true rfl)) ⟨by decide, by decide⟩ n_X3_noSpecies rfl (xcat (Nat.le_of_ble_eq_true rfl)) (fun v7 => ?_)
  refine xr_if_ne 22 F dX3_variance_10 rfl ?_ ?_
  · refine xr_aload_n 0 (r := (some a0)) F dX3_variance_13 rfl ?_
    refine xr_iload_n 1 F dX3_variance_14 rfl ?_
    refine xr_iload_n 2 F dX3_variance_15 rfl ?_
    refine xr_VI (y := yX3_isSighting) (As := [.int p0, .int p1]) (r := (some a0)) F (hno _) dX3_variance_16 (fun z => fX3_isSighting_m (xFG F) z p0 p1) (Or.inl rfl) (ci := 39) (C := RX3) (T := TX3) rfl q3792 q3789 q3791 qs97 (xroom hRm (Nat.le_of_ble_eq_true rfl) (Nat.le_of_ble_eq_true rfl)) ⟨by decide, by decide⟩ n_X3_isSighting rfl (xcat (Nat.le_of_ble_eq_true rfl)) (fun v16 => ?_)
    refine xr_if_ne 24 F dX3_variance_19 rfl ?_ ?_
    · exact xI.sub [] rfl (fX3_variance_p22_ok F hnL hRm hno hmn)
    · refine xr_aload_n 0 (r := (some a0)) F dX3_variance_24 rfl ?_
      refine xr_iload_n 1 F dX3_variance_25 rfl ?_
      refine xr_iload_n 2 F dX3_variance_26 rfl ?_
      refine xr_iconst (1 : Int32) F dX3_variance_27 rfl ?_
      refine xr_VI (y := yX3_sightingOf) (As := [.int p0, .int p1, .int (1 : Int32)]) (r := (some a0)) F (hno _) dX3_variance_28 (fun z => fX3_sightingOf_m (xFG F) z p0 p1 (1 : Int32)) (Or.inl rfl) (ci := 39) (C := RX3) (T := TX3) rfl q3796 q3793 q3795 qs98 (xroom hRm (Nat.le_of_ble_eq_true rfl) (Nat.le_of_ble_eq_true rfl)) ⟨by decide, by decide⟩ n_X3_sightingOf rfl (xcat (Nat.le_of_ble_eq_true rfl)) (fun v28 => ?_)
      refine xr_i2d F dX3_variance_31 ?_
      refine xr_letD (fun x3_32 => ?_)
      refine xs_d_n [0, 1, 2] F dX3_variance_32 hnL rfl rfl (xk1 rfl rfl (xk1 rfl rfl (xk2 rfl rfl xk0))) (xk21 rfl (xk21 rfl (xk21 rfl xk20))) ?_
      refine xr_aload_n 1 (r := (some a0)) F dX3_variance_33 rfl ?_
      refine xr_iload_n 2 F dX3_variance_34 rfl ?_
      refine xr_iload_n 3 F dX3_variance_35 rfl ?_
      refine xr_iconst (2 : Int32) F dX3_variance_36 rfl ?_
      refine xr_VI (y := yX3_sightingOf) (As := [.int p0, .int p1, .int (2 : Int32)]) (r := (some a0)) F (hno _) dX3_variance_37 (fun z => fX3_sightingOf_m (xFG F) z p0 p1 (2 : Int32)) (Or.inl rfl) (ci := 39) (C := RX3) (T := TX3) rfl q3796 q3793 q3795 qs98 (xroom hRm (Nat.le_of_ble_eq_true rfl) (Nat.le_of_ble_eq_true rfl)) ⟨by decide, by decide⟩ n_X3_sightingOf rfl (xcat (Nat.le_of_ble_eq_true rfl)) (fun v37 => ?_)
      refine xr_i2d F dX3_variance_40 ?_
      refine xr_letD (fun x5_41 => ?_)
      refine xs_d [0, 1, 2, 3] F dX3_variance_41 hnL rfl rfl (xk1 rfl rfl (xk1 rfl rfl (xk1 rfl rfl (xk1 rfl rfl xk0)))) (xk21 rfl (xk21 rfl (xk21 rfl (xk21 rfl xk20)))) ?_
      refine xr_aload_n 2 (r := (some a0)) F dX3_variance_43 rfl ?_
      refine xr_iload_n 3 F dX3_variance_44 rfl ?_
      refine xr_iload_n 4 F dX3_variance_45 rfl ?_
      refine xr_iconst (3 : Int32) F dX3_variance_46 rfl ?_
      refine xr_VI (y := yX3_sightingOf) (As := [.int p0, .int p1, .int (3 : Int32)]) (r := (some a0)) F (hno _) dX3_variance_47 (fun z => fX3_sightingOf_m (xFG F) z p0 p1 (3 : Int32)) (Or.inl rfl) (ci := 39) (C := RX3) (T := TX3) rfl q3796 q3793 q3795 qs98 (xroom hRm (Nat.le_of_ble_eq_true rfl) (Nat.le_of_ble_eq_true rfl)) ⟨by decide, by decide⟩ n_X3_sightingOf rfl (xcat (Nat.le_of_ble_eq_true rfl)) (fun v47 => ?_)
      refine xr_i2d F dX3_variance_50 ?_
      refine xr_letD (fun x7_51 => ?_)
      refine xs_d [0, 1] F dX3_variance_51 hnL rfl rfl (xk1 rfl rfl (xk1 rfl rfl xk0)) (xk21 rfl (xk21 rfl xk20)) ?_
      refine xr_dload_n 2 F dX3_variance_53 rfl ?_
      refine xr_dconst1 F dX3_variance_54 ?_
      refine xr_dadd F dX3_variance_55 ?_
      refine xr_dload 1 F dX3_variance_56 rfl ?_
      refine xr_dconst1 F dX3_variance_58 ?_
      refine xr_dadd F dX3_variance_59 ?_
      refine xr_dmul F dX3_variance_60 ?_
      refine xr_dload_n 2 F dX3_variance_61 rfl ?_
      refine xr_dload 0 F dX3_variance_62 rfl ?_
      refine xr_dsub F dX3_variance_64 ?_
      refine xr_dmul F dX3_variance_65 ?_
      refine xr_dload 1 F dX3_variance_66 rfl ?_
      refine xr_dload 0 F dX3_variance_68 rfl ?_
      refine xr_dsub F dX3_variance_70 ?_
      refine xr_dmul F dX3_variance_71 ?_
      refine xr_dload 0 F dX3_variance_72 rfl ?_
      refine xr_dconst1 F dX3_variance_74 ?_
      refine xr_dadd F dX3_variance_75 ?_
      refine xr_ddiv F dX3_variance_76 ?_
      refine xr_dload 0 F dX3_variance_77 rfl ?_
      refine xr_dconst1 F dX3_variance_79 ?_
      refine xr_dadd F dX3_variance_80 ?_
      refine xr_ddiv F dX3_variance_81 ?_
      refine xr_dload 0 F dX3_variance_82 rfl ?_
      refine xr_ldc2d F dX3_variance_84 q3810 ?_
      refine xr_dadd F dX3_variance_87 ?_
      refine xr_ddiv F dX3_variance_88 ?_
      exact xr_dret F dX3_variance_89
  · exact xI.sub [] rfl (fX3_variance_p22_ok F hnL hRm hno hmn)
theorem fX3_pooled_p23_ok {x : xC} (F : xF x RX3 cX3_pooled (some .double)) (hnL : xnL x = 7) (hRm : ∃ dc ds, x.2.2.2.1 = { frames := 4, cells := dc, slots := ds, locals := 78 }) (hno : ∀ pc, xNo x pc) (hmn : xmn x = "pooled" ∧ xmy x yX3_pooled) : ∀ (n : Nat) (l0 : Nat) (l1 : Int32) (l2 : Int64) (l4 : Int64) (l6 : Int32), xI x xeD 23 [(0, va_rf (some l0)), (1, .int l1), (2, .long l2), (4, .long l4), (6, .int l6)] [] (fX3_pooled_p23 n l0 l1 l2 l4 l6) := by
  intro n
  induction n with
  | zero => intro l0 l1 l2 l4 l6; exact xI.stuck
  | succ n ih =>
    intro l0 l1 l2 l4 l6
    unfold fX3_pooled_p23
    refine xr_iload 4 F dX3_pooled_23 rfl ?_
    refine xr_aload_n 0 (r := (some l0)) F dX3_pooled_25 rfl ?_
    refine xr_iload_n 1 F dX3_pooled_26 rfl ?_
    refine xr_bipush (12 : Int32) F dX3_pooled_27 rfl ?_
    refine xr_VI (y := yX3_of) (As := [.int l1, .int (12 : Int32)]) (r := (some l0)) F (hno _) dX3_pooled_29 (fun z => fX3_of_m (xFG F) z l1 (12 : Int32)) (Or.inl rfl) (ci := 39) (C := RX3) (T := TX3) rfl q3562 q3559 q3561 qs65 (xroom hRm (Nat.le_of_ble_eq_true rfl) (Nat.le_of_ble_eq_true rfl)) ⟨by decide, by decide⟩ n_X3_of rfl (xcat (Nat.le_of_ble_eq_true rfl)) (fun v29 => ?_)
    refine xr_icmp_ge 77 F dX3_pooled_32 rfl ?_ ?_
    · refine xr_lload 3 F dX3_pooled_77 rfl ?_
      refine xr_lconst 0 F dX3_pooled_79 rfl ?_
      refine xr_lcmp F dX3_pooled_80 ?_
      refine xr_if_ne 88 F dX3_pooled_81 rfl ?_ ?_
      · refine xr_dconst0 F dX3_pooled_84 ?_
        refine xr_goto 94 F dX3_pooled_85 rfl ?_
        exact xr_dret F dX3_pooled_94
      · refine xr_lload_n 2 F dX3_pooled_88 rfl ?_
        refine xr_l2d F dX3_pooled_89 ?_
        refine xr_lload 3 F dX3_pooled_90 rfl ?_
        refine xr_l2d F dX3_pooled_92 ?_
        refine xr_ddiv F dX3_pooled_93 ?_
        exact xr_dret F dX3_pooled_94
    · refine xr_lload_n 2 F dX3_pooled_35 rfl ?_
      refine xr_aload_n 0 (r := (some l0)) F dX3_pooled_36 rfl ?_
      refine xr_iload_n 1 F dX3_pooled_37 rfl ?_
      refine xr_iload 4 F dX3_pooled_38 rfl ?_
      refine xr_iconst (2 : Int32) F dX3_pooled_40 rfl ?_
      refine xr_VI (y := yX3_sightingOf) (As := [.int l1, .int l6, .int (2 : Int32)]) (r := (some l0)) F (hno _) dX3_pooled_41 (fun z => fX3_sightingOf_m (xFG F) z l1 l6 (2 : Int32)) (Or.inl rfl) (ci := 39) (C := RX3) (T := TX3) rfl q3796 q3793 q3795 qs98 (xroom hRm (Nat.le_of_ble_eq_true rfl) (Nat.le_of_ble_eq_true rfl)) ⟨by decide, by decide⟩ n_X3_sightingOf rfl (xcat (Nat.le_of_ble_eq_true rfl)) (fun v41 => ?_)
      refine xr_i2l F dX3_pooled_44 ?_
      refine xr_aload_n 0 (r := (some l0)) F dX3_pooled_45 rfl ?_
      refine xr_iload_n 1 F dX3_pooled_46 rfl ?_
      refine xr_iload 4 F dX3_pooled_47 rfl ?_
      refine xr_iconst (1 : Int32) F dX3_pooled_49 rfl ?_
      refine xr_VI (y := yX3_sightingOf) (As := [.int l1, .int l6, .int (1 : Int32)]) (r := (some l0)) F (hno _) dX3_pooled_50 (fun z => fX3_sightingOf_m (xFG F) z l1 l6 (1 : Int32)) (Or.inl rfl) (ci := 39) (C := RX3) (T := TX3) rfl q3796 q3793 q3795 qs98 (xroom hRm (Nat.le_of_ble_eq_true rfl) (Nat.le_of_ble_eq_true rfl)) ⟨by decide, by decide⟩ n_X3_sightingOf rfl (xcat (Nat.le_of_ble_eq_true rfl)) (fun v50 => ?_)
      refine xr_i2l F dX3_pooled_53 ?_
      refine xr_lmul F dX3_pooled_54 ?_
      refine xr_ladd F dX3_pooled_55 ?_
      refine xr_letJ (fun x2_56 => ?_)
      refine xs_l_n [0, 1, 3, 4] F dX3_pooled_56 hnL rfl rfl (xk1 rfl rfl (xk2 rfl rfl (xk1 rfl rfl (xk1 rfl rfl xk0)))) (xk21 rfl (xk21 rfl (xk21 rfl (xk21 rfl xk20)))) ?_
      refine xr_lload 3 F dX3_pooled_57 rfl ?_
      refine xr_aload_n 1 (r := (some l0)) F dX3_pooled_59 rfl ?_
      refine xr_iload_n 2 F dX3_pooled_60 rfl ?_
      refine xr_iload 4 F dX3_pooled_61 rfl ?_
      refine xr_iconst (3 : Int32) F dX3_pooled_63 rfl ?_
      refine xr_VI (y := yX3_sightingOf) (As := [.int l1, .int l6, .int (3 : Int32)]) (r := (some l0)) F (hno _) dX3_pooled_64 (fun z => fX3_sightingOf_m (xFG F) z l1 l6 (3 : Int32)) (Or.inl rfl) (ci := 39) (C := RX3) (T := TX3) rfl q3796 q3793 q3795 qs98 (xroom hRm (Nat.le_of_ble_eq_true rfl) (Nat.le_of_ble_eq_true rfl)) ⟨by decide, by decide⟩ n_X3_sightingOf rfl (xcat (Nat.le_of_ble_eq_true rfl)) (fun v64 => ?_)
      refine xr_i2l F dX3_pooled_67 ?_
      refine xr_ladd F dX3_pooled_68 ?_
      refine xr_letJ (fun x4_69 => ?_)
      refine xs_l [0, 1, 2, 4] F dX3_pooled_69 hnL rfl rfl (xk1 rfl rfl (xk1 rfl rfl (xk1 rfl rfl (xk1 rfl rfl xk0)))) (xk21 rfl (xk21 rfl (xk21 rfl (xk21 rfl xk20)))) ?_
      refine xs_inc [4, 0, 1, 2, 3] F dX3_pooled_71 rfl hnL rfl rfl (xk1 rfl rfl (xk1 rfl rfl (xk1 rfl rfl (xk1 rfl rfl xk0)))) (fun x6_71 => ?_)
      refine xr_goto 23 F dX3_pooled_74 rfl ?_
      exact xI.sub [3, 4, 2, 1, 0] rfl (ih l0 l1 x2_56 x4_69 x6_71)
theorem fX3_pooled_m {l : Launch} {D : xD} {s0 : State} {b0 : Nat} {Γ : Nat → Option Nat} (G : xG l D s0 b0 Γ) (a0 : Nat) (p0 : Int32) : xMeth l D s0 Γ yX3_pooled (Cond.code yX3_pooled cX3_pooled 7 (some .double)) (4) (78) [.ref a0, .int p0] xeD (fX3_pooled a0 p0) := by
  refine xMeth.of (lv0 := [(0, va_rf (some a0)), (1, .int p0)]) G (by decide +kernel) (Or.inl rfl) (Nat.le_of_ble_eq_true rfl) rfl (fun x F hnL hRm hmn ht e1 e2 e3 e4 => ?_)
  have hno : ∀ pc, xNo x pc := fun pc z hz => by rw [ht.1 rfl] at hz; cases hz
  unfold fX3_pooled
  refine xr_aload_n 0 (r := (some a0)) F dX3_pooled_0 rfl ?_
  refine xr_iconst (0 : Int32) F dX3_pooled_1 rfl ?_
  refine xr_put (r := (some a0)) (ref := "ReserveLedgerModel") F dX3_pooled_2 xk_39 (by decide) (Or.inl q3394) (Or.inl rfl) (Or.inl rfl) ⟨rfl, rfl⟩ ?_
  refine xr_aload_n 0 (r := (some a0)) F dX3_pooled_5 rfl ?_
  refine xr_iload_n 1 F dX3_pooled_6 rfl ?_
  refine xr_VI (y := yX3_noSpecies) (As := [.int p0]) (r := (some a0)) F (hno _) dX3_pooled_7 (fun z => fX3_noSpecies_m (xFG F) z p0) (Or.inl rfl) (ci := 39) (C := RX3) (T := TX3) rfl q3688 q3685 q3687 qs87 (xroom hRm (Nat.le_of_ble_eq_true rfl) (Nat.le_of_ble_eq_true rfl)) ⟨by decide, by decide⟩ n_X3_noSpecies rfl (xcat (Nat.le_of_ble_eq_true rfl)) (fun v7 => ?_)
  refine xr_if_eq 15 F dX3_pooled_10 rfl ?_ ?_
  · refine xr_lconst 0 F dX3_pooled_15 rfl ?_
    refine xr_letJ (fun x2_16 => ?_)
    refine xs_l_n [0, 1] F dX3_pooled_16 hnL rfl rfl (xk1 rfl rfl (xk2 rfl rfl xk0)) (xk21 rfl (xk21 rfl xk20)) ?_
    refine xr_lconst 0 F dX3_pooled_17 rfl ?_
    refine xr_letJ (fun x4_18 => ?_)
    refine xs_l [0, 1, 2] F dX3_pooled_18 hnL rfl rfl (xk1 rfl rfl (xk1 rfl rfl (xk1 rfl rfl xk0))) (xk21 rfl (xk21 rfl (xk21 rfl xk20))) ?_
    refine xr_iconst (0 : Int32) F dX3_pooled_20 rfl ?_
    refine xr_letI (fun x6_21 => ?_)
    refine xs_i [0, 1, 2, 3] F dX3_pooled_21 hnL rfl rfl (xk1 rfl rfl (xk1 rfl rfl (xk1 rfl rfl (xk1 rfl rfl xk0)))) ?_
    exact xI.sub [3, 4, 2, 1, 0] rfl (fX3_pooled_p23_ok F hnL hRm hno hmn xFU a0 p0 x2_16 x4_18 x6_21)
  · refine xr_dconst0 F dX3_pooled_13 ?_
    exact xr_dret F dX3_pooled_14
