theorem fX3_cancel_p29_ok {x : xC} (F : xF x RX3 cX3_cancel (some .int)) (hnL : xnL x = 2) (hRm : ∃ dc ds, x.2.2.2.1 = { frames := 3, cells := dc, slots := ds, locals := 58 }) (hno : ∀ pc, xNo x pc) (hmn : xmn x = "cancel" ∧ xmy x yX3_cancel) (l0 : Nat) (l1 : Int32) (s0 : Int32) (s1 : Nat) : xI x xeI 29 [(0, va_rf (some l0)), (1, .int l1)] [.int s0, va_rf (some s1)] (fX3_cancel_p29 l0 l1 s0 s1) := by
  unfold fX3_cancel_p29
  refine xr_iconst (1 : Int32) F dX3_cancel_29 rfl ?_
  refine xr_VI (y := yX3_throwsIf) (As := [.int s0, .int (1 : Int32)]) (r := (some s1)) F (hno _) dX3_cancel_30 (fun z => fX3_throwsIf_m (xFG F) z s0 (1 : Int32)) (Or.inl rfl) (ci := 39) (C := RX3) (T := TX3) rfl q3634 q3631 q3633 qs79 (xroom hRm (Nat.le_of_ble_eq_true rfl) (Nat.le_of_ble_eq_true rfl)) ⟨by decide, by decide⟩ n_X3_throwsIf rfl (xcat (Nat.le_of_ble_eq_true rfl)) (fun v30 => ?_)
  refine xr_if_eq 38 F dX3_cancel_33 rfl ?_ ?_
  · refine xr_aload_n 0 (r := (some l0)) F dX3_cancel_38 rfl ?_
    refine xr_VV (y := yX3_keeps) (As := []) (r := (some l0)) F (hno _) dX3_cancel_39 (fun z => fX3_keeps_m (xFG F) z) (Or.inl rfl) (ci := 39) (C := RX3) (T := TX3) rfl q3877 q3874 q3876 qs107 (xroom hRm (Nat.le_of_ble_eq_true rfl) (Nat.le_of_ble_eq_true rfl)) ⟨by decide, by decide⟩ n_X3_keeps rfl (xcat (Nat.le_of_ble_eq_true rfl)) (fun _ => ?_)
    refine xr_aload_n 0 (r := (some l0)) F dX3_cancel_42 rfl ?_
    refine xr_iload_n 1 F dX3_cancel_43 rfl ?_
    refine xr_VV (y := yX3_removesPlan) (As := [.int l1]) (r := (some l0)) F (hno _) dX3_cancel_44 (fun z => fX3_removesPlan_m (xFG F) z l1) (Or.inl rfl) (ci := 39) (C := RX3) (T := TX3) rfl q3906 q3903 q3905 qs114 (xroom hRm (Nat.le_of_ble_eq_true rfl) (Nat.le_of_ble_eq_true rfl)) ⟨by decide, by decide⟩ n_X3_removesPlan rfl (xcat (Nat.le_of_ble_eq_true rfl)) (fun _ => ?_)
    refine xr_aload_n 0 (r := (some l0)) F dX3_cancel_47 rfl ?_
    refine xr_gR (r := (some l0)) (ref := "ReserveLedgerModel") F dX3_cancel_48 (C := RX3) (T := TX3) (N := 25) rfl (by decide) (Or.inl q3395) (Or.inl rfl) (fun v48 => ?_)
    refine xr_iconst (3 : Int32) F dX3_cancel_51 rfl ?_
    refine xr_iald (r := v48) F dX3_cancel_52 (fun v52 => ?_)
    exact xr_iret F dX3_cancel_53
  · refine xr_iconst (0 : Int32) F dX3_cancel_36 rfl ?_
    exact xr_iret F dX3_cancel_37
theorem fX3_cancel_m {l : Launch} {D : xD} {s0 : State} {b0 : Nat} {Γ : Nat → Option Nat} (G : xG l D s0 b0 Γ) (a0 : Nat) (p0 : Int32) : xMeth l D s0 Γ yX3_cancel (Cond.code yX3_cancel cX3_cancel 2 (some .int)) (3) (58) [.ref a0, .int p0] xeI (fX3_cancel a0 p0) := by
  refine xMeth.of (lv0 := [(0, va_rf (some a0)), (1, .int p0)]) G (by decide +kernel) (Or.inl rfl) (Nat.le_of_ble_eq_true rfl) rfl (fun x F hnL hRm hmn ht e1 e2 e3 e4 => ?_)
  have hno : ∀ pc, xNo x pc := fun pc z hz => by rw [ht.1 rfl] at hz; cases hz
  unfold fX3_cancel
  refine xr_aload_n 0 (r := (some a0)) F dX3_cancel_0 rfl ?_
  refine xr_iconst (0 : Int32) F dX3_cancel_1 rfl ?_
  refine xr_put (r := (some a0)) (ref := "ReserveLedgerModel") F dX3_cancel_2 xk_39 (by decide) (Or.inl q3394) (Or.inl rfl) (Or.inl rfl) ⟨rfl, rfl⟩ ?_
  refine xr_aload_n 0 (r := (some a0)) F dX3_cancel_5 rfl ?_
  refine xr_iload_n 1 F dX3_cancel_6 rfl ?_
  refine xr_i2l F dX3_cancel_7 ?_
  refine xr_lconst 0 F dX3_cancel_8 rfl ?_
  refine xr_aload_n 0 (r := (some a0)) F dX3_cancel_9 rfl ?_
  refine xr_gR (r := (some a0)) (ref := "ReserveLedgerModel") F dX3_cancel_10 (C := RX3) (T := TX3) (N := 25) rfl (by decide) (Or.inl q3395) (Or.inl rfl) (fun v10 => ?_)
  refine xr_iconst (3 : Int32) F dX3_cancel_13 rfl ?_
  refine xr_iald (r := v10) F dX3_cancel_14 (fun v14 => ?_)
  refine xr_iconst (1 : Int32) F dX3_cancel_15 rfl ?_
  refine xr_isub F dX3_cancel_16 ?_
  refine xr_i2l F dX3_cancel_17 ?_
  refine xr_SI (y := yX3_in) (As := [.long p0.toInt64, .long (0 : Int64), .long ((v14 - (1 : Int32)).toInt64)]) F (hno _) dX3_cancel_18 (fX3_in_m (xFG F) p0.toInt64 (0 : Int64) ((v14 - (1 : Int32)).toInt64)) (Or.inl rfl) q3544 q144 (Or.inl q3542) q3543 (xroom hRm (Nat.le_of_ble_eq_true rfl) (Nat.le_of_ble_eq_true rfl)) ⟨by decide, by decide⟩ n_X3_in rfl (xcat (Nat.le_of_ble_eq_true rfl)) (fun v18 => ?_)
  refine xr_if_ne 28 F dX3_cancel_21 rfl ?_ ?_
  · refine xr_iconst (1 : Int32) F dX3_cancel_24 rfl ?_
    refine xr_goto 29 F dX3_cancel_25 rfl ?_
    exact xI.sub [0, 1] rfl (fX3_cancel_p29_ok F hnL hRm hno hmn a0 p0 (1 : Int32) a0)
  · refine xr_iconst (0 : Int32) F dX3_cancel_28 rfl ?_
    exact xI.sub [0, 1] rfl (fX3_cancel_p29_ok F hnL hRm hno hmn a0 p0 (0 : Int32) a0)
theorem fX3_setSurvival_p32_ok {x : xC} (F : xF x RX3 cX3_setSurvival (some .int)) (hnL : xnL x = 5) (hRm : ∃ dc ds, x.2.2.2.1 = { frames := 5, cells := dc, slots := ds, locals := 98 }) (hno : ∀ pc, xNo x pc) (hmn : xmn x = "setSurvival" ∧ xmy x yX3_setSurvival) (l0 : Nat) (l1 : Int32) (l2 : Int32) (l3 : Int32) (s0 : Int32) (s1 : Nat) : xI x xeI 32 [(0, va_rf (some l0)), (1, .int l1), (2, .int l2), (3, .int l3)] [.int s0, va_rf (some s1)] (fX3_setSurvival_p32 l0 l1 l2 l3 s0 s1) := by
  unfold fX3_setSurvival_p32
  refine xr_iconst (2 : Int32) F dX3_setSurvival_32 rfl ?_
  refine xr_VI (y := yX3_throwsIf) (As := [.int s0, .int (2 : Int32)]) (r := (some s1)) F (hno _) dX3_setSurvival_33 (fun z => fX3_throwsIf_m (xFG F) z s0 (2 : Int32)) (Or.inl rfl) (ci := 39) (C := RX3) (T := TX3) rfl q3634 q3631 q3633 qs79 (xroom hRm (Nat.le_of_ble_eq_true rfl) (Nat.le_of_ble_eq_true rfl)) ⟨by decide, by decide⟩ n_X3_throwsIf rfl (xcat (Nat.le_of_ble_eq_true rfl)) (fun v33 => ?_)
  refine xr_if_eq 41 F dX3_setSurvival_36 rfl ?_ ?_
  · refine xr_aload_n 0 (r := (some l0)) F dX3_setSurvival_41 rfl ?_
    refine xr_VV (y := yX3_keeps) (As := []) (r := (some l0)) F (hno _) dX3_setSurvival_42 (fun z => fX3_keeps_m (xFG F) z) (Or.inl rfl) (ci := 39) (C := RX3) (T := TX3) rfl q3877 q3874 q3876 qs107 (xroom hRm (Nat.le_of_ble_eq_true rfl) (Nat.le_of_ble_eq_true rfl)) ⟨by decide, by decide⟩ n_X3_keeps rfl (xcat (Nat.le_of_ble_eq_true rfl)) (fun _ => ?_)
    refine xr_aload_n 0 (r := (some l0)) F dX3_setSurvival_45 rfl ?_
    refine xr_iload_n 1 F dX3_setSurvival_46 rfl ?_
    refine xr_bipush (13 : Int32) F dX3_setSurvival_47 rfl ?_
    refine xr_iload_n 2 F dX3_setSurvival_49 rfl ?_
    refine xr_iadd F dX3_setSurvival_50 ?_
    refine xr_VI (y := yX3_of) (As := [.int l1, .int ((13 : Int32) + l2)]) (r := (some l0)) F (hno _) dX3_setSurvival_51 (fun z => fX3_of_m (xFG F) z l1 ((13 : Int32) + l2)) (Or.inl rfl) (ci := 39) (C := RX3) (T := TX3) rfl q3562 q3559 q3561 qs65 (xroom hRm (Nat.le_of_ble_eq_true rfl) (Nat.le_of_ble_eq_true rfl)) ⟨by decide, by decide⟩ n_X3_of rfl (xcat (Nat.le_of_ble_eq_true rfl)) (fun v51 => ?_)
    refine xs_i [0, 1, 2, 3] F dX3_setSurvival_54 hnL rfl rfl (xk1 rfl rfl (xk1 rfl rfl (xk1 rfl rfl (xk2 rfl rfl xk0)))) ?_
    refine xr_aload_n 1 (r := (some l0)) F dX3_setSurvival_56 rfl ?_
    refine xr_gR (r := (some l0)) (ref := "ReserveLedgerModel") F dX3_setSurvival_57 (C := RX3) (T := TX3) (N := 25) rfl (by decide) (Or.inl q3395) (Or.inl rfl) (fun v57 => ?_)
    refine xr_iload_n 2 F dX3_setSurvival_60 rfl ?_
    refine xr_bipush (13 : Int32) F dX3_setSurvival_61 rfl ?_
    refine xr_iload_n 3 F dX3_setSurvival_63 rfl ?_
    refine xr_iadd F dX3_setSurvival_64 ?_
    refine xr_SI (y := yX3_at) (As := [.int l1, .int ((13 : Int32) + l2)]) F (hno _) dX3_setSurvival_65 (fX3_at_m (xFG F) l1 ((13 : Int32) + l2)) (Or.inl rfl) q3565 q144 (Or.inl q3563) q3564 (xroom hRm (Nat.le_of_ble_eq_true rfl) (Nat.le_of_ble_eq_true rfl)) ⟨by decide, by decide⟩ n_X3_at rfl (xcat (Nat.le_of_ble_eq_true rfl)) (fun v65 => ?_)
    refine xr_iload_n 4 F dX3_setSurvival_68 rfl ?_
    refine xr_iast (r := v57) F dX3_setSurvival_69 ?_
    refine xr_iload 0 F dX3_setSurvival_70 rfl ?_
    exact xr_iret F dX3_setSurvival_72
  · refine xr_iconst (0 : Int32) F dX3_setSurvival_39 rfl ?_
    exact xr_iret F dX3_setSurvival_40
theorem fX3_setSurvival_m {l : Launch} {D : xD} {s0 : State} {b0 : Nat} {Γ : Nat → Option Nat} (G : xG l D s0 b0 Γ) (a0 : Nat) (p0 : Int32) (p1 : Int32) (p2 : Int32) : xMeth l D s0 Γ yX3_setSurvival (Cond.code yX3_setSurvival cX3_setSurvival 5 (some .int)) (5) (98) [.ref a0, .int p0, .int p1, .int p2] xeI (fX3_setSurvival a0 p0 p1 p2) := by
  refine xMeth.of (lv0 := [(0, va_rf (some a0)), (1, .int p0), (2, .int p1), (3, .int p2)]) G (by decide +kernel) (Or.inl rfl) (Nat.le_of_ble_eq_true rfl) rfl (fun x F hnL hRm hmn ht e1 e2 e3 e4 => ?_)
  have hno : ∀ pc, xNo x pc := fun pc z hz => by rw [ht.1 rfl] at hz; cases hz
  unfold fX3_setSurvival
  refine xr_aload_n 0 (r := (some a0)) F dX3_setSurvival_0 rfl ?_
  refine xr_iconst (0 : Int32) F dX3_setSurvival_1 rfl ?_
  refine xr_put (r := (some a0)) (ref := "ReserveLedgerModel") F dX3_setSurvival_2 xk_39 (by decide) (Or.inl q3394) (Or.inl rfl) (Or.inl rfl) ⟨rfl, rfl⟩ ?_
  refine xr_aload_n 0 (r := (some a0)) F dX3_setSurvival_5 rfl ?_
  refine xr_iload_n 1 F dX3_setSurvival_6 rfl ?_
  refine xr_iload_n 2 F dX3_setSurvival_7 rfl ?_
  refine xr_VI (y := yX3_noAge) (As := [.int p0, .int p1]) (r := (some a0)) F (hno _) dX3_setSurvival_8 (fun z => fX3_noAge_m (xFG F) z p0 p1) (Or.inl rfl) (ci := 39) (C := RX3) (T := TX3) rfl q3702 q3699 q3701 qs89 (xroom hRm (Nat.le_of_ble_eq_true rfl) (Nat.le_of_ble_eq_true rfl)) ⟨by decide, by decide⟩ n_X3_noAge rfl (xcat (Nat.le_of_ble_eq_true rfl)) (fun v8 => ?_)
  refine xr_if_ne 39 F dX3_setSurvival_11 rfl ?_ ?_
  · refine xr_aload_n 0 (r := (some a0)) F dX3_setSurvival_14 rfl ?_
    refine xr_iload_n 3 F dX3_setSurvival_15 rfl ?_
    refine xr_i2l F dX3_setSurvival_16 ?_
    refine xr_lconst 0 F dX3_setSurvival_17 rfl ?_
    refine xr_ldc2 F dX3_setSurvival_18 q3720 ?_
    refine xr_SI (y := yX3_in) (As := [.long p2.toInt64, .long (0 : Int64), .long (1000 : Int64)]) F (hno _) dX3_setSurvival_21 (fX3_in_m (xFG F) p2.toInt64 (0 : Int64) (1000 : Int64)) (Or.inl rfl) q3544 q144 (Or.inl q3542) q3543 (xroom hRm (Nat.le_of_ble_eq_true rfl) (Nat.le_of_ble_eq_true rfl)) ⟨by decide, by decide⟩ n_X3_in rfl (xcat (Nat.le_of_ble_eq_true rfl)) (fun v21 => ?_)
    refine xr_if_ne 31 F dX3_setSurvival_24 rfl ?_ ?_
    · refine xr_iconst (1 : Int32) F dX3_setSurvival_27 rfl ?_
      refine xr_goto 32 F dX3_setSurvival_28 rfl ?_
      exact xI.sub [0, 1, 2, 3] rfl (fX3_setSurvival_p32_ok F hnL hRm hno hmn a0 p0 p1 p2 (1 : Int32) a0)
    · refine xr_iconst (0 : Int32) F dX3_setSurvival_31 rfl ?_
      exact xI.sub [0, 1, 2, 3] rfl (fX3_setSurvival_p32_ok F hnL hRm hno hmn a0 p0 p1 p2 (0 : Int32) a0)
  · refine xr_iconst (0 : Int32) F dX3_setSurvival_39 rfl ?_
    exact xr_iret F dX3_setSurvival_40
theorem fX3_setRoom_p31_ok {x : xC} (F : xF x RX3 cX3_setRoom (some .int)) (hnL : xnL x = 4) (hRm : ∃ dc ds, x.2.2.2.1 = { frames := 3, cells := dc, slots := ds, locals := 58 }) (hno : ∀ pc, xNo x pc) (hmn : xmn x = "setRoom" ∧ xmy x yX3_setRoom) (l0 : Nat) (l1 : Int32) (l2 : Int32) (s0 : Int32) (s1 : Nat) : xI x xeI 31 [(0, va_rf (some l0)), (1, .int l1), (2, .int l2)] [.int s0, va_rf (some s1)] (fX3_setRoom_p31 l0 l1 l2 s0 s1) := by
  unfold fX3_setRoom_p31
  refine xr_iconst (2 : Int32) F dX3_setRoom_31 rfl ?_
  refine xr_VI (y := yX3_throwsIf) (As := [.int s0, .int (2 : Int32)]) (r := (some s1)) F (hno _) dX3_setRoom_32 (fun z => fX3_throwsIf_m (xFG F) z s0 (2 : Int32)) (Or.inl rfl) (ci := 39) (C := RX3) (T := TX3) rfl q3634 q3631 q3633 qs79 (xroom hRm (Nat.le_of_ble_eq_true rfl) (Nat.le_of_ble_eq_true rfl)) ⟨by decide, by decide⟩ n_X3_throwsIf rfl (xcat (Nat.le_of_ble_eq_true rfl)) (fun v32 => ?_)
  refine xr_if_eq 40 F dX3_setRoom_35 rfl ?_ ?_
  · refine xr_aload_n 0 (r := (some l0)) F dX3_setRoom_40 rfl ?_
    refine xr_VV (y := yX3_keeps) (As := []) (r := (some l0)) F (hno _) dX3_setRoom_41 (fun z => fX3_keeps_m (xFG F) z) (Or.inl rfl) (ci := 39) (C := RX3) (T := TX3) rfl q3877 q3874 q3876 qs107 (xroom hRm (Nat.le_of_ble_eq_true rfl) (Nat.le_of_ble_eq_true rfl)) ⟨by decide, by decide⟩ n_X3_keeps rfl (xcat (Nat.le_of_ble_eq_true rfl)) (fun _ => ?_)
    refine xr_aload_n 0 (r := (some l0)) F dX3_setRoom_44 rfl ?_
    refine xr_iload_n 1 F dX3_setRoom_45 rfl ?_
    refine xr_iconst (3 : Int32) F dX3_setRoom_46 rfl ?_
    refine xr_VI (y := yX3_of) (As := [.int l1, .int (3 : Int32)]) (r := (some l0)) F (hno _) dX3_setRoom_47 (fun z => fX3_of_m (xFG F) z l1 (3 : Int32)) (Or.inl rfl) (ci := 39) (C := RX3) (T := TX3) rfl q3562 q3559 q3561 qs65 (xroom hRm (Nat.le_of_ble_eq_true rfl) (Nat.le_of_ble_eq_true rfl)) ⟨by decide, by decide⟩ n_X3_of rfl (xcat (Nat.le_of_ble_eq_true rfl)) (fun v47 => ?_)
    refine xs_i_n [0, 1, 2] F dX3_setRoom_50 hnL rfl rfl (xk1 rfl rfl (xk1 rfl rfl (xk2 rfl rfl xk0))) ?_
    refine xr_aload_n 1 (r := (some l0)) F dX3_setRoom_51 rfl ?_
    refine xr_gR (r := (some l0)) (ref := "ReserveLedgerModel") F dX3_setRoom_52 (C := RX3) (T := TX3) (N := 25) rfl (by decide) (Or.inl q3395) (Or.inl rfl) (fun v52 => ?_)
    refine xr_iload_n 2 F dX3_setRoom_55 rfl ?_
    refine xr_iconst (3 : Int32) F dX3_setRoom_56 rfl ?_
    refine xr_SI (y := yX3_at) (As := [.int l1, .int (3 : Int32)]) F (hno _) dX3_setRoom_57 (fX3_at_m (xFG F) l1 (3 : Int32)) (Or.inl rfl) q3565 q144 (Or.inl q3563) q3564 (xroom hRm (Nat.le_of_ble_eq_true rfl) (Nat.le_of_ble_eq_true rfl)) ⟨by decide, by decide⟩ n_X3_at rfl (xcat (Nat.le_of_ble_eq_true rfl)) (fun v57 => ?_)
    refine xr_iload_n 3 F dX3_setRoom_60 rfl ?_
    refine xr_iast (r := v52) F dX3_setRoom_61 ?_
    refine xr_iload_n 0 F dX3_setRoom_62 rfl ?_
    exact xr_iret F dX3_setRoom_63
  · refine xr_iconst (0 : Int32) F dX3_setRoom_38 rfl ?_
    exact xr_iret F dX3_setRoom_39
theorem fX3_setRoom_m {l : Launch} {D : xD} {s0 : State} {b0 : Nat} {Γ : Nat → Option Nat} (G : xG l D s0 b0 Γ) (a0 : Nat) (p0 : Int32) (p1 : Int32) : xMeth l D s0 Γ yX3_setRoom (Cond.code yX3_setRoom cX3_setRoom 4 (some .int)) (3) (58) [.ref a0, .int p0, .int p1] xeI (fX3_setRoom a0 p0 p1) := by
  refine xMeth.of (lv0 := [(0, va_rf (some a0)), (1, .int p0), (2, .int p1)]) G (by decide +kernel) (Or.inl rfl) (Nat.le_of_ble_eq_true rfl) rfl (fun x F hnL hRm hmn ht e1 e2 e3 e4 => ?_)
  have hno : ∀ pc, xNo x pc := fun pc z hz => by rw [ht.1 rfl] at hz; cases hz
  unfold fX3_setRoom
  refine xr_aload_n 0 (r := (some a0)) F dX3_setRoom_0 rfl ?_
  refine xr_iconst (0 : Int32) F dX3_setRoom_1 rfl ?_
  refine xr_put (r := (some a0)) (ref := "ReserveLedgerModel") F dX3_setRoom_2 xk_39 (by decide) (Or.inl q3394) (Or.inl rfl) (Or.inl rfl) ⟨rfl, rfl⟩ ?_
  refine xr_aload_n 0 (r := (some a0)) F dX3_setRoom_5 rfl ?_
  refine xr_iload_n 1 F dX3_setRoom_6 rfl ?_
  refine xr_VI (y := yX3_noSpecies) (As := [.int p0]) (r := (some a0)) F (hno _) dX3_setRoom_7 (fun z => fX3_noSpecies_m (xFG F) z p0) (Or.inl rfl) (ci := 39) (C := RX3) (T := TX3) rfl q3688 q3685 q3687 qs87 (xroom hRm (Nat.le_of_ble_eq_true rfl) (Nat.le_of_ble_eq_true rfl)) ⟨by decide, by decide⟩ n_X3_noSpecies rfl (xcat (Nat.le_of_ble_eq_true rfl)) (fun v7 => ?_)
  refine xr_if_ne 38 F dX3_setRoom_10 rfl ?_ ?_
  · refine xr_aload_n 0 (r := (some a0)) F dX3_setRoom_13 rfl ?_
    refine xr_iload_n 2 F dX3_setRoom_14 rfl ?_
    refine xr_i2l F dX3_setRoom_15 ?_
    refine xr_lconst 0 F dX3_setRoom_16 rfl ?_
    refine xr_ldc2 F dX3_setRoom_17 q3949 ?_
    refine xr_SI (y := yX3_in) (As := [.long p1.toInt64, .long (0 : Int64), .long (99999 : Int64)]) F (hno _) dX3_setRoom_20 (fX3_in_m (xFG F) p1.toInt64 (0 : Int64) (99999 : Int64)) (Or.inl rfl) q3544 q144 (Or.inl q3542) q3543 (xroom hRm (Nat.le_of_ble_eq_true rfl) (Nat.le_of_ble_eq_true rfl)) ⟨by decide, by decide⟩ n_X3_in rfl (xcat (Nat.le_of_ble_eq_true rfl)) (fun v20 => ?_)
    refine xr_if_ne 30 F dX3_setRoom_23 rfl ?_ ?_
    · refine xr_iconst (1 : Int32) F dX3_setRoom_26 rfl ?_
      refine xr_goto 31 F dX3_setRoom_27 rfl ?_
      exact xI.sub [0, 1, 2] rfl (fX3_setRoom_p31_ok F hnL hRm hno hmn a0 p0 p1 (1 : Int32) a0)
    · refine xr_iconst (0 : Int32) F dX3_setRoom_30 rfl ?_
      exact xI.sub [0, 1, 2] rfl (fX3_setRoom_p31_ok F hnL hRm hno hmn a0 p0 p1 (0 : Int32) a0)
  · refine xr_iconst (0 : Int32) F dX3_setRoom_38 rfl ?_
    exact xr_iret F dX3_setRoom_39
theorem fX3_says_m {l : Launch} {D : xD} {s0 : State} {b0 : Nat} {Γ : Nat → Option Nat} (G : xG l D s0 b0 Γ) (a0 : Nat) (p0 : Int32) : xMeth l D s0 Γ yX3_says (Cond.code yX3_says cX3_says 2 none) (1) (12) [.ref a0, .int p0] xeV (fX3_says a0 p0) := by
  refine xMeth.of (lv0 := [(0, va_rf (some a0)), (1, .int p0)]) G (by decide +kernel) (Or.inl rfl) (Nat.le_of_ble_eq_true rfl) rfl (fun x F hnL hRm hmn ht e1 e2 e3 e4 => ?_)
  have hno : ∀ pc, xNo x pc := fun pc z hz => by rw [ht.1 rfl] at hz; cases hz
  unfold fX3_says
  refine xr_aload_n 0 (r := (some a0)) F dX3_says_0 rfl ?_
  refine xr_gR (r := (some a0)) (ref := "ReserveLedgerModel") F dX3_says_1 (C := RX3) (T := TX3) (N := 25) rfl (by decide) (Or.inl q3417) (Or.inl rfl) (fun v1 => ?_)
  refine xr_aload_n 0 (r := (some a0)) F dX3_says_4 rfl ?_
  refine xr_gI (r := (some a0)) (ref := "ReserveLedgerModel") F dX3_says_5 (C := RX3) (T := TX3) (N := 25) rfl (by decide) (Or.inl q3418) (Or.inl rfl) (fun v5 => ?_)
  refine xr_iload_n 1 F dX3_says_8 rfl ?_
  refine xr_i2b F dX3_says_9 ?_
  refine xr_bast (r := v1) F dX3_says_10 ?_
  refine xr_aload_n 0 (r := (some a0)) F dX3_says_11 rfl ?_
  refine xr_dup F dX3_says_12 (xrf_cat _) ?_
  refine xr_gI (r := (some a0)) (ref := "ReserveLedgerModel") F dX3_says_13 (C := RX3) (T := TX3) (N := 25) rfl (by decide) (Or.inl q3418) (Or.inl rfl) (fun v13 => ?_)
  refine xr_iconst (1 : Int32) F dX3_says_16 rfl ?_
  refine xr_iadd F dX3_says_17 ?_
  refine xr_put (r := (some a0)) (ref := "ReserveLedgerModel") F dX3_says_18 xk_39 (by decide) (Or.inl q3418) (Or.inl rfl) (Or.inl rfl) ⟨rfl, rfl⟩ ?_
  exact xr_vret F dX3_says_21
theorem fX3_saysNumber_p14_ok {x : xC} {S : Nat → Int32 → xM (Unit)} {frS loS : Nat} (hS : ∀ (b0_ : Nat) (b1_ : Int32), xMx x yX3_saysNumber (Cond.code yX3_saysNumber cX3_saysNumber 2 none) frS loS [.ref b0_, .int b1_] xeV (S b0_ b1_)) (F : xF x RX3 cX3_saysNumber none) (hnL : xnL x = 2) (hRm : ∃ dc ds, x.2.2.2.1 = { frames := frS + 2, cells := dc, slots := ds, locals := loS + 33 }) (hno : ∀ pc, xNo x pc) (hmn : xmn x = "saysNumber" ∧ xmy x yX3_saysNumber) (l0 : Nat) (l1 : Int32) : xI x xeV 14 [(0, va_rf (some l0)), (1, .int l1)] [] (fX3_saysNumber_p14 S l0 l1) := by
  unfold fX3_saysNumber_p14
  refine xr_aload_n 0 (r := (some l0)) F dX3_saysNumber_14 rfl ?_
  refine xr_bipush (48 : Int32) F dX3_saysNumber_15 rfl ?_
  refine xr_iload_n 1 F dX3_saysNumber_17 rfl ?_
  refine xr_bipush (10 : Int32) F dX3_saysNumber_18 rfl ?_
  refine xr_irem F dX3_saysNumber_20 ?_
  refine xr_iadd F dX3_saysNumber_21 ?_
  refine xr_VV (y := yX3_says) (As := [.int ((48 : Int32) + (l1 - l1 / (10 : Int32) * (10 : Int32)))]) (r := (some l0)) F (hno _) dX3_saysNumber_22 (fun z => fX3_says_m (xFG F) z ((48 : Int32) + (l1 - l1 / (10 : Int32) * (10 : Int32)))) (Or.inl rfl) (ci := 39) (C := RX3) (T := TX3) rfl q3961 q3958 q3960 qs117 (xroom hRm (by omega) (by omega)) ⟨by decide, by decide⟩ n_X3_says rfl (xcat (Nat.le_of_ble_eq_true rfl)) (fun _ => ?_)
  exact xr_vret F dX3_saysNumber_25
theorem fX3_saysNumber_b_m {l : Launch} {D : xD} {s0 : State} {b0 : Nat} {Γ : Nat → Option Nat} (G : xG l D s0 b0 Γ) {S : Nat → Int32 → xM (Unit)} {frS loS : Nat} (hS : ∀ (b0_ : Nat) (b1_ : Int32), xMeth l D s0 Γ yX3_saysNumber (Cond.code yX3_saysNumber cX3_saysNumber 2 none) frS loS [.ref b0_, .int b1_] xeV (S b0_ b1_)) (a0 : Nat) (p0 : Int32) : xMeth l D s0 Γ yX3_saysNumber (Cond.code yX3_saysNumber cX3_saysNumber 2 none) (frS + 2) (loS + 33) [.ref a0, .int p0] xeV (fX3_saysNumber_b S a0 p0) := by
  refine xMeth.of (lv0 := [(0, va_rf (some a0)), (1, .int p0)]) G (by decide +kernel) (Or.inl rfl) (Nat.le_of_ble_eq_true rfl) rfl (fun x F hnL hRm hmn ht e1 e2 e3 e4 => ?_)
  have hno : ∀ pc, xNo x pc := fun pc z hz => by rw [ht.1 rfl] at hz; cases hz
  have hS : ∀ (b0_ : Nat) (b1_ : Int32), xMx x yX3_saysNumber (Cond.code yX3_saysNumber cX3_saysNumber 2 none) frS loS [.ref b0_, .int b1_] xeV (S b0_ b1_) := by
    intro b0_ b1_
    unfold xMx
    rw [e1, e2, e3, e4]
    exact hS b0_ b1_
  unfold fX3_saysNumber_b
  refine xr_iload_n 1 F dX3_saysNumber_0 rfl ?_
  refine xr_bipush (9 : Int32) F dX3_saysNumber_1 rfl ?_
  refine xr_icmp_le 14 F dX3_saysNumber_3 rfl ?_ ?_
  · exact xI.sub [0, 1] rfl (fX3_saysNumber_p14_ok hS F hnL hRm hno hmn a0 p0)
  · refine xr_aload_n 0 (r := (some a0)) F dX3_saysNumber_6 rfl ?_
    refine xr_iload_n 1 F dX3_saysNumber_7 rfl ?_
    refine xr_bipush (10 : Int32) F dX3_saysNumber_8 rfl ?_
    refine xr_idiv F dX3_saysNumber_10 ?_
    refine xr_VV (y := yX3_saysNumber) (As := [.int (p0 / (10 : Int32))]) (r := (some a0)) F (hno _) dX3_saysNumber_11 (fun z => hS z (p0 / (10 : Int32))) (Or.inl rfl) (ci := 39) (C := RX3) (T := TX3) rfl q3965 q3962 q3964 qs118 (xroom hRm (by omega) (by omega)) ⟨by decide, by decide⟩ n_X3_saysNumber rfl (xcat (Nat.le_of_ble_eq_true rfl)) (fun _ => ?_)
    exact xI.sub [0, 1] rfl (fX3_saysNumber_p14_ok hS F hnL hRm hno hmn a0 p0)
theorem fX3_saysNumber_m {l : Launch} {D : xD} {s0 : State} {b0 : Nat} {Γ : Nat → Option Nat} (G : xG l D s0 b0 Γ) : ∀ (d : Nat) (a0 : Nat) (p0 : Int32), xMeth l D s0 Γ yX3_saysNumber (Cond.code yX3_saysNumber cX3_saysNumber 2 none) (2 * d + 1) (33 * d + 12) [.ref a0, .int p0] xeV (fX3_saysNumber d a0 p0) := by
  intro d
  induction d with
  | zero => intro a0 p0 h n o h2 dc ds he; cases he
  | succ d ih =>
    intro a0 p0
    have e1 : 2 * (d + 1) + 1 = (2 * d + 1) + 2 := by omega
    have e2 : 33 * (d + 1) + 12 = (33 * d + 12) + 33 := by omega
    rw [e1, e2]
    exact fX3_saysNumber_b_m G ih a0 p0
theorem fX3_saysName_p16_ok {x : xC} {S : Nat → Int32 → xM (Unit)} {frS loS : Nat} (hS : ∀ (b0_ : Nat) (b1_ : Int32), xMx x yX3_saysName (Cond.code yX3_saysName cX3_saysName 2 none) frS loS [.ref b0_, .int b1_] xeV (S b0_ b1_)) (F : xF x RX3 cX3_saysName none) (hnL : xnL x = 2) (hRm : ∃ dc ds, x.2.2.2.1 = { frames := frS + 2, cells := dc, slots := ds, locals := loS + 33 }) (hno : ∀ pc, xNo x pc) (hmn : xmn x = "saysName" ∧ xmy x yX3_saysName) (l0 : Nat) (l1 : Int32) : xI x xeV 16 [(0, va_rf (some l0)), (1, .int l1)] [] (fX3_saysName_p16 S l0 l1) := by
  unfold fX3_saysName_p16
  refine xr_aload_n 0 (r := (some l0)) F dX3_saysName_16 rfl ?_
  refine xr_bipush (97 : Int32) F dX3_saysName_17 rfl ?_
  refine xr_iload_n 1 F dX3_saysName_19 rfl ?_
  refine xr_iconst (1 : Int32) F dX3_saysName_20 rfl ?_
  refine xr_isub F dX3_saysName_21 ?_
  refine xr_bipush (27 : Int32) F dX3_saysName_22 rfl ?_
  refine xr_irem F dX3_saysName_24 ?_
  refine xr_iadd F dX3_saysName_25 ?_
  refine xr_VV (y := yX3_says) (As := [.int ((97 : Int32) + ((l1 - (1 : Int32)) - (l1 - (1 : Int32)) / (27 : Int32) * (27 : Int32)))]) (r := (some l0)) F (hno _) dX3_saysName_26 (fun z => fX3_says_m (xFG F) z ((97 : Int32) + ((l1 - (1 : Int32)) - (l1 - (1 : Int32)) / (27 : Int32) * (27 : Int32)))) (Or.inl rfl) (ci := 39) (C := RX3) (T := TX3) rfl q3961 q3958 q3960 qs117 (xroom hRm (by omega) (by omega)) ⟨by decide, by decide⟩ n_X3_says rfl (xcat (Nat.le_of_ble_eq_true rfl)) (fun _ => ?_)
  exact xr_vret F dX3_saysName_29
theorem fX3_saysName_b_m {l : Launch} {D : xD} {s0 : State} {b0 : Nat} {Γ : Nat → Option Nat} (G : xG l D s0 b0 Γ) {S : Nat → Int32 → xM (Unit)} {frS loS : Nat} (hS : ∀ (b0_ : Nat) (b1_ : Int32), xMeth l D s0 Γ yX3_saysName (Cond.code yX3_saysName cX3_saysName 2 none) frS loS [.ref b0_, .int b1_] xeV (S b0_ b1_)) (a0 : Nat) (p0 : Int32) : xMeth l D s0 Γ yX3_saysName (Cond.code yX3_saysName cX3_saysName 2 none) (frS + 2) (loS + 33) [.ref a0, .int p0] xeV (fX3_saysName_b S a0 p0) := by
  refine xMeth.of (lv0 := [(0, va_rf (some a0)), (1, .int p0)]) G (by decide +kernel) (Or.inl rfl) (Nat.le_of_ble_eq_true rfl) rfl (fun x F hnL hRm hmn ht e1 e2 e3 e4 => ?_)
  have hno : ∀ pc, xNo x pc := fun pc z hz => by rw [ht.1 rfl] at hz; cases hz
  have hS : ∀ (b0_ : Nat) (b1_ : Int32), xMx x yX3_saysName (Cond.code yX3_saysName cX3_saysName 2 none) frS loS [.ref b0_, .int b1_] xeV (S b0_ b1_) := by
    intro b0_ b1_
    unfold xMx
    rw [e1, e2, e3, e4]
    exact hS b0_ b1_
  unfold fX3_saysName_b
  refine xr_iload_n 1 F dX3_saysName_0 rfl ?_
  refine xr_bipush (26 : Int32) F dX3_saysName_1 rfl ?_
  refine xr_icmp_le 16 F dX3_saysName_3 rfl ?_ ?_
  · exact xI.sub [0, 1] rfl (fX3_saysName_p16_ok hS F hnL hRm hno hmn a0 p0)
  · refine xr_aload_n 0 (r := (some a0)) F dX3_saysName_6 rfl ?_
    refine xr_iload_n 1 F dX3_saysName_7 rfl ?_
    refine xr_iconst (1 : Int32) F dX3_saysName_8 rfl ?_
    refine xr_isub F dX3_saysName_9 ?_
    refine xr_bipush (27 : Int32) F dX3_saysName_10 rfl ?_
    refine xr_idiv F dX3_saysName_12 ?_
    refine xr_VV (y := yX3_saysName) (As := [.int ((p0 - (1 : Int32)) / (27 : Int32))]) (r := (some a0)) F (hno _) dX3_saysName_13 (fun z => hS z ((p0 - (1 : Int32)) / (27 : Int32))) (Or.inl rfl) (ci := 39) (C := RX3) (T := TX3) rfl q3957 q3954 q3956 qs116 (xroom hRm (by omega) (by omega)) ⟨by decide, by decide⟩ n_X3_saysName rfl (xcat (Nat.le_of_ble_eq_true rfl)) (fun _ => ?_)
    exact xI.sub [0, 1] rfl (fX3_saysName_p16_ok hS F hnL hRm hno hmn a0 p0)
theorem fX3_saysName_m {l : Launch} {D : xD} {s0 : State} {b0 : Nat} {Γ : Nat → Option Nat} (G : xG l D s0 b0 Γ) : ∀ (d : Nat) (a0 : Nat) (p0 : Int32), xMeth l D s0 Γ yX3_saysName (Cond.code yX3_saysName cX3_saysName 2 none) (2 * d + 1) (33 * d + 12) [.ref a0, .int p0] xeV (fX3_saysName d a0 p0) := by
  intro d
  induction d with
  | zero => intro a0 p0 h n o h2 dc ds he; cases he
  | succ d ih =>
    intro a0 p0
    have e1 : 2 * (d + 1) + 1 = (2 * d + 1) + 2 := by omega
    have e2 : 33 * (d + 1) + 12 = (33 * d + 12) + 33 := by omega
    rw [e1, e2]
    exact fX3_saysName_b_m G ih a0 p0
theorem fX3_formatSpecies_p38_ok {x : xC} (F : xF x RX3 cX3_formatSpecies (some .int)) (hnL : xnL x = 3) (hRm : ∃ dc ds, x.2.2.2.1 = { frames := 34, cells := dc, slots := ds, locals := 561 }) (hno : ∀ pc, xNo x pc) (hmn : xmn x = "formatSpecies" ∧ xmy x yX3_formatSpecies) : ∀ (n : Nat) (l0 : Nat) (l1 : Int32) (l2 : Int32), xI x xeI 38 [(0, va_rf (some l0)), (1, .int l1), (2, .int l2)] [] (fX3_formatSpecies_p38 n l0 l1 l2) := by
  intro n
  induction n with
  | zero => intro l0 l1 l2; exact xI.stuck
  | succ n ih =>
    intro l0 l1 l2
    unfold fX3_formatSpecies_p38
    refine xr_iload_n 2 F dX3_formatSpecies_38 rfl ?_
    refine xr_aload_n 0 (r := (some l0)) F dX3_formatSpecies_39 rfl ?_
    refine xr_iload_n 1 F dX3_formatSpecies_40 rfl ?_
    refine xr_VI (y := yX3_oldest) (As := [.int l1]) (r := (some l0)) F (hno _) dX3_formatSpecies_41 (fun z => fX3_oldest_m (xFG F) z l1) (Or.inl rfl) (ci := 39) (C := RX3) (T := TX3) rfl q3583 q3580 q3582 qs68 (xroom hRm (Nat.le_of_ble_eq_true rfl) (Nat.le_of_ble_eq_true rfl)) ⟨by decide, by decide⟩ n_X3_oldest rfl (xcat (Nat.le_of_ble_eq_true rfl)) (fun v41 => ?_)
    refine xr_icmp_gt 69 F dX3_formatSpecies_44 rfl ?_ ?_
    · refine xr_aload_n 0 (r := (some l0)) F dX3_formatSpecies_69 rfl ?_
      refine xr_bipush (32 : Int32) F dX3_formatSpecies_70 rfl ?_
      refine xr_VV (y := yX3_says) (As := [.int (32 : Int32)]) (r := (some l0)) F (hno _) dX3_formatSpecies_72 (fun z => fX3_says_m (xFG F) z (32 : Int32)) (Or.inl rfl) (ci := 39) (C := RX3) (T := TX3) rfl q3961 q3958 q3960 qs117 (xroom hRm (Nat.le_of_ble_eq_true rfl) (Nat.le_of_ble_eq_true rfl)) ⟨by decide, by decide⟩ n_X3_says rfl (xcat (Nat.le_of_ble_eq_true rfl)) (fun _ => ?_)
      refine xr_aload_n 0 (r := (some l0)) F dX3_formatSpecies_75 rfl ?_
      refine xr_bipush (61 : Int32) F dX3_formatSpecies_76 rfl ?_
      refine xr_VV (y := yX3_says) (As := [.int (61 : Int32)]) (r := (some l0)) F (hno _) dX3_formatSpecies_78 (fun z => fX3_says_m (xFG F) z (61 : Int32)) (Or.inl rfl) (ci := 39) (C := RX3) (T := TX3) rfl q3961 q3958 q3960 qs117 (xroom hRm (Nat.le_of_ble_eq_true rfl) (Nat.le_of_ble_eq_true rfl)) ⟨by decide, by decide⟩ n_X3_says rfl (xcat (Nat.le_of_ble_eq_true rfl)) (fun _ => ?_)
      refine xr_aload_n 0 (r := (some l0)) F dX3_formatSpecies_81 rfl ?_
      refine xr_aload_n 0 (r := (some l0)) F dX3_formatSpecies_82 rfl ?_
      refine xr_iload_n 1 F dX3_formatSpecies_83 rfl ?_
      refine xr_VI (y := yX3_totalOf) (As := [.int l1]) (r := (some l0)) F (hno _) dX3_formatSpecies_84 (fun z => fX3_totalOf_m (xFG F) z l1) (Or.inl rfl) (ci := 39) (C := RX3) (T := TX3) rfl q3646 q3643 q3645 qs82 (xroom hRm (Nat.le_of_ble_eq_true rfl) (Nat.le_of_ble_eq_true rfl)) ⟨by decide, by decide⟩ n_X3_totalOf rfl (xcat (Nat.le_of_ble_eq_true rfl)) (fun v84 => ?_)
      refine xr_VV (y := yX3_saysNumber) (As := [.int v84]) (r := (some l0)) F (hno _) dX3_formatSpecies_87 (fun z => fX3_saysNumber_m (xFG F) 16 z v84) (Or.inl rfl) (ci := 39) (C := RX3) (T := TX3) rfl q3965 q3962 q3964 qs118 (xroom hRm (Nat.le_of_ble_eq_true rfl) (Nat.le_of_ble_eq_true rfl)) ⟨by decide, by decide⟩ n_X3_saysNumber rfl (xcat (Nat.le_of_ble_eq_true rfl)) (fun _ => ?_)
      refine xr_aload_n 0 (r := (some l0)) F dX3_formatSpecies_90 rfl ?_
      refine xr_iload_n 1 F dX3_formatSpecies_91 rfl ?_
      refine xr_iconst (4 : Int32) F dX3_formatSpecies_92 rfl ?_
      refine xr_VI (y := yX3_of) (As := [.int l1, .int (4 : Int32)]) (r := (some l0)) F (hno _) dX3_formatSpecies_93 (fun z => fX3_of_m (xFG F) z l1 (4 : Int32)) (Or.inl rfl) (ci := 39) (C := RX3) (T := TX3) rfl q3562 q3559 q3561 qs65 (xroom hRm (Nat.le_of_ble_eq_true rfl) (Nat.le_of_ble_eq_true rfl)) ⟨by decide, by decide⟩ n_X3_of rfl (xcat (Nat.le_of_ble_eq_true rfl)) (fun v93 => ?_)
      refine xr_if_ne 104 F dX3_formatSpecies_96 rfl ?_ ?_
      · refine xr_aload_n 0 (r := (some l0)) F dX3_formatSpecies_99 rfl ?_
        refine xr_gI (r := (some l0)) (ref := "ReserveLedgerModel") F dX3_formatSpecies_100 (C := RX3) (T := TX3) (N := 25) rfl (by decide) (Or.inl q3418) (Or.inl rfl) (fun v100 => ?_)
        exact xr_iret F dX3_formatSpecies_103
      · refine xr_aload_n 0 (r := (some l0)) F dX3_formatSpecies_104 rfl ?_
        refine xr_bipush (32 : Int32) F dX3_formatSpecies_105 rfl ?_
        refine xr_VV (y := yX3_says) (As := [.int (32 : Int32)]) (r := (some l0)) F (hno _) dX3_formatSpecies_107 (fun z => fX3_says_m (xFG F) z (32 : Int32)) (Or.inl rfl) (ci := 39) (C := RX3) (T := TX3) rfl q3961 q3958 q3960 qs117 (xroom hRm (Nat.le_of_ble_eq_true rfl) (Nat.le_of_ble_eq_true rfl)) ⟨by decide, by decide⟩ n_X3_says rfl (xcat (Nat.le_of_ble_eq_true rfl)) (fun _ => ?_)
        refine xr_aload_n 0 (r := (some l0)) F dX3_formatSpecies_110 rfl ?_
        refine xr_bipush (42 : Int32) F dX3_formatSpecies_111 rfl ?_
        refine xr_VV (y := yX3_says) (As := [.int (42 : Int32)]) (r := (some l0)) F (hno _) dX3_formatSpecies_113 (fun z => fX3_says_m (xFG F) z (42 : Int32)) (Or.inl rfl) (ci := 39) (C := RX3) (T := TX3) rfl q3961 q3958 q3960 qs117 (xroom hRm (Nat.le_of_ble_eq_true rfl) (Nat.le_of_ble_eq_true rfl)) ⟨by decide, by decide⟩ n_X3_says rfl (xcat (Nat.le_of_ble_eq_true rfl)) (fun _ => ?_)
        refine xr_aload_n 0 (r := (some l0)) F dX3_formatSpecies_116 rfl ?_
        refine xr_aload_n 0 (r := (some l0)) F dX3_formatSpecies_117 rfl ?_
        refine xr_iload_n 1 F dX3_formatSpecies_118 rfl ?_
        refine xr_iconst (4 : Int32) F dX3_formatSpecies_119 rfl ?_
        refine xr_VI (y := yX3_of) (As := [.int l1, .int (4 : Int32)]) (r := (some l0)) F (hno _) dX3_formatSpecies_120 (fun z => fX3_of_m (xFG F) z l1 (4 : Int32)) (Or.inl rfl) (ci := 39) (C := RX3) (T := TX3) rfl q3562 q3559 q3561 qs65 (xroom hRm (Nat.le_of_ble_eq_true rfl) (Nat.le_of_ble_eq_true rfl)) ⟨by decide, by decide⟩ n_X3_of rfl (xcat (Nat.le_of_ble_eq_true rfl)) (fun v120 => ?_)
        refine xr_VV (y := yX3_saysNumber) (As := [.int v120]) (r := (some l0)) F (hno _) dX3_formatSpecies_123 (fun z => fX3_saysNumber_m (xFG F) 16 z v120) (Or.inl rfl) (ci := 39) (C := RX3) (T := TX3) rfl q3965 q3962 q3964 qs118 (xroom hRm (Nat.le_of_ble_eq_true rfl) (Nat.le_of_ble_eq_true rfl)) ⟨by decide, by decide⟩ n_X3_saysNumber rfl (xcat (Nat.le_of_ble_eq_true rfl)) (fun _ => ?_)
        refine xr_aload_n 0 (r := (some l0)) F dX3_formatSpecies_126 rfl ?_
        refine xr_gI (r := (some l0)) (ref := "ReserveLedgerModel") F dX3_formatSpecies_127 (C := RX3) (T := TX3) (N := 25) rfl (by decide) (Or.inl q3418) (Or.inl rfl) (fun v127 => ?_)
        exact xr_iret F dX3_formatSpecies_130
    · refine xr_aload_n 0 (r := (some l0)) F dX3_formatSpecies_47 rfl ?_
      refine xr_bipush (32 : Int32) F dX3_formatSpecies_48 rfl ?_
      refine xr_VV (y := yX3_says) (As := [.int (32 : Int32)]) (r := (some l0)) F (hno _) dX3_formatSpecies_50 (fun z => fX3_says_m (xFG F) z (32 : Int32)) (Or.inl rfl) (ci := 39) (C := RX3) (T := TX3) rfl q3961 q3958 q3960 qs117 (xroom hRm (Nat.le_of_ble_eq_true rfl) (Nat.le_of_ble_eq_true rfl)) ⟨by decide, by decide⟩ n_X3_says rfl (xcat (Nat.le_of_ble_eq_true rfl)) (fun _ => ?_)
      refine xr_aload_n 0 (r := (some l0)) F dX3_formatSpecies_53 rfl ?_
      refine xr_aload_n 0 (r := (some l0)) F dX3_formatSpecies_54 rfl ?_
      refine xr_iload_n 1 F dX3_formatSpecies_55 rfl ?_
      refine xr_iload_n 2 F dX3_formatSpecies_56 rfl ?_
      refine xr_VI (y := yX3_cohortOf) (As := [.int l1, .int l2]) (r := (some l0)) F (hno _) dX3_formatSpecies_57 (fun z => fX3_cohortOf_m (xFG F) z l1 l2) (Or.inl rfl) (ci := 39) (C := RX3) (T := TX3) rfl q3650 q3647 q3649 qs83 (xroom hRm (Nat.le_of_ble_eq_true rfl) (Nat.le_of_ble_eq_true rfl)) ⟨by decide, by decide⟩ n_X3_cohortOf rfl (xcat (Nat.le_of_ble_eq_true rfl)) (fun v57 => ?_)
      refine xr_VV (y := yX3_saysNumber) (As := [.int v57]) (r := (some l0)) F (hno _) dX3_formatSpecies_60 (fun z => fX3_saysNumber_m (xFG F) 16 z v57) (Or.inl rfl) (ci := 39) (C := RX3) (T := TX3) rfl q3965 q3962 q3964 qs118 (xroom hRm (Nat.le_of_ble_eq_true rfl) (Nat.le_of_ble_eq_true rfl)) ⟨by decide, by decide⟩ n_X3_saysNumber rfl (xcat (Nat.le_of_ble_eq_true rfl)) (fun _ => ?_)
      refine xs_inc [2, 0, 1] F dX3_formatSpecies_63 rfl hnL rfl rfl (xk1 rfl rfl (xk2 rfl rfl xk0)) (fun x2_63 => ?_)
      refine xr_goto 38 F dX3_formatSpecies_66 rfl ?_
      exact xI.sub [1, 2, 0] rfl (ih l0 l1 x2_63)
theorem fX3_formatSpecies_m {l : Launch} {D : xD} {s0 : State} {b0 : Nat} {Γ : Nat → Option Nat} (G : xG l D s0 b0 Γ) (a0 : Nat) (p0 : Int32) : xMeth l D s0 Γ yX3_formatSpecies (Cond.code yX3_formatSpecies cX3_formatSpecies 3 (some .int)) (34) (561) [.ref a0, .int p0] xeI (fX3_formatSpecies a0 p0) := by
  refine xMeth.of (lv0 := [(0, va_rf (some a0)), (1, .int p0)]) G (by decide +kernel) (Or.inl rfl) (Nat.le_of_ble_eq_true rfl) rfl (fun x F hnL hRm hmn ht e1 e2 e3 e4 => ?_)
  have hno : ∀ pc, xNo x pc := fun pc z hz => by rw [ht.1 rfl] at hz; cases hz
  unfold fX3_formatSpecies
  refine xr_aload_n 0 (r := (some a0)) F dX3_formatSpecies_0 rfl ?_
  refine xr_iconst (0 : Int32) F dX3_formatSpecies_1 rfl ?_
  refine xr_put (r := (some a0)) (ref := "ReserveLedgerModel") F dX3_formatSpecies_2 xk_39 (by decide) (Or.inl q3394) (Or.inl rfl) (Or.inl rfl) ⟨rfl, rfl⟩ ?_
  refine xr_aload_n 0 (r := (some a0)) F dX3_formatSpecies_5 rfl ?_
  refine xr_iload_n 1 F dX3_formatSpecies_6 rfl ?_
  refine xr_VI (y := yX3_noSpecies) (As := [.int p0]) (r := (some a0)) F (hno _) dX3_formatSpecies_7 (fun z => fX3_noSpecies_m (xFG F) z p0) (Or.inl rfl) (ci := 39) (C := RX3) (T := TX3) rfl q3688 q3685 q3687 qs87 (xroom hRm (Nat.le_of_ble_eq_true rfl) (Nat.le_of_ble_eq_true rfl)) ⟨by decide, by decide⟩ n_X3_noSpecies rfl (xcat (Nat.le_of_ble_eq_true rfl)) (fun v7 => ?_)
  refine xr_if_eq 15 F dX3_formatSpecies_10 rfl ?_ ?_
  · refine xr_aload_n 0 (r := (some a0)) F dX3_formatSpecies_15 rfl ?_
    refine xr_iconst (0 : Int32) F dX3_formatSpecies_16 rfl ?_
    refine xr_put (r := (some a0)) (ref := "ReserveLedgerModel") F dX3_formatSpecies_17 xk_39 (by decide) (Or.inl q3418) (Or.inl rfl) (Or.inl rfl) ⟨rfl, rfl⟩ ?_
    refine xr_aload_n 0 (r := (some a0)) F dX3_formatSpecies_20 rfl ?_
    refine xr_aload_n 0 (r := (some a0)) F dX3_formatSpecies_21 rfl ?_
    refine xr_iload_n 1 F dX3_formatSpecies_22 rfl ?_
    refine xr_iconst (0 : Int32) F dX3_formatSpecies_23 rfl ?_
    refine xr_VI (y := yX3_of) (As := [.int p0, .int (0 : Int32)]) (r := (some a0)) F (hno _) dX3_formatSpecies_24 (fun z => fX3_of_m (xFG F) z p0 (0 : Int32)) (Or.inl rfl) (ci := 39) (C := RX3) (T := TX3) rfl q3562 q3559 q3561 qs65 (xroom hRm (Nat.le_of_ble_eq_true rfl) (Nat.le_of_ble_eq_true rfl)) ⟨by decide, by decide⟩ n_X3_of rfl (xcat (Nat.le_of_ble_eq_true rfl)) (fun v24 => ?_)
    refine xr_VV (y := yX3_saysName) (As := [.int v24]) (r := (some a0)) F (hno _) dX3_formatSpecies_27 (fun z => fX3_saysName_m (xFG F) 16 z v24) (Or.inl rfl) (ci := 39) (C := RX3) (T := TX3) rfl q3957 q3954 q3956 qs116 (xroom hRm (Nat.le_of_ble_eq_true rfl) (Nat.le_of_ble_eq_true rfl)) ⟨by decide, by decide⟩ n_X3_saysName rfl (xcat (Nat.le_of_ble_eq_true rfl)) (fun _ => ?_)
    refine xr_aload_n 0 (r := (some a0)) F dX3_formatSpecies_30 rfl ?_
    refine xr_bipush (58 : Int32) F dX3_formatSpecies_31 rfl ?_
    refine xr_VV (y := yX3_says) (As := [.int (58 : Int32)]) (r := (some a0)) F (hno _) dX3_formatSpecies_33 (fun z => fX3_says_m (xFG F) z (58 : Int32)) (Or.inl rfl) (ci := 39) (C := RX3) (T := TX3) rfl q3961 q3958 q3960 qs117 (xroom hRm (Nat.le_of_ble_eq_true rfl) (Nat.le_of_ble_eq_true rfl)) ⟨by decide, by decide⟩ n_X3_says rfl (xcat (Nat.le_of_ble_eq_true rfl)) (fun _ => ?_)
    refine xr_iconst (0 : Int32) F dX3_formatSpecies_36 rfl ?_
    refine xr_letI (fun x2_37 => ?_)
    refine xs_i_n [0, 1] F dX3_formatSpecies_37 hnL rfl rfl (xk1 rfl rfl (xk2 rfl rfl xk0)) ?_
    exact xI.sub [1, 2, 0] rfl (fX3_formatSpecies_p38_ok F hnL hRm hno hmn xFU a0 p0 x2_37)
  · refine xr_iconst (0 : Int32) F dX3_formatSpecies_13 rfl ?_
    exact xr_iret F dX3_formatSpecies_14
theorem fX3_saysPart_m {l : Launch} {D : xD} {s0 : State} {b0 : Nat} {Γ : Nat → Option Nat} (G : xG l D s0 b0 Γ) (a0 : Nat) (p0 : Int32) (p1 : Int32) (p2 : Int32) (p3 : Int32) : xMeth l D s0 Γ yX3_saysPart (Cond.code yX3_saysPart cX3_saysPart 5 none) (34) (561) [.ref a0, .int p0, .int p1, .int p2, .int p3] xeV (fX3_saysPart a0 p0 p1 p2 p3) := by
  refine xMeth.of (lv0 := [(0, va_rf (some a0)), (1, .int p0), (2, .int p1), (3, .int p2), (4, .int p3)]) G (by decide +kernel) (Or.inl rfl) (Nat.le_of_ble_eq_true rfl) rfl (fun x F hnL hRm hmn ht e1 e2 e3 e4 => ?_)
  have hno : ∀ pc, xNo x pc := fun pc z hz => by rw [ht.1 rfl] at hz; cases hz
  unfold fX3_saysPart
  refine xr_aload_n 0 (r := (some a0)) F dX3_saysPart_0 rfl ?_
  refine xr_iload_n 1 F dX3_saysPart_1 rfl ?_
  refine xr_VV (y := yX3_says) (As := [.int p0]) (r := (some a0)) F (hno _) dX3_saysPart_2 (fun z => fX3_says_m (xFG F) z p0) (Or.inl rfl) (ci := 39) (C := RX3) (T := TX3) rfl q3961 q3958 q3960 qs117 (xroom hRm (Nat.le_of_ble_eq_true rfl) (Nat.le_of_ble_eq_true rfl)) ⟨by decide, by decide⟩ n_X3_says rfl (xcat (Nat.le_of_ble_eq_true rfl)) (fun _ => ?_)
  refine xr_aload_n 0 (r := (some a0)) F dX3_saysPart_5 rfl ?_
  refine xr_aload_n 0 (r := (some a0)) F dX3_saysPart_6 rfl ?_
  refine xr_iload_n 2 F dX3_saysPart_7 rfl ?_
  refine xr_iload_n 3 F dX3_saysPart_8 rfl ?_
  refine xr_iload 4 F dX3_saysPart_9 rfl ?_
  refine xr_VI (y := yX3_ledgerPart) (As := [.int p1, .int p2, .int p3]) (r := (some a0)) F (hno _) dX3_saysPart_11 (fun z => fX3_ledgerPart_m (xFG F) z p1 p2 p3) (Or.inl rfl) (ci := 39) (C := RX3) (T := TX3) rfl q3758 q3755 q3757 qs94 (xroom hRm (Nat.le_of_ble_eq_true rfl) (Nat.le_of_ble_eq_true rfl)) ⟨by decide, by decide⟩ n_X3_ledgerPart rfl (xcat (Nat.le_of_ble_eq_true rfl)) (fun v11 => ?_)
  refine xr_VV (y := yX3_saysNumber) (As := [.int v11]) (r := (some a0)) F (hno _) dX3_saysPart_14 (fun z => fX3_saysNumber_m (xFG F) 16 z v11) (Or.inl rfl) (ci := 39) (C := RX3) (T := TX3) rfl q3965 q3962 q3964 qs118 (xroom hRm (Nat.le_of_ble_eq_true rfl) (Nat.le_of_ble_eq_true rfl)) ⟨by decide, by decide⟩ n_X3_saysNumber rfl (xcat (Nat.le_of_ble_eq_true rfl)) (fun _ => ?_)
  exact xr_vret F dX3_saysPart_17
theorem fX3_formatLedger_p27_ok {x : xC} (F : xF x RX3 cX3_formatLedger (some .int)) (hnL : xnL x = 4) (hRm : ∃ dc ds, x.2.2.2.1 = { frames := 35, cells := dc, slots := ds, locals := 585 }) (hno : ∀ pc, xNo x pc) (hmn : xmn x = "formatLedger" ∧ xmy x yX3_formatLedger) (l0 : Nat) (l1 : Int32) (l2 : Int32) (s0 : Int32) (s1 : Nat) : xI x xeI 27 [(0, va_rf (some l0)), (1, .int l1), (2, .int l2)] [.int s0, va_rf (some s1)] (fX3_formatLedger_p27 l0 l1 l2 s0 s1) := by
  unfold fX3_formatLedger_p27
  refine xr_iconst (2 : Int32) F dX3_formatLedger_27 rfl ?_
  refine xr_VI (y := yX3_throwsIf) (As := [.int s0, .int (2 : Int32)]) (r := (some s1)) F (hno _) dX3_formatLedger_28 (fun z => fX3_throwsIf_m (xFG F) z s0 (2 : Int32)) (Or.inl rfl) (ci := 39) (C := RX3) (T := TX3) rfl q3634 q3631 q3633 qs79 (xroom hRm (Nat.le_of_ble_eq_true rfl) (Nat.le_of_ble_eq_true rfl)) ⟨by decide, by decide⟩ n_X3_throwsIf rfl (xcat (Nat.le_of_ble_eq_true rfl)) (fun v28 => ?_)
  refine xr_if_eq 36 F dX3_formatLedger_31 rfl ?_ ?_
  · refine xr_iload_n 2 F dX3_formatLedger_36 rfl ?_
    refine xr_aload_n 0 (r := (some l0)) F dX3_formatLedger_37 rfl ?_
    refine xr_VI (y := yX3_firstYear) (As := []) (r := (some l0)) F (hno _) dX3_formatLedger_38 (fun z => fX3_firstYear_m (xFG F) z) (Or.inl rfl) (ci := 39) (C := RX3) (T := TX3) rfl q3754 q3751 q3753 qs93 (xroom hRm (Nat.le_of_ble_eq_true rfl) (Nat.le_of_ble_eq_true rfl)) ⟨by decide, by decide⟩ n_X3_firstYear rfl (xcat (Nat.le_of_ble_eq_true rfl)) (fun v38 => ?_)
    refine xr_isub F dX3_formatLedger_41 ?_
    refine xr_letI (fun x3_42 => ?_)
    refine xs_i_n [0, 1, 2] F dX3_formatLedger_42 hnL rfl rfl (xk1 rfl rfl (xk1 rfl rfl (xk2 rfl rfl xk0))) ?_
    refine xr_aload_n 1 (r := (some l0)) F dX3_formatLedger_43 rfl ?_
    refine xr_iconst (0 : Int32) F dX3_formatLedger_44 rfl ?_
    refine xr_put (r := (some l0)) (ref := "ReserveLedgerModel") F dX3_formatLedger_45 xk_39 (by decide) (Or.inl q3418) (Or.inl rfl) (Or.inl rfl) ⟨rfl, rfl⟩ ?_
    refine xr_aload_n 1 (r := (some l0)) F dX3_formatLedger_48 rfl ?_
    refine xr_iload_n 3 F dX3_formatLedger_49 rfl ?_
    refine xr_VV (y := yX3_saysNumber) (As := [.int l2]) (r := (some l0)) F (hno _) dX3_formatLedger_50 (fun z => fX3_saysNumber_m (xFG F) 16 z l2) (Or.inl rfl) (ci := 39) (C := RX3) (T := TX3) rfl q3965 q3962 q3964 qs118 (xroom hRm (Nat.le_of_ble_eq_true rfl) (Nat.le_of_ble_eq_true rfl)) ⟨by decide, by decide⟩ n_X3_saysNumber rfl (xcat (Nat.le_of_ble_eq_true rfl)) (fun _ => ?_)
    refine xr_aload_n 1 (r := (some l0)) F dX3_formatLedger_53 rfl ?_
    refine xr_bipush (58 : Int32) F dX3_formatLedger_54 rfl ?_
    refine xr_VV (y := yX3_says) (As := [.int (58 : Int32)]) (r := (some l0)) F (hno _) dX3_formatLedger_56 (fun z => fX3_says_m (xFG F) z (58 : Int32)) (Or.inl rfl) (ci := 39) (C := RX3) (T := TX3) rfl q3961 q3958 q3960 qs117 (xroom hRm (Nat.le_of_ble_eq_true rfl) (Nat.le_of_ble_eq_true rfl)) ⟨by decide, by decide⟩ n_X3_says rfl (xcat (Nat.le_of_ble_eq_true rfl)) (fun _ => ?_)
    refine xr_aload_n 1 (r := (some l0)) F dX3_formatLedger_59 rfl ?_
    refine xr_bipush (32 : Int32) F dX3_formatLedger_60 rfl ?_
    refine xr_iload_n 2 F dX3_formatLedger_62 rfl ?_
    refine xr_iload_n 0 F dX3_formatLedger_63 rfl ?_
    refine xr_iconst (0 : Int32) F dX3_formatLedger_64 rfl ?_
    refine xr_VV (y := yX3_saysPart) (As := [.int (32 : Int32), .int l1, .int x3_42, .int (0 : Int32)]) (r := (some l0)) F (hno _) dX3_formatLedger_65 (fun z => fX3_saysPart_m (xFG F) z (32 : Int32) l1 x3_42 (0 : Int32)) (Or.inl rfl) (ci := 39) (C := RX3) (T := TX3) rfl q3973 q3970 q3972 qs119 (xroom hRm (Nat.le_of_ble_eq_true rfl) (Nat.le_of_ble_eq_true rfl)) ⟨by decide, by decide⟩ n_X3_saysPart rfl (xcat (Nat.le_of_ble_eq_true rfl)) (fun _ => ?_)
    refine xr_aload_n 1 (r := (some l0)) F dX3_formatLedger_68 rfl ?_
    refine xr_bipush (43 : Int32) F dX3_formatLedger_69 rfl ?_
    refine xr_iload_n 2 F dX3_formatLedger_71 rfl ?_
    refine xr_iload_n 0 F dX3_formatLedger_72 rfl ?_
    refine xr_iconst (1 : Int32) F dX3_formatLedger_73 rfl ?_
    refine xr_VV (y := yX3_saysPart) (As := [.int (43 : Int32), .int l1, .int x3_42, .int (1 : Int32)]) (r := (some l0)) F (hno _) dX3_formatLedger_74 (fun z => fX3_saysPart_m (xFG F) z (43 : Int32) l1 x3_42 (1 : Int32)) (Or.inl rfl) (ci := 39) (C := RX3) (T := TX3) rfl q3973 q3970 q3972 qs119 (xroom hRm (Nat.le_of_ble_eq_true rfl) (Nat.le_of_ble_eq_true rfl)) ⟨by decide, by decide⟩ n_X3_saysPart rfl (xcat (Nat.le_of_ble_eq_true rfl)) (fun _ => ?_)
    refine xr_aload_n 1 (r := (some l0)) F dX3_formatLedger_77 rfl ?_
    refine xr_bipush (43 : Int32) F dX3_formatLedger_78 rfl ?_
    refine xr_iload_n 2 F dX3_formatLedger_80 rfl ?_
    refine xr_iload_n 0 F dX3_formatLedger_81 rfl ?_
    refine xr_iconst (4 : Int32) F dX3_formatLedger_82 rfl ?_
    refine xr_VV (y := yX3_saysPart) (As := [.int (43 : Int32), .int l1, .int x3_42, .int (4 : Int32)]) (r := (some l0)) F (hno _) dX3_formatLedger_83 (fun z => fX3_saysPart_m (xFG F) z (43 : Int32) l1 x3_42 (4 : Int32)) (Or.inl rfl) (ci := 39) (C := RX3) (T := TX3) rfl q3973 q3970 q3972 qs119 (xroom hRm (Nat.le_of_ble_eq_true rfl) (Nat.le_of_ble_eq_true rfl)) ⟨by decide, by decide⟩ n_X3_saysPart rfl (xcat (Nat.le_of_ble_eq_true rfl)) (fun _ => ?_)
    refine xr_aload_n 1 (r := (some l0)) F dX3_formatLedger_86 rfl ?_
    refine xr_bipush (45 : Int32) F dX3_formatLedger_87 rfl ?_
    refine xr_iload_n 2 F dX3_formatLedger_89 rfl ?_
    refine xr_iload_n 0 F dX3_formatLedger_90 rfl ?_
    refine xr_iconst (2 : Int32) F dX3_formatLedger_91 rfl ?_
    refine xr_VV (y := yX3_saysPart) (As := [.int (45 : Int32), .int l1, .int x3_42, .int (2 : Int32)]) (r := (some l0)) F (hno _) dX3_formatLedger_92 (fun z => fX3_saysPart_m (xFG F) z (45 : Int32) l1 x3_42 (2 : Int32)) (Or.inl rfl) (ci := 39) (C := RX3) (T := TX3) rfl q3973 q3970 q3972 qs119 (xroom hRm (Nat.le_of_ble_eq_true rfl) (Nat.le_of_ble_eq_true rfl)) ⟨by decide, by decide⟩ n_X3_saysPart rfl (xcat (Nat.le_of_ble_eq_true rfl)) (fun _ => ?_)
    refine xr_aload_n 1 (r := (some l0)) F dX3_formatLedger_95 rfl ?_
    refine xr_bipush (45 : Int32) F dX3_formatLedger_96 rfl ?_
    refine xr_iload_n 2 F dX3_formatLedger_98 rfl ?_
    refine xr_iload_n 0 F dX3_formatLedger_99 rfl ?_
    refine xr_iconst (3 : Int32) F dX3_formatLedger_100 rfl ?_
    refine xr_VV (y := yX3_saysPart) (As := [.int (45 : Int32), .int l1, .int x3_42, .int (3 : Int32)]) (r := (some l0)) F (hno _) dX3_formatLedger_101 (fun z => fX3_saysPart_m (xFG F) z (45 : Int32) l1 x3_42 (3 : Int32)) (Or.inl rfl) (ci := 39) (C := RX3) (T := TX3) rfl q3973 q3970 q3972 qs119 (xroom hRm (Nat.le_of_ble_eq_true rfl) (Nat.le_of_ble_eq_true rfl)) ⟨by decide, by decide⟩ n_X3_saysPart rfl (xcat (Nat.le_of_ble_eq_true rfl)) (fun _ => ?_)
    refine xr_aload_n 1 (r := (some l0)) F dX3_formatLedger_104 rfl ?_
    refine xr_bipush (61 : Int32) F dX3_formatLedger_105 rfl ?_
    refine xr_iload_n 2 F dX3_formatLedger_107 rfl ?_
    refine xr_iload_n 0 F dX3_formatLedger_108 rfl ?_
    refine xr_iconst (5 : Int32) F dX3_formatLedger_109 rfl ?_
    refine xr_VV (y := yX3_saysPart) (As := [.int (61 : Int32), .int l1, .int x3_42, .int (5 : Int32)]) (r := (some l0)) F (hno _) dX3_formatLedger_110 (fun z => fX3_saysPart_m (xFG F) z (61 : Int32) l1 x3_42 (5 : Int32)) (Or.inl rfl) (ci := 39) (C := RX3) (T := TX3) rfl q3973 q3970 q3972 qs119 (xroom hRm (Nat.le_of_ble_eq_true rfl) (Nat.le_of_ble_eq_true rfl)) ⟨by decide, by decide⟩ n_X3_saysPart rfl (xcat (Nat.le_of_ble_eq_true rfl)) (fun _ => ?_)
    refine xr_aload_n 1 (r := (some l0)) F dX3_formatLedger_113 rfl ?_
    refine xr_gI (r := (some l0)) (ref := "ReserveLedgerModel") F dX3_formatLedger_114 (C := RX3) (T := TX3) (N := 25) rfl (by decide) (Or.inl q3418) (Or.inl rfl) (fun v114 => ?_)
    exact xr_iret F dX3_formatLedger_117
  · refine xr_iconst (0 : Int32) F dX3_formatLedger_34 rfl ?_
    exact xr_iret F dX3_formatLedger_35
theorem fX3_formatLedger_m {l : Launch} {D : xD} {s0 : State} {b0 : Nat} {Γ : Nat → Option Nat} (G : xG l D s0 b0 Γ) (a0 : Nat) (p0 : Int32) (p1 : Int32) : xMeth l D s0 Γ yX3_formatLedger (Cond.code yX3_formatLedger cX3_formatLedger 4 (some .int)) (35) (585) [.ref a0, .int p0, .int p1] xeI (fX3_formatLedger a0 p0 p1) := by
  refine xMeth.of (lv0 := [(0, va_rf (some a0)), (1, .int p0), (2, .int p1)]) G (by decide +kernel) (Or.inl rfl) (Nat.le_of_ble_eq_true rfl) rfl (fun x F hnL hRm hmn ht e1 e2 e3 e4 => ?_)
  have hno : ∀ pc, xNo x pc := fun pc z hz => by rw [ht.1 rfl] at hz; cases hz
  unfold fX3_formatLedger
  refine xr_aload_n 0 (r := (some a0)) F dX3_formatLedger_0 rfl ?_
  refine xr_iconst (0 : Int32) F dX3_formatLedger_1 rfl ?_
  refine xr_put (r := (some a0)) (ref := "ReserveLedgerModel") F dX3_formatLedger_2 xk_39 (by decide) (Or.inl q3394) (Or.inl rfl) (Or.inl rfl) ⟨rfl, rfl⟩ ?_
  refine xr_aload_n 0 (r := (some a0)) F dX3_formatLedger_5 rfl ?_
  refine xr_iload_n 1 F dX3_formatLedger_6 rfl ?_
  refine xr_VI (y := yX3_noSpecies) (As := [.int p0]) (r := (some a0)) F (hno _) dX3_formatLedger_7 (fun z => fX3_noSpecies_m (xFG F) z p0) (Or.inl rfl) (ci := 39) (C := RX3) (T := TX3) rfl q3688 q3685 q3687 qs87 (xroom hRm (Nat.le_of_ble_eq_true rfl) (Nat.le_of_ble_eq_true rfl)) ⟨by decide, by decide⟩ n_X3_noSpecies rfl (xcat (Nat.le_of_ble_eq_true rfl)) (fun v7 => ?_)
  refine xr_if_ne 34 F dX3_formatLedger_10 rfl ?_ ?_
  · refine xr_aload_n 0 (r := (some a0)) F dX3_formatLedger_13 rfl ?_
    refine xr_aload_n 0 (r := (some a0)) F dX3_formatLedger_14 rfl ?_
    refine xr_iload_n 2 F dX3_formatLedger_15 rfl ?_
    refine xr_VI (y := yX3_isYear) (As := [.int p1]) (r := (some a0)) F (hno _) dX3_formatLedger_16 (fun z => fX3_isYear_m (xFG F) z p1) (Or.inl rfl) (ci := 39) (C := RX3) (T := TX3) rfl q3750 q3747 q3749 qs92 (xroom hRm (Nat.le_of_ble_eq_true rfl) (Nat.le_of_ble_eq_true rfl)) ⟨by decide, by decide⟩ n_X3_isYear rfl (xcat (Nat.le_of_ble_eq_true rfl)) (fun v16 => ?_)
    refine xr_if_ne 26 F dX3_formatLedger_19 rfl ?_ ?_
    · refine xr_iconst (1 : Int32) F dX3_formatLedger_22 rfl ?_
      refine xr_goto 27 F dX3_formatLedger_23 rfl ?_
      exact xI.sub [0, 1, 2] rfl (fX3_formatLedger_p27_ok F hnL hRm hno hmn a0 p0 p1 (1 : Int32) a0)
    · refine xr_iconst (0 : Int32) F dX3_formatLedger_26 rfl ?_
      exact xI.sub [0, 1, 2] rfl (fX3_formatLedger_p27_ok F hnL hRm hno hmn a0 p0 p1 (0 : Int32) a0)
  · refine xr_iconst (0 : Int32) F dX3_formatLedger_34 rfl ?_
    exact xr_iret F dX3_formatLedger_35
theorem fX3_formattedByte_m {l : Launch} {D : xD} {s0 : State} {b0 : Nat} {Γ : Nat → Option Nat} (G : xG l D s0 b0 Γ) (a0 : Nat) (p0 : Int32) : xMeth l D s0 Γ yX3_formattedByte (Cond.code yX3_formattedByte cX3_formattedByte 2 (some .int)) (2) (37) [.ref a0, .int p0] xeI (fX3_formattedByte a0 p0) := by
  refine xMeth.of (lv0 := [(0, va_rf (some a0)), (1, .int p0)]) G (by decide +kernel) (Or.inl rfl) (Nat.le_of_ble_eq_true rfl) rfl (fun x F hnL hRm hmn ht e1 e2 e3 e4 => ?_)
  have hno : ∀ pc, xNo x pc := fun pc z hz => by rw [ht.1 rfl] at hz; cases hz
  unfold fX3_formattedByte
  refine xr_aload_n 0 (r := (some a0)) F dX3_formattedByte_0 rfl ?_
  refine xr_iconst (0 : Int32) F dX3_formattedByte_1 rfl ?_
  refine xr_put (r := (some a0)) (ref := "ReserveLedgerModel") F dX3_formattedByte_2 xk_39 (by decide) (Or.inl q3394) (Or.inl rfl) (Or.inl rfl) ⟨rfl, rfl⟩ ?_
  refine xr_iload_n 1 F dX3_formattedByte_5 rfl ?_
  refine xr_i2l F dX3_formattedByte_6 ?_
  refine xr_lconst 0 F dX3_formattedByte_7 rfl ?_
  refine xr_aload_n 0 (r := (some a0)) F dX3_formattedByte_8 rfl ?_
  refine xr_gI (r := (some a0)) (ref := "ReserveLedgerModel") F dX3_formattedByte_9 (C := RX3) (T := TX3) (N := 25) rfl (by decide) (Or.inl q3418) (Or.inl rfl) (fun v9 => ?_)
  refine xr_iconst (1 : Int32) F dX3_formattedByte_12 rfl ?_
  refine xr_isub F dX3_formattedByte_13 ?_
  refine xr_i2l F dX3_formattedByte_14 ?_
  refine xr_SI (y := yX3_in) (As := [.long p0.toInt64, .long (0 : Int64), .long ((v9 - (1 : Int32)).toInt64)]) F (hno _) dX3_formattedByte_15 (fX3_in_m (xFG F) p0.toInt64 (0 : Int64) ((v9 - (1 : Int32)).toInt64)) (Or.inl rfl) q3544 q144 (Or.inl q3542) q3543 (xroom hRm (Nat.le_of_ble_eq_true rfl) (Nat.le_of_ble_eq_true rfl)) ⟨by decide, by decide⟩ n_X3_in rfl (xcat (Nat.le_of_ble_eq_true rfl)) (fun v15 => ?_)
  refine xr_if_eq 30 F dX3_formattedByte_18 rfl ?_ ?_
  · refine xr_iconst (-1 : Int32) F dX3_formattedByte_30 rfl ?_
    exact xr_iret F dX3_formattedByte_31
  · refine xr_aload_n 0 (r := (some a0)) F dX3_formattedByte_21 rfl ?_
    refine xr_gR (r := (some a0)) (ref := "ReserveLedgerModel") F dX3_formattedByte_22 (C := RX3) (T := TX3) (N := 25) rfl (by decide) (Or.inl q3417) (Or.inl rfl) (fun v22 => ?_)
    refine xr_iload_n 1 F dX3_formattedByte_25 rfl ?_
    refine xr_bald (r := v22) F dX3_formattedByte_26 (fun v26 => ?_)
    refine xr_goto 31 F dX3_formattedByte_27 rfl ?_
    exact xr_iret F dX3_formattedByte_31
