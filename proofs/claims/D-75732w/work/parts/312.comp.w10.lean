theorem fX0_cancel_m {l : Launch} {D : xD} {s0 : State} {b0 : Nat} {Γ : Nat → Option Nat} (G : xG l D s0 b0 Γ) (p0 : Option Nat) (p1 : Int32) (p2 : Option Nat) : xMeth l D s0 Γ yX0_cancel (Cond.codeWith yX0_cancel cX0_cancel 4 (some .int) [(0, 9, 12, 19)]) (12) (259) [va_rf p0, .int p1, va_rf p2] xeI (fX0_cancel p0 p1 p2) := by
  refine xMeth.of (lv0 := [(0, va_rf p0), (1, .int p1), (2, va_rf p2)]) G (by decide +kernel) (Or.inr ⟨_, rfl⟩) (by simp [lg_sl, xrf_cat, xct_i, xct_l, xct_d, xct_r]) (by simp [lv_args, xrf_cat, xct_i, xct_l, xct_d, xct_r, xrf_some]) (fun x F hnL hRm hmn ht e1 e2 e3 e4 => ?_)
  have htb : x.2.2.2.2.2.2.2.2.2.1.exceptionTable.toList = tableOf [(0, 9, 12, 19)] := ht.2 _ rfl
  unfold fX0_cancel
  refine xr_aload_n 2 (r := p2) F dX0_cancel_0 rfl ?_
  refine xr_iconst (0 : Int32) F dX0_cancel_1 rfl ?_
  refine xr_aload_n 0 (r := p0) F dX0_cancel_2 rfl ?_
  refine xr_iload_n 1 F dX0_cancel_3 rfl ?_
  refine xr_VIT (y := yX1_cancel) (As := [.int p1]) (r := p0) F dX0_cancel_4 (fun z => fX1_cancel_m (xFG F) z p1) (Or.inl rfl) (ci := 0) (C := RX1) (T := TX1) rfl q3328 q3325 q3326 q3327 (xroom hRm (Nat.le_of_ble_eq_true rfl) (Nat.le_of_ble_eq_true rfl)) ⟨by decide, by decide⟩ n_X1_cancel rfl (xcat (Nat.le_of_ble_eq_true rfl)) (fun v4 => ?_) (fun q => ?_)
  · refine xr_i2l F dX0_cancel_7 ?_
    refine xr_last (r := p2) F dX0_cancel_8 ?_
    refine xr_goto 15 F dX0_cancel_9 rfl ?_
    refine xr_iconst (0 : Int32) F dX0_cancel_15 rfl ?_
    exact xr_iret F dX0_cancel_16
  · refine xT.catch F htb (tableOf []) ⟨0, 9, 12, 19⟩ (tableOf []) rfl rfl xps0 rfl (Or.inr ⟨by decide, _, q2471, q924⟩) ?_
    refine xs_a_n [] F dX0_cancel_12 hnL rfl rfl xk0 ?_
    refine xr_iconst (1 : Int32) F dX0_cancel_13 rfl ?_
    exact xr_iret F dX0_cancel_14
theorem fX1_setSurvival_m {l : Launch} {D : xD} {s0 : State} {b0 : Nat} {Γ : Nat → Option Nat} (G : xG l D s0 b0 Γ) (a0 : Nat) (p0 : Int32) (p1 : Int32) (p2 : Int32) : xMeth l D s0 Γ yX1_setSurvival (Cond.code yX1_setSurvival cX1_setSurvival 5 (some .int)) (10) (241) [.ref a0, .int p0, .int p1, .int p2] xeI (fX1_setSurvival a0 p0 p1 p2) := by
  refine xMeth.of (lv0 := [(0, va_rf (some a0)), (1, .int p0), (2, .int p1), (3, .int p2)]) G (by decide +kernel) (Or.inl rfl) (Nat.le_of_ble_eq_true rfl) rfl (fun x F hnL hRm hmn ht e1 e2 e3 e4 => ?_)
  have hno : ∀ pc, xNo x pc := fun pc z hz => by rw [ht.1 rfl] at hz; cases hz
  unfold fX1_setSurvival
  refine xr_aload_n 0 (r := (some a0)) F dX1_setSurvival_0 rfl ?_
  refine xr_iload_n 1 F dX1_setSurvival_1 rfl ?_
  refine xr_iload_n 2 F dX1_setSurvival_2 rfl ?_
  refine xr_VR (y := yX1_herdWith) (As := [.int p0, .int p1]) (r := (some a0)) F (hno _) dX1_setSurvival_3 (fun z => fX1_herdWith_m (xFG F) z p0 p1) (Or.inl rfl) (ci := 0) (C := RX1) (T := TX1) rfl q2533 q2530 q2532 qs35 (xroom hRm (Nat.le_of_ble_eq_true rfl) (Nat.le_of_ble_eq_true rfl)) ⟨by decide, by decide⟩ n_X1_herdWith rfl (xcat (Nat.le_of_ble_eq_true rfl)) (fun v3 => ?_)
  refine xr_gR (r := v3) (ref := "ReserveLedger$Herd") F dX1_setSurvival_6 (C := RX6) (T := TX6) (N := 8) rfl (by decide) (Or.inr ⟨_, q2041⟩) (Or.inl rfl) (fun v6 => ?_)
  refine xr_iload_n 2 F dX1_setSurvival_9 rfl ?_
  refine xr_iald (r := v6) F dX1_setSurvival_10 (fun v10 => ?_)
  refine xs_i [0, 1, 2, 3] F dX1_setSurvival_11 hnL rfl rfl (xk1 rfl rfl (xk1 rfl rfl (xk1 rfl rfl (xk2 rfl rfl xk0)))) ?_
  refine xr_iload_n 4 F dX1_setSurvival_13 rfl ?_
  refine xr_iconst (0 : Int32) F dX1_setSurvival_14 rfl ?_
  refine xr_sipush (1000 : Int32) F dX1_setSurvival_15 rfl ?_
  refine xr_SI (y := yX1_inRange) (As := [.int p2, .int (0 : Int32), .int (1000 : Int32)]) F (hno _) dX1_setSurvival_18 (fX1_inRange_m (xFG F) p2 (0 : Int32) (1000 : Int32)) (Or.inl rfl) q646 q121 (Or.inl q644) q645 (xroom hRm (Nat.le_of_ble_eq_true rfl) (Nat.le_of_ble_eq_true rfl)) ⟨by decide, by decide⟩ n_X1_inRange rfl (xcat (Nat.le_of_ble_eq_true rfl)) (fun v18 => ?_)
  refine xr_SV (y := yX1_checkArgument) (As := [.int v18]) F (hno _) dX1_setSurvival_21 (fX1_checkArgument_m (xFG F) v18) (Or.inl rfl) q2912 q121 (Or.inl q2910) q2911 (xroom hRm (Nat.le_of_ble_eq_true rfl) (Nat.le_of_ble_eq_true rfl)) ⟨by decide, by decide⟩ n_X1_checkArgument rfl (xcat (Nat.le_of_ble_eq_true rfl)) (fun _ => ?_)
  refine xr_aload_n 1 (r := (some a0)) F dX1_setSurvival_24 rfl ?_
  refine xr_iload_n 2 F dX1_setSurvival_25 rfl ?_
  refine xr_VR (y := yX1_changed) (As := [.int p0]) (r := (some a0)) F (hno _) dX1_setSurvival_26 (fun z => fX1_changed_m (xFG F) z p0) (Or.inl rfl) (ci := 0) (C := RX1) (T := TX1) rfl q3202 q3199 q3201 qs49 (xroom hRm (Nat.le_of_ble_eq_true rfl) (Nat.le_of_ble_eq_true rfl)) ⟨by decide, by decide⟩ n_X1_changed rfl (xcat (Nat.le_of_ble_eq_true rfl)) (fun v26 => ?_)
  refine xr_gR (r := v26) (ref := "ReserveLedger$Herd") F dX1_setSurvival_29 (C := RX6) (T := TX6) (N := 8) rfl (by decide) (Or.inr ⟨_, q2041⟩) (Or.inl rfl) (fun v29 => ?_)
  refine xr_iload_n 3 F dX1_setSurvival_32 rfl ?_
  refine xr_iload_n 4 F dX1_setSurvival_33 rfl ?_
  refine xr_iast (r := v29) F dX1_setSurvival_34 ?_
  refine xr_iload 0 F dX1_setSurvival_35 rfl ?_
  exact xr_iret F dX1_setSurvival_37
theorem fX0_setSurvival_m {l : Launch} {D : xD} {s0 : State} {b0 : Nat} {Γ : Nat → Option Nat} (G : xG l D s0 b0 Γ) (p0 : Option Nat) (p1 : Int32) (p2 : Int32) (p3 : Int32) (p4 : Option Nat) : xMeth l D s0 Γ yX0_setSurvival (Cond.codeWith yX0_setSurvival cX0_setSurvival 6 (some .int) [(0, 12, 15, 25), (0, 12, 19, 13)]) (11) (265) [va_rf p0, .int p1, .int p2, .int p3, va_rf p4] xeI (fX0_setSurvival p0 p1 p2 p3 p4) := by
  refine xMeth.of (lv0 := [(0, va_rf p0), (1, .int p1), (2, .int p2), (3, .int p3), (4, va_rf p4)]) G (by decide +kernel) (Or.inr ⟨_, rfl⟩) (by simp [lg_sl, xrf_cat, xct_i, xct_l, xct_d, xct_r]) (by simp [lv_args, xrf_cat, xct_i, xct_l, xct_d, xct_r, xrf_some]) (fun x F hnL hRm hmn ht e1 e2 e3 e4 => ?_)
  have htb : x.2.2.2.2.2.2.2.2.2.1.exceptionTable.toList = tableOf [(0, 12, 15, 25), (0, 12, 19, 13)] := ht.2 _ rfl
  unfold fX0_setSurvival
  refine xr_aload 4 (r := p4) F dX0_setSurvival_0 rfl ?_
  refine xr_iconst (0 : Int32) F dX0_setSurvival_2 rfl ?_
  refine xr_aload_n 0 (r := p0) F dX0_setSurvival_3 rfl ?_
  refine xr_iload_n 1 F dX0_setSurvival_4 rfl ?_
  refine xr_iload_n 2 F dX0_setSurvival_5 rfl ?_
  refine xr_iload_n 3 F dX0_setSurvival_6 rfl ?_
  refine xr_VIT (y := yX1_setSurvival) (As := [.int p1, .int p2, .int p3]) (r := p0) F dX0_setSurvival_7 (fun z => fX1_setSurvival_m (xFG F) z p1 p2 p3) (Or.inl rfl) (ci := 0) (C := RX1) (T := TX1) rfl q3336 q3333 q3334 q3335 (xroom hRm (Nat.le_of_ble_eq_true rfl) (Nat.le_of_ble_eq_true rfl)) ⟨by decide, by decide⟩ n_X1_setSurvival rfl (xcat (Nat.le_of_ble_eq_true rfl)) (fun v7 => ?_) (fun q => ?_)
  · refine xr_i2l F dX0_setSurvival_10 ?_
    refine xr_last (r := p4) F dX0_setSurvival_11 ?_
    refine xr_goto 23 F dX0_setSurvival_12 rfl ?_
    refine xr_iconst (0 : Int32) F dX0_setSurvival_23 rfl ?_
    exact xr_iret F dX0_setSurvival_24
  · refine xT.sel2 ?_ ?_
    · refine xT.catch F htb (tableOf []) ⟨0, 12, 15, 25⟩ (tableOf [(0, 12, 19, 13)]) rfl rfl xps0 rfl (Or.inr ⟨by decide, _, q2481, q739⟩) ?_
      refine xs_a [] F dX0_setSurvival_15 hnL rfl rfl xk0 ?_
      refine xr_iconst (1 : Int32) F dX0_setSurvival_17 rfl ?_
      exact xr_iret F dX0_setSurvival_18
    refine xT.catch F htb (tableOf [(0, 12, 15, 25)]) ⟨0, 12, 19, 13⟩ (tableOf []) rfl rfl (xps1 (Or.inr ⟨by decide, _, 1, q2481, rfl⟩) xps0) rfl (Or.inr ⟨by decide, _, q1741, q226⟩) ?_
    refine xs_a [] F dX0_setSurvival_19 hnL rfl rfl xk0 ?_
    refine xr_iconst (2 : Int32) F dX0_setSurvival_21 rfl ?_
    exact xr_iret F dX0_setSurvival_22
theorem fX1_setRoom_m {l : Launch} {D : xD} {s0 : State} {b0 : Nat} {Γ : Nat → Option Nat} (G : xG l D s0 b0 Γ) (a0 : Nat) (p0 : Int32) (p1 : Int32) : xMeth l D s0 Γ yX1_setRoom (Cond.code yX1_setRoom cX1_setRoom 4 (some .int)) (10) (241) [.ref a0, .int p0, .int p1] xeI (fX1_setRoom a0 p0 p1) := by
  refine xMeth.of (lv0 := [(0, va_rf (some a0)), (1, .int p0), (2, .int p1)]) G (by decide +kernel) (Or.inl rfl) (Nat.le_of_ble_eq_true rfl) rfl (fun x F hnL hRm hmn ht e1 e2 e3 e4 => ?_)
  have hno : ∀ pc, xNo x pc := fun pc z hz => by rw [ht.1 rfl] at hz; cases hz
  unfold fX1_setRoom
  refine xr_aload_n 0 (r := (some a0)) F dX1_setRoom_0 rfl ?_
  refine xr_iload_n 1 F dX1_setRoom_1 rfl ?_
  refine xr_VR (y := yX1_herd) (As := [.int p0]) (r := (some a0)) F (hno _) dX1_setRoom_2 (fun z => fX1_herd_m (xFG F) z p0) (Or.inl rfl) (ci := 0) (C := RX1) (T := TX1) rfl q2504 q2501 q2503 qs34 (xroom hRm (Nat.le_of_ble_eq_true rfl) (Nat.le_of_ble_eq_true rfl)) ⟨by decide, by decide⟩ n_X1_herd rfl (xcat (Nat.le_of_ble_eq_true rfl)) (fun v2 => ?_)
  refine xr_gI (r := v2) (ref := "ReserveLedger$Herd") F dX1_setRoom_5 (C := RX6) (T := TX6) (N := 8) rfl (by decide) (Or.inr ⟨_, q2046⟩) (Or.inl rfl) (fun v5 => ?_)
  refine xs_i_n [0, 1, 2] F dX1_setRoom_8 hnL rfl rfl (xk1 rfl rfl (xk1 rfl rfl (xk2 rfl rfl xk0))) ?_
  refine xr_iload_n 3 F dX1_setRoom_9 rfl ?_
  refine xr_iconst (0 : Int32) F dX1_setRoom_10 rfl ?_
  refine xr_ldcw F dX1_setRoom_11 q3344 ?_
  refine xr_SI (y := yX1_inRange) (As := [.int p1, .int (0 : Int32), .int (99999 : Int32)]) F (hno _) dX1_setRoom_14 (fX1_inRange_m (xFG F) p1 (0 : Int32) (99999 : Int32)) (Or.inl rfl) q646 q121 (Or.inl q644) q645 (xroom hRm (Nat.le_of_ble_eq_true rfl) (Nat.le_of_ble_eq_true rfl)) ⟨by decide, by decide⟩ n_X1_inRange rfl (xcat (Nat.le_of_ble_eq_true rfl)) (fun v14 => ?_)
  refine xr_SV (y := yX1_checkArgument) (As := [.int v14]) F (hno _) dX1_setRoom_17 (fX1_checkArgument_m (xFG F) v14) (Or.inl rfl) q2912 q121 (Or.inl q2910) q2911 (xroom hRm (Nat.le_of_ble_eq_true rfl) (Nat.le_of_ble_eq_true rfl)) ⟨by decide, by decide⟩ n_X1_checkArgument rfl (xcat (Nat.le_of_ble_eq_true rfl)) (fun _ => ?_)
  refine xr_aload_n 1 (r := (some a0)) F dX1_setRoom_20 rfl ?_
  refine xr_iload_n 2 F dX1_setRoom_21 rfl ?_
  refine xr_VR (y := yX1_changed) (As := [.int p0]) (r := (some a0)) F (hno _) dX1_setRoom_22 (fun z => fX1_changed_m (xFG F) z p0) (Or.inl rfl) (ci := 0) (C := RX1) (T := TX1) rfl q3202 q3199 q3201 qs49 (xroom hRm (Nat.le_of_ble_eq_true rfl) (Nat.le_of_ble_eq_true rfl)) ⟨by decide, by decide⟩ n_X1_changed rfl (xcat (Nat.le_of_ble_eq_true rfl)) (fun v22 => ?_)
  refine xr_iload_n 3 F dX1_setRoom_25 rfl ?_
  refine xr_put (r := v22) (ref := "ReserveLedger$Herd") F dX1_setRoom_26 xk_19 (by decide) (Or.inr ⟨_, q2046⟩) (Or.inl rfl) (Or.inl rfl) ⟨rfl, rfl⟩ ?_
  refine xr_iload_n 0 F dX1_setRoom_29 rfl ?_
  exact xr_iret F dX1_setRoom_30
theorem fX0_setRoom_m {l : Launch} {D : xD} {s0 : State} {b0 : Nat} {Γ : Nat → Option Nat} (G : xG l D s0 b0 Γ) (p0 : Option Nat) (p1 : Int32) (p2 : Int32) (p3 : Option Nat) : xMeth l D s0 Γ yX0_setRoom (Cond.codeWith yX0_setRoom cX0_setRoom 5 (some .int) [(0, 10, 13, 25), (0, 10, 17, 13)]) (11) (264) [va_rf p0, .int p1, .int p2, va_rf p3] xeI (fX0_setRoom p0 p1 p2 p3) := by
  refine xMeth.of (lv0 := [(0, va_rf p0), (1, .int p1), (2, .int p2), (3, va_rf p3)]) G (by decide +kernel) (Or.inr ⟨_, rfl⟩) (by simp [lg_sl, xrf_cat, xct_i, xct_l, xct_d, xct_r]) (by simp [lv_args, xrf_cat, xct_i, xct_l, xct_d, xct_r, xrf_some]) (fun x F hnL hRm hmn ht e1 e2 e3 e4 => ?_)
  have htb : x.2.2.2.2.2.2.2.2.2.1.exceptionTable.toList = tableOf [(0, 10, 13, 25), (0, 10, 17, 13)] := ht.2 _ rfl
  unfold fX0_setRoom
  refine xr_aload_n 3 (r := p3) F dX0_setRoom_0 rfl ?_
  refine xr_iconst (0 : Int32) F dX0_setRoom_1 rfl ?_
  refine xr_aload_n 0 (r := p0) F dX0_setRoom_2 rfl ?_
  refine xr_iload_n 1 F dX0_setRoom_3 rfl ?_
  refine xr_iload_n 2 F dX0_setRoom_4 rfl ?_
  refine xr_VIT (y := yX1_setRoom) (As := [.int p1, .int p2]) (r := p0) F dX0_setRoom_5 (fun z => fX1_setRoom_m (xFG F) z p1 p2) (Or.inl rfl) (ci := 0) (C := RX1) (T := TX1) rfl q3343 q3340 q3341 q3342 (xroom hRm (Nat.le_of_ble_eq_true rfl) (Nat.le_of_ble_eq_true rfl)) ⟨by decide, by decide⟩ n_X1_setRoom rfl (xcat (Nat.le_of_ble_eq_true rfl)) (fun v5 => ?_) (fun q => ?_)
  · refine xr_i2l F dX0_setRoom_8 ?_
    refine xr_last (r := p3) F dX0_setRoom_9 ?_
    refine xr_goto 21 F dX0_setRoom_10 rfl ?_
    refine xr_iconst (0 : Int32) F dX0_setRoom_21 rfl ?_
    exact xr_iret F dX0_setRoom_22
  · refine xT.sel2 ?_ ?_
    · refine xT.catch F htb (tableOf []) ⟨0, 10, 13, 25⟩ (tableOf [(0, 10, 17, 13)]) rfl rfl xps0 rfl (Or.inr ⟨by decide, _, q2481, q739⟩) ?_
      refine xs_a [] F dX0_setRoom_13 hnL rfl rfl xk0 ?_
      refine xr_iconst (1 : Int32) F dX0_setRoom_15 rfl ?_
      exact xr_iret F dX0_setRoom_16
    refine xT.catch F htb (tableOf [(0, 10, 13, 25)]) ⟨0, 10, 17, 13⟩ (tableOf []) rfl rfl (xps1 (Or.inr ⟨by decide, _, 1, q2481, rfl⟩) xps0) rfl (Or.inr ⟨by decide, _, q1741, q226⟩) ?_
    refine xs_a [] F dX0_setRoom_17 hnL rfl rfl xk0 ?_
    refine xr_iconst (2 : Int32) F dX0_setRoom_19 rfl ?_
    exact xr_iret F dX0_setRoom_20
theorem fX1_format_m {l : Launch} {D : xD} {s0 : State} {b0 : Nat} {Γ : Nat → Option Nat} (G : xG l D s0 b0 Γ) (a0 : Nat) (p0 : Option Nat) : xMeth l D s0 Γ yX1_format (Cond.code yX1_format cX1_format 2 (some .int)) (7) (171) [.ref a0, va_rf p0] xeI (fX1_format a0 p0) := by
  refine xMeth.of (lv0 := [(0, va_rf (some a0)), (1, va_rf p0)]) G (by decide +kernel) (Or.inl rfl) (by simp [lg_sl, xrf_cat, xct_i, xct_l, xct_d, xct_r]) (by simp [lv_args, xrf_cat, xct_i, xct_l, xct_d, xct_r, xrf_some]) (fun x F hnL hRm hmn ht e1 e2 e3 e4 => ?_)
  have hno : ∀ pc, xNo x pc := fun pc z hz => by rw [ht.1 rfl] at hz; cases hz
  unfold fX1_format
  refine xr_aload_n 0 (r := (some a0)) F dX1_format_0 rfl ?_
  refine xr_aload_n 1 (r := p0) F dX1_format_1 rfl ?_
  refine xr_VR (y := yJ8_toString) (As := []) (r := p0) F (hno _) dX1_format_2 (fun z => fJ8_toString_m (xFG F) z) (Or.inl rfl) (ci := 4) (C := RJ8) (T := TJ8) rfl q451 q683 q449 q450 (xroom hRm (Nat.le_of_ble_eq_true rfl) (Nat.le_of_ble_eq_true rfl)) ⟨by decide, by decide⟩ n_J8_toString rfl (xcat (Nat.le_of_ble_eq_true rfl)) (fun v2 => ?_)
  refine xr_put (r := (some a0)) (ref := "ReserveLedger") F dX1_format_5 xk_0 (by decide) (Or.inl q616) (Or.inl rfl) (Or.inl rfl) (xr_rf _ _) ?_
  refine xr_aload_n 0 (r := (some a0)) F dX1_format_8 rfl ?_
  refine xr_gR (r := (some a0)) (ref := "ReserveLedger") F dX1_format_9 (C := RX1) (T := TX1) (N := 7) rfl (by decide) (Or.inl q616) (Or.inl rfl) (fun v9 => ?_)
  refine xr_VI (y := yJ9_length) (As := []) (r := v9) F (hno _) dX1_format_12 (fun z => fJ9_length_m (xFG F) z) (Or.inl rfl) (ci := 5) (C := RJ9) (T := TJ9) rfl q383 q1722 q381 q382 (xroom hRm (Nat.le_of_ble_eq_true rfl) (Nat.le_of_ble_eq_true rfl)) ⟨by decide, by decide⟩ n_J9_length rfl (xcat (Nat.le_of_ble_eq_true rfl)) (fun v12 => ?_)
  exact xr_iret F dX1_format_15
theorem fJ7_appendNull__J8_p76_ok {x : xC} (F : xF x RJ7 cJ7_appendNull (some (.object "java/lang/AbstractStringBuilder"))) (hnL : xnL x = 3) (hRm : ∃ dc ds, x.2.2.2.1 = { frames := 5, cells := dc, slots := ds, locals := 104 }) (hno : ∀ pc, xNo x pc) (hmn : xmn x = "appendNull" ∧ xmy x yJ7_appendNull) (l0 : Nat) (l1 : Int32) : xI x xeR 76 [(0, va_rf (some l0)), (1, .int l1)] [] (fJ7_appendNull__J8_p76 l0 l1) := by
  unfold fJ7_appendNull__J8_p76
  refine xr_aload_n 0 (r := (some l0)) F dJ7_appendNull_76 rfl ?_
  refine xr_iload_n 1 F dJ7_appendNull_77 rfl ?_
  refine xr_put (r := (some l0)) (ref := "java/lang/AbstractStringBuilder") F dJ7_appendNull_78 xk_4 (by decide) (Or.inl q291) (Or.inl rfl) (Or.inl rfl) ⟨rfl, rfl⟩ ?_
  refine xr_aload_n 0 (r := (some l0)) F dJ7_appendNull_81 rfl ?_
  exact xr_aret (v := (some l0)) F dJ7_appendNull_82 (Or.inl ⟨_, rfl⟩)
theorem fJ7_appendNull__J8_m {l : Launch} {D : xD} {s0 : State} {b0 : Nat} {Γ : Nat → Option Nat} (G : xG l D s0 b0 Γ) (a0 : Nat) : xMeth l D s0 Γ yJ7_appendNull (Cond.code yJ7_appendNull cJ7_appendNull 3 (some (.object "java/lang/AbstractStringBuilder"))) (5) (104) [.ref a0] xeR (fJ7_appendNull__J8 a0) := by
  refine xMeth.of (lv0 := [(0, va_rf (some a0))]) G (by decide +kernel) (Or.inl rfl) (Nat.le_of_ble_eq_true rfl) rfl (fun x F hnL hRm hmn ht e1 e2 e3 e4 => ?_)
  have hno : ∀ pc, xNo x pc := fun pc z hz => by rw [ht.1 rfl] at hz; cases hz
  unfold fJ7_appendNull__J8
  refine xr_aload_n 0 (r := (some a0)) F dJ7_appendNull_0 rfl ?_
  refine xr_aload_n 0 (r := (some a0)) F dJ7_appendNull_1 rfl ?_
  refine xr_gI (r := (some a0)) (ref := "java/lang/AbstractStringBuilder") F dJ7_appendNull_2 (C := RJ8) (T := TJ8) (N := 4) rfl (by decide) (Or.inl q291) (Or.inl rfl) (fun v2 => ?_)
  refine xr_iconst (4 : Int32) F dJ7_appendNull_5 rfl ?_
  refine xr_iadd F dJ7_appendNull_6 ?_
  refine xr_PV (y := yJ7_ensureCapacityInternal) (y2 := ({ cls := "java/lang/AbstractStringBuilder", name := "isLatin1", desc := "()Z" } : Jvm.MethodName)) (As := [.int (v2 + (4 : Int32))]) (r := (some a0)) F (hno _) dJ7_appendNull_7 (fun z => fJ7_ensureCapacityInternal__J8_m (xFG F) z (v2 + (4 : Int32))) (Or.inl rfl) (ci := 4) (C := RJ8) (T := TJ8) rfl q317 q314 q316 q315 q352 rfl (xroom hRm (Nat.le_of_ble_eq_true rfl) (Nat.le_of_ble_eq_true rfl)) ⟨by decide, by decide⟩ n_J7_ensureCapacityInternal rfl (xcat (Nat.le_of_ble_eq_true rfl)) (fun _ => ?_)
  refine xr_aload_n 0 (r := (some a0)) F dJ7_appendNull_10 rfl ?_
  refine xr_gI (r := (some a0)) (ref := "java/lang/AbstractStringBuilder") F dJ7_appendNull_11 (C := RJ8) (T := TJ8) (N := 4) rfl (by decide) (Or.inl q291) (Or.inl rfl) (fun v11 => ?_)
  refine xs_i_n [0] F dJ7_appendNull_14 hnL rfl rfl (xk2 rfl (xrf_cat _) xk0) ?_
  refine xr_aload_n 1 (r := (some a0)) F dJ7_appendNull_15 rfl ?_
  refine xr_gR (r := (some a0)) (ref := "java/lang/AbstractStringBuilder") F dJ7_appendNull_16 (C := RJ8) (T := TJ8) (N := 4) rfl (by decide) (Or.inl q288) (Or.inl rfl) (fun v16 => ?_)
  refine xs_a_n [0, 1] F dJ7_appendNull_19 hnL rfl rfl (xk2 rfl rfl (xk1 rfl rfl xk0)) ?_
  refine xr_aload_n 2 (r := (some a0)) F dJ7_appendNull_20 rfl ?_
  refine xr_VI (y := yJ7_isLatin1) (As := []) (r := (some a0)) F (hno _) dJ7_appendNull_21 (fun z => fJ7_isLatin1__J8_m (xFG F) z) (Or.inl rfl) (ci := 4) (C := RJ8) (T := TJ8) rfl q353 q349 q350 q352 (xroom hRm (Nat.le_of_ble_eq_true rfl) (Nat.le_of_ble_eq_true rfl)) ⟨by decide, by decide⟩ n_J7_isLatin1 rfl (xcat (Nat.le_of_ble_eq_true rfl)) (fun v21 => ?_)
  refine xr_if_eq 62 F dJ7_appendNull_24 rfl ?_ ?_
  · refine xr_aload_n 0 (r := v16) F dJ7_appendNull_62 rfl ?_
    refine xr_iload_n 1 F dJ7_appendNull_63 rfl ?_
    refine xr_bipush (110 : Int32) F dJ7_appendNull_64 rfl ?_
    refine xr_bipush (117 : Int32) F dJ7_appendNull_66 rfl ?_
    refine xr_bipush (108 : Int32) F dJ7_appendNull_68 rfl ?_
    refine xr_bipush (108 : Int32) F dJ7_appendNull_70 rfl ?_
    exact xI.stuck
  · refine xr_aload_n 0 (r := v16) F dJ7_appendNull_27 rfl ?_
    refine xr_iload_n 1 F dJ7_appendNull_28 rfl ?_
    refine xs_inc [1, 0, 2] F dJ7_appendNull_29 rfl hnL rfl rfl (xk1 rfl rfl (xk2 rfl (xrf_cat _) xk0)) (fun x1_29 => ?_)
    refine xr_bipush (110 : Int32) F dJ7_appendNull_32 rfl ?_
    refine xr_bast (r := v16) F dJ7_appendNull_34 ?_
    refine xr_aload_n 1 (r := v16) F dJ7_appendNull_35 rfl ?_
    refine xr_iload_n 0 F dJ7_appendNull_36 rfl ?_
    refine xs_inc [0, 1, 2] F dJ7_appendNull_37 rfl hnL rfl rfl (xk1 rfl rfl (xk2 rfl (xrf_cat _) xk0)) (fun x1_37 => ?_)
    refine xr_bipush (117 : Int32) F dJ7_appendNull_40 rfl ?_
    refine xr_bast (r := v16) F dJ7_appendNull_42 ?_
    refine xr_aload_n 1 (r := v16) F dJ7_appendNull_43 rfl ?_
    refine xr_iload_n 0 F dJ7_appendNull_44 rfl ?_
    refine xs_inc [0, 1, 2] F dJ7_appendNull_45 rfl hnL rfl rfl (xk1 rfl rfl (xk2 rfl (xrf_cat _) xk0)) (fun x1_45 => ?_)
    refine xr_bipush (108 : Int32) F dJ7_appendNull_48 rfl ?_
    refine xr_bast (r := v16) F dJ7_appendNull_50 ?_
    refine xr_aload_n 1 (r := v16) F dJ7_appendNull_51 rfl ?_
    refine xr_iload_n 0 F dJ7_appendNull_52 rfl ?_
    refine xs_inc [0, 2] F dJ7_appendNull_53 rfl hnL rfl rfl (xk2 rfl (xrf_cat _) xk0) (fun x1_53 => ?_)
    refine xr_bipush (108 : Int32) F dJ7_appendNull_56 rfl ?_
    refine xr_bast (r := v16) F dJ7_appendNull_58 ?_
    refine xr_goto 76 F dJ7_appendNull_59 rfl ?_
    exact xI.sub [1, 0] rfl (fJ7_appendNull__J8_p76_ok F hnL hRm hno hmn a0 x1_53)
theorem fJ7_inflateIfNeededFor__J8_m {l : Launch} {D : xD} {s0 : State} {b0 : Nat} {Γ : Nat → Option Nat} (G : xG l D s0 b0 Γ) (a0 : Nat) (p0 : Option Nat) : xMeth l D s0 Γ yJ7_inflateIfNeededFor (Cond.code yJ7_inflateIfNeededFor cJ7_inflateIfNeededFor 2 none) (3) (53) [.ref a0, va_rf p0] xeV (fJ7_inflateIfNeededFor__J8 a0 p0) := by
  refine xMeth.of (lv0 := [(0, va_rf (some a0)), (1, va_rf p0)]) G (by decide +kernel) (Or.inl rfl) (by simp [lg_sl, xrf_cat, xct_i, xct_l, xct_d, xct_r]) (by simp [lv_args, xrf_cat, xct_i, xct_l, xct_d, xct_r, xrf_some]) (fun x F hnL hRm hmn ht e1 e2 e3 e4 => ?_)
  have hno : ∀ pc, xNo x pc := fun pc z hz => by rw [ht.1 rfl] at hz; cases hz
  unfold fJ7_inflateIfNeededFor__J8
  refine xr_gsi (k := 1) F dJ7_inflateIfNeededFor_0 rfl q279 ?_
  refine xr_if_eq 21 F dJ7_inflateIfNeededFor_3 rfl ?_ ?_
  · exact xr_vret F dJ7_inflateIfNeededFor_21
  · refine xr_aload_n 0 (r := (some a0)) F dJ7_inflateIfNeededFor_6 rfl ?_
    refine xr_gI (r := (some a0)) (ref := "java/lang/AbstractStringBuilder") F dJ7_inflateIfNeededFor_7 (C := RJ8) (T := TJ8) (N := 4) rfl (by decide) (Or.inl q289) (Or.inl rfl) (fun v7 => ?_)
    refine xr_aload_n 1 (r := p0) F dJ7_inflateIfNeededFor_10 rfl ?_
    refine xr_VI (y := yJ9_coder) (As := []) (r := p0) F (hno _) dJ7_inflateIfNeededFor_11 (fun z => fJ9_coder_m (xFG F) z) (Or.inl rfl) (ci := 5) (C := RJ9) (T := TJ9) rfl q387 q397 q385 q386 (xroom hRm (Nat.le_of_ble_eq_true rfl) (Nat.le_of_ble_eq_true rfl)) ⟨by decide, by decide⟩ n_J9_coder rfl (xcat (Nat.le_of_ble_eq_true rfl)) (fun v11 => ?_)
    refine xr_icmp_eq 21 F dJ7_inflateIfNeededFor_14 rfl ?_ ?_
    · exact xr_vret F dJ7_inflateIfNeededFor_21
    · refine xr_aload_n 0 (r := (some a0)) F dJ7_inflateIfNeededFor_17 rfl ?_
      refine xr_PV (y := yJ7_inflate) (y2 := ({ cls := "java/lang/AbstractStringBuilder", name := "isLatin1", desc := "()Z" } : Jvm.MethodName)) (As := []) (r := (some a0)) F (hno _) dJ7_inflateIfNeededFor_18 (fun z => fJ7_inflate__J8_m (xFG F) z) (Or.inl rfl) (ci := 4) (C := RJ8) (T := TJ8) rfl q401 q398 q400 q399 q352 rfl (xroom hRm (Nat.le_of_ble_eq_true rfl) (Nat.le_of_ble_eq_true rfl)) ⟨by decide, by decide⟩ n_J7_inflate rfl (xcat (Nat.le_of_ble_eq_true rfl)) (fun _ => ?_)
      exact xr_vret F dJ7_inflateIfNeededFor_21
theorem fJ15_inflate_m {l : Launch} {D : xD} {s0 : State} {b0 : Nat} {Γ : Nat → Option Nat} (G : xG l D s0 b0 Γ) (p0 : Option Nat) (p1 : Int32) (p2 : Option Nat) (p3 : Int32) (p4 : Int32) : xMeth l D s0 Γ yJ15_inflate (Cond.code yJ15_inflate cJ15_inflate 5 none) (1) (12) [va_rf p0, .int p1, va_rf p2, .int p3, .int p4] xeV (fJ15_inflate p0 p1 p2 p3 p4) := by
  refine xMeth.of (lv0 := [(0, va_rf p0), (1, .int p1), (2, va_rf p2), (3, .int p3), (4, .int p4)]) G (by decide +kernel) (Or.inl rfl) (by simp [lg_sl, xrf_cat, xct_i, xct_l, xct_d, xct_r]) (by simp [lv_args, xrf_cat, xct_i, xct_l, xct_d, xct_r, xrf_some]) (fun x F hnL hRm hmn ht e1 e2 e3 e4 => ?_)
  have hno : ∀ pc, xNo x pc := fun pc z hz => by rw [ht.1 rfl] at hz; cases hz
  unfold fJ15_inflate
  refine xr_aload_n 0 (r := p0) F dJ15_inflate_0 rfl ?_
  refine xr_iload_n 1 F dJ15_inflate_1 rfl ?_
  refine xr_aload_n 2 (r := p2) F dJ15_inflate_2 rfl ?_
  refine xr_iload_n 3 F dJ15_inflate_3 rfl ?_
  refine xr_iload 4 F dJ15_inflate_4 rfl ?_
  exact xI.stuck
theorem fJ9_getBytes_m {l : Launch} {D : xD} {s0 : State} {b0 : Nat} {Γ : Nat → Option Nat} (G : xG l D s0 b0 Γ) (a0 : Nat) (p0 : Option Nat) (p1 : Int32) (p2 : Int32) : xMeth l D s0 Γ yJ9_getBytes (Cond.code yJ9_getBytes cJ9_getBytes 4 none) (2) (60) [.ref a0, va_rf p0, .int p1, .int p2] xeV (fJ9_getBytes a0 p0 p1 p2) := by
  refine xMeth.of (lv0 := [(0, va_rf (some a0)), (1, va_rf p0), (2, .int p1), (3, .int p2)]) G (by decide +kernel) (Or.inl rfl) (by simp [lg_sl, xrf_cat, xct_i, xct_l, xct_d, xct_r]) (by simp [lv_args, xrf_cat, xct_i, xct_l, xct_d, xct_r, xrf_some]) (fun x F hnL hRm hmn ht e1 e2 e3 e4 => ?_)
  have hno : ∀ pc, xNo x pc := fun pc z hz => by rw [ht.1 rfl] at hz; cases hz
  unfold fJ9_getBytes
  refine xr_aload_n 0 (r := (some a0)) F dJ9_getBytes_0 rfl ?_
  refine xr_VI (y := yJ9_coder) (As := []) (r := (some a0)) F (hno _) dJ9_getBytes_1 (fun z => fJ9_coder_m (xFG F) z) (Or.inl rfl) (ci := 5) (C := RJ9) (T := TJ9) rfl q387 q384 q385 q386 (xroom hRm (Nat.le_of_ble_eq_true rfl) (Nat.le_of_ble_eq_true rfl)) ⟨by decide, by decide⟩ n_J9_coder rfl (xcat (Nat.le_of_ble_eq_true rfl)) (fun v1 => ?_)
  refine xr_iload_n 3 F dJ9_getBytes_4 rfl ?_
  refine xr_icmp_ne 28 F dJ9_getBytes_5 rfl ?_ ?_
  · refine xr_aload_n 0 (r := (some a0)) F dJ9_getBytes_8 rfl ?_
    refine xr_gR (r := (some a0)) (ref := "java/lang/String") F dJ9_getBytes_9 (C := RJ9) (T := TJ9) (N := 4) rfl (by decide) (Or.inl q529) (Or.inl rfl) (fun v9 => ?_)
    refine xr_iconst (0 : Int32) F dJ9_getBytes_12 rfl ?_
    refine xr_aload_n 1 (r := p0) F dJ9_getBytes_13 rfl ?_
    refine xr_iload_n 2 F dJ9_getBytes_14 rfl ?_
    refine xr_iload_n 3 F dJ9_getBytes_15 rfl ?_
    refine xr_ishl F dJ9_getBytes_16 ?_
    refine xr_aload_n 0 (r := (some a0)) F dJ9_getBytes_17 rfl ?_
    refine xr_gR (r := (some a0)) (ref := "java/lang/String") F dJ9_getBytes_18 (C := RJ9) (T := TJ9) (N := 4) rfl (by decide) (Or.inl q529) (Or.inl rfl) (fun v18 => ?_)
    refine xr_len (r := v18) F dJ9_getBytes_21 (fun v21 => ?_)
    refine xr_cpI (t := 0) (ty := .byte) (sr := v9) (dr := p0) F dJ9_getBytes_22 rfl rfl q421 q348 q347 q137 (xroom hRm (Nat.le_of_ble_eq_true rfl) (Nat.le_of_ble_eq_true rfl)) (xcat (Nat.le_of_ble_eq_true rfl)) ?_
    refine xr_goto 43 F dJ9_getBytes_25 rfl ?_
    exact xr_vret F dJ9_getBytes_43
  · refine xr_aload_n 0 (r := (some a0)) F dJ9_getBytes_28 rfl ?_
    refine xr_gR (r := (some a0)) (ref := "java/lang/String") F dJ9_getBytes_29 (C := RJ9) (T := TJ9) (N := 4) rfl (by decide) (Or.inl q529) (Or.inl rfl) (fun v29 => ?_)
    refine xr_iconst (0 : Int32) F dJ9_getBytes_32 rfl ?_
    refine xr_aload_n 1 (r := p0) F dJ9_getBytes_33 rfl ?_
    refine xr_iload_n 2 F dJ9_getBytes_34 rfl ?_
    refine xr_aload_n 0 (r := (some a0)) F dJ9_getBytes_35 rfl ?_
    refine xr_gR (r := (some a0)) (ref := "java/lang/String") F dJ9_getBytes_36 (C := RJ9) (T := TJ9) (N := 4) rfl (by decide) (Or.inl q529) (Or.inl rfl) (fun v36 => ?_)
    refine xr_len (r := v36) F dJ9_getBytes_39 (fun v39 => ?_)
    refine xr_SV (y := yJ15_inflate) (As := [va_rf v29, .int (0 : Int32), va_rf p0, .int p1, .int v39]) F (hno _) dJ9_getBytes_40 (fJ15_inflate_m (xFG F) v29 (0 : Int32) p0 p1 v39) (Or.inl rfl) q404 q139 (Or.inl q422) q403 (xroom hRm (Nat.le_of_ble_eq_true rfl) (Nat.le_of_ble_eq_true rfl)) ⟨by decide, by decide⟩ n_J15_inflate rfl (xcat (Nat.le_of_ble_eq_true rfl)) (fun _ => ?_)
    exact xr_vret F dJ9_getBytes_43
theorem fJ7_putStringAt__J8_m {l : Launch} {D : xD} {s0 : State} {b0 : Nat} {Γ : Nat → Option Nat} (G : xG l D s0 b0 Γ) (a0 : Nat) (p0 : Int32) (p1 : Option Nat) : xMeth l D s0 Γ yJ7_putStringAt (Cond.code yJ7_putStringAt cJ7_putStringAt 3 none) (4) (83) [.ref a0, .int p0, va_rf p1] xeV (fJ7_putStringAt__J8 a0 p0 p1) := by
  refine xMeth.of (lv0 := [(0, va_rf (some a0)), (1, .int p0), (2, va_rf p1)]) G (by decide +kernel) (Or.inl rfl) (by simp [lg_sl, xrf_cat, xct_i, xct_l, xct_d, xct_r]) (by simp [lv_args, xrf_cat, xct_i, xct_l, xct_d, xct_r, xrf_some]) (fun x F hnL hRm hmn ht e1 e2 e3 e4 => ?_)
  have hno : ∀ pc, xNo x pc := fun pc z hz => by rw [ht.1 rfl] at hz; cases hz
  unfold fJ7_putStringAt__J8
  refine xr_aload_n 0 (r := (some a0)) F dJ7_putStringAt_0 rfl ?_
  refine xr_aload_n 2 (r := p1) F dJ7_putStringAt_1 rfl ?_
  refine xr_PV (y := yJ7_inflateIfNeededFor) (y2 := ({ cls := "java/lang/AbstractStringBuilder", name := "isLatin1", desc := "()Z" } : Jvm.MethodName)) (As := [va_rf p1]) (r := (some a0)) F (hno _) dJ7_putStringAt_2 (fun z => fJ7_inflateIfNeededFor__J8_m (xFG F) z p1) (Or.inl rfl) (ci := 4) (C := RJ8) (T := TJ8) rfl q396 q393 q395 q394 q352 rfl (xroom hRm (Nat.le_of_ble_eq_true rfl) (Nat.le_of_ble_eq_true rfl)) ⟨by decide, by decide⟩ n_J7_inflateIfNeededFor rfl (xcat (Nat.le_of_ble_eq_true rfl)) (fun _ => ?_)
  refine xr_aload_n 2 (r := p1) F dJ7_putStringAt_5 rfl ?_
  refine xr_aload_n 0 (r := (some a0)) F dJ7_putStringAt_6 rfl ?_
  refine xr_gR (r := (some a0)) (ref := "java/lang/AbstractStringBuilder") F dJ7_putStringAt_7 (C := RJ8) (T := TJ8) (N := 4) rfl (by decide) (Or.inl q288) (Or.inl rfl) (fun v7 => ?_)
  refine xr_iload_n 1 F dJ7_putStringAt_10 rfl ?_
  refine xr_aload_n 0 (r := (some a0)) F dJ7_putStringAt_11 rfl ?_
  refine xr_gI (r := (some a0)) (ref := "java/lang/AbstractStringBuilder") F dJ7_putStringAt_12 (C := RJ8) (T := TJ8) (N := 4) rfl (by decide) (Or.inl q289) (Or.inl rfl) (fun v12 => ?_)
  refine xr_VV (y := yJ9_getBytes) (As := [va_rf v7, .int p0, .int v12]) (r := p1) F (hno _) dJ7_putStringAt_15 (fun z => fJ9_getBytes_m (xFG F) z v7 p0 v12) (Or.inl rfl) (ci := 5) (C := RJ9) (T := TJ9) rfl q420 q417 q418 q419 (xroom hRm (Nat.le_of_ble_eq_true rfl) (Nat.le_of_ble_eq_true rfl)) ⟨by decide, by decide⟩ n_J9_getBytes rfl (xcat (Nat.le_of_ble_eq_true rfl)) (fun _ => ?_)
  exact xr_vret F dJ7_putStringAt_18
theorem fJ7_append__J8_m {l : Launch} {D : xD} {s0 : State} {b0 : Nat} {Γ : Nat → Option Nat} (G : xG l D s0 b0 Γ) (a0 : Nat) (p0 : Option Nat) : xMeth l D s0 Γ yJ7_append (Cond.code yJ7_append cJ7_append 3 (some (.object "java/lang/AbstractStringBuilder"))) (6) (126) [.ref a0, va_rf p0] xeR (fJ7_append__J8 a0 p0) := by
  refine xMeth.of (lv0 := [(0, va_rf (some a0)), (1, va_rf p0)]) G (by decide +kernel) (Or.inl rfl) (by simp [lg_sl, xrf_cat, xct_i, xct_l, xct_d, xct_r]) (by simp [lv_args, xrf_cat, xct_i, xct_l, xct_d, xct_r, xrf_some]) (fun x F hnL hRm hmn ht e1 e2 e3 e4 => ?_)
  have hno : ∀ pc, xNo x pc := fun pc z hz => by rw [ht.1 rfl] at hz; cases hz
  unfold fJ7_append__J8
  refine xr_aload_n 1 (r := p0) F dJ7_append_0 rfl ?_
  refine xr_ifnonnull 9 F dJ7_append_1 rfl ?_ ?_
  · refine xr_aload_n 0 (r := (some a0)) F dJ7_append_4 rfl ?_
    refine xr_PR (y := yJ7_appendNull) (y2 := ({ cls := "java/lang/AbstractStringBuilder", name := "isLatin1", desc := "()Z" } : Jvm.MethodName)) (As := []) (r := (some a0)) F (hno _) dJ7_append_5 (fun z => fJ7_appendNull__J8_m (xFG F) z) (Or.inl rfl) (ci := 4) (C := RJ8) (T := TJ8) rfl q313 q310 q312 q311 q352 rfl (xroom hRm (Nat.le_of_ble_eq_true rfl) (Nat.le_of_ble_eq_true rfl)) ⟨by decide, by decide⟩ n_J7_appendNull rfl (xcat (Nat.le_of_ble_eq_true rfl)) (fun v5 => ?_)
    exact xr_aret (v := v5) F dJ7_append_8 (Or.inl ⟨_, rfl⟩)
  · refine xr_aload_n 1 (r := p0) F dJ7_append_9 rfl ?_
    refine xr_VI (y := yJ9_length) (As := []) (r := p0) F (hno _) dJ7_append_10 (fun z => fJ9_length_m (xFG F) z) (Or.inl rfl) (ci := 5) (C := RJ9) (T := TJ9) rfl q383 q380 q381 q382 (xroom hRm (Nat.le_of_ble_eq_true rfl) (Nat.le_of_ble_eq_true rfl)) ⟨by decide, by decide⟩ n_J9_length rfl (xcat (Nat.le_of_ble_eq_true rfl)) (fun v10 => ?_)
    refine xs_i_n [0, 1] F dJ7_append_13 hnL rfl rfl (xk1 rfl rfl (xk2 rfl (xrf_cat _) xk0)) ?_
    refine xr_aload_n 1 (r := (some a0)) F dJ7_append_14 rfl ?_
    refine xr_aload_n 1 (r := (some a0)) F dJ7_append_15 rfl ?_
    refine xr_gI (r := (some a0)) (ref := "java/lang/AbstractStringBuilder") F dJ7_append_16 (C := RJ8) (T := TJ8) (N := 4) rfl (by decide) (Or.inl q291) (Or.inl rfl) (fun v16 => ?_)
    refine xr_iload_n 0 F dJ7_append_19 rfl ?_
    refine xr_iadd F dJ7_append_20 ?_
    refine xr_PV (y := yJ7_ensureCapacityInternal) (y2 := ({ cls := "java/lang/AbstractStringBuilder", name := "isLatin1", desc := "()Z" } : Jvm.MethodName)) (As := [.int (v16 + v10)]) (r := (some a0)) F (hno _) dJ7_append_21 (fun z => fJ7_ensureCapacityInternal__J8_m (xFG F) z (v16 + v10)) (Or.inl rfl) (ci := 4) (C := RJ8) (T := TJ8) rfl q317 q314 q316 q315 q352 rfl (xroom hRm (Nat.le_of_ble_eq_true rfl) (Nat.le_of_ble_eq_true rfl)) ⟨by decide, by decide⟩ n_J7_ensureCapacityInternal rfl (xcat (Nat.le_of_ble_eq_true rfl)) (fun _ => ?_)
    refine xr_aload_n 1 (r := (some a0)) F dJ7_append_24 rfl ?_
    refine xr_aload_n 1 (r := (some a0)) F dJ7_append_25 rfl ?_
    refine xr_gI (r := (some a0)) (ref := "java/lang/AbstractStringBuilder") F dJ7_append_26 (C := RJ8) (T := TJ8) (N := 4) rfl (by decide) (Or.inl q291) (Or.inl rfl) (fun v26 => ?_)
    refine xr_aload_n 2 (r := p0) F dJ7_append_29 rfl ?_
    refine xr_PV (y := yJ7_putStringAt) (y2 := ({ cls := "java/lang/AbstractStringBuilder", name := "isLatin1", desc := "()Z" } : Jvm.MethodName)) (As := [.int v26, va_rf p0]) (r := (some a0)) F (hno _) dJ7_append_30 (fun z => fJ7_putStringAt__J8_m (xFG F) z v26 p0) (Or.inl rfl) (ci := 4) (C := RJ8) (T := TJ8) rfl q392 q389 q391 q390 q352 rfl (xroom hRm (Nat.le_of_ble_eq_true rfl) (Nat.le_of_ble_eq_true rfl)) ⟨by decide, by decide⟩ n_J7_putStringAt rfl (xcat (Nat.le_of_ble_eq_true rfl)) (fun _ => ?_)
    refine xr_aload_n 1 (r := (some a0)) F dJ7_append_33 rfl ?_
    refine xr_dup F dJ7_append_34 (xrf_cat _) ?_
    refine xr_gI (r := (some a0)) (ref := "java/lang/AbstractStringBuilder") F dJ7_append_35 (C := RJ8) (T := TJ8) (N := 4) rfl (by decide) (Or.inl q291) (Or.inl rfl) (fun v35 => ?_)
    refine xr_iload_n 0 F dJ7_append_38 rfl ?_
    refine xr_iadd F dJ7_append_39 ?_
    refine xr_put (r := (some a0)) (ref := "java/lang/AbstractStringBuilder") F dJ7_append_40 xk_4 (by decide) (Or.inl q291) (Or.inl rfl) (Or.inl rfl) ⟨rfl, rfl⟩ ?_
    refine xr_aload_n 1 (r := (some a0)) F dJ7_append_43 rfl ?_
    exact xr_aret (v := (some a0)) F dJ7_append_44 (Or.inl ⟨_, rfl⟩)
theorem fJ8_append_m {l : Launch} {D : xD} {s0 : State} {b0 : Nat} {Γ : Nat → Option Nat} (G : xG l D s0 b0 Γ) (a0 : Nat) (p0 : Option Nat) : xMeth l D s0 Γ yJ8_append (Cond.code yJ8_append cJ8_append 2 (some (.object "java/lang/StringBuilder"))) (7) (148) [.ref a0, va_rf p0] xeR (fJ8_append a0 p0) := by
  refine xMeth.of (lv0 := [(0, va_rf (some a0)), (1, va_rf p0)]) G (by decide +kernel) (Or.inl rfl) (by simp [lg_sl, xrf_cat, xct_i, xct_l, xct_d, xct_r]) (by simp [lv_args, xrf_cat, xct_i, xct_l, xct_d, xct_r, xrf_some]) (fun x F hnL hRm hmn ht e1 e2 e3 e4 => ?_)
  have hno : ∀ pc, xNo x pc := fun pc z hz => by rw [ht.1 rfl] at hz; cases hz
  unfold fJ8_append
  refine xr_aload_n 0 (r := (some a0)) F dJ8_append_0 rfl ?_
  refine xr_aload_n 1 (r := p0) F dJ8_append_1 rfl ?_
  refine xr_SUR (y := yJ7_append) (As := [va_rf p0]) (r := some a0) F (hno _) dJ8_append_2 (fun z => fJ7_append__J8_m (xFG F) z p0) rfl (ci := 4) (C := RJ8) (T := TJ8) rfl (by decide) q309 q307 q308 q3980 q300 (xroom hRm (Nat.le_of_ble_eq_true rfl) (Nat.le_of_ble_eq_true rfl)) n_J7_append rfl (xcat (Nat.le_of_ble_eq_true rfl)) (fun v2 => ?_)
  refine xr_pop F dJ8_append_5 (xrf_cat _) ?_
  refine xr_aload_n 0 (r := (some a0)) F dJ8_append_6 rfl ?_
  exact xr_aret (v := (some a0)) F dJ8_append_7 (Or.inl ⟨_, rfl⟩)
theorem fJ17_stringSize_p16_ok {x : xC} (F : xF x RJ17 cJ17_stringSize (some .int)) (hnL : xnL x = 4) (hRm : ∃ dc ds, x.2.2.2.1 = { frames := 1, cells := dc, slots := ds, locals := 12 }) (hno : ∀ pc, xNo x pc) (hmn : xmn x = "stringSize" ∧ xmy x yJ17_stringSize) : ∀ (n : Nat) (l0 : Int32) (l1 : Int32) (l2 : Int32) (l3 : Int32), xI x xeI 16 [(0, .int l0), (1, .int l1), (2, .int l2), (3, .int l3)] [] (fJ17_stringSize_p16 n l0 l1 l2 l3) := by
  intro n
  induction n with
  | zero => intro l0 l1 l2 l3; exact xI.stuck
  | succ n ih =>
    intro l0 l1 l2 l3
    unfold fJ17_stringSize_p16
    refine xr_iload_n 3 F dJ17_stringSize_16 rfl ?_
    refine xr_bipush (10 : Int32) F dJ17_stringSize_17 rfl ?_
    refine xr_icmp_ge 42 F dJ17_stringSize_19 rfl ?_ ?_
    · refine xr_bipush (10 : Int32) F dJ17_stringSize_42 rfl ?_
      refine xr_iload_n 1 F dJ17_stringSize_44 rfl ?_
      refine xr_iadd F dJ17_stringSize_45 ?_
      exact xr_iret F dJ17_stringSize_46
    · refine xr_iload_n 0 F dJ17_stringSize_22 rfl ?_
      refine xr_iload_n 2 F dJ17_stringSize_23 rfl ?_
      refine xr_icmp_le 31 F dJ17_stringSize_24 rfl ?_ ?_
      · refine xr_bipush (10 : Int32) F dJ17_stringSize_31 rfl ?_
        refine xr_iload_n 2 F dJ17_stringSize_33 rfl ?_
        refine xr_imul F dJ17_stringSize_34 ?_
        refine xr_letI (fun x2_35 => ?_)
        refine xs_i_n [0, 1, 3] F dJ17_stringSize_35 hnL rfl rfl (xk1 rfl rfl (xk2 rfl rfl (xk1 rfl rfl xk0))) ?_
        refine xs_inc [3, 0, 1, 2] F dJ17_stringSize_36 rfl hnL rfl rfl (xk2 rfl rfl (xk1 rfl rfl (xk1 rfl rfl xk0))) (fun x3_36 => ?_)
        refine xr_goto 16 F dJ17_stringSize_39 rfl ?_
        exact xI.sub [2, 3, 1, 0] rfl (ih l0 l1 x2_35 x3_36)
      · refine xr_iload_n 3 F dJ17_stringSize_27 rfl ?_
        refine xr_iload_n 1 F dJ17_stringSize_28 rfl ?_
        refine xr_iadd F dJ17_stringSize_29 ?_
        exact xr_iret F dJ17_stringSize_30
theorem fJ17_stringSize_p11_ok {x : xC} (F : xF x RJ17 cJ17_stringSize (some .int)) (hnL : xnL x = 4) (hRm : ∃ dc ds, x.2.2.2.1 = { frames := 1, cells := dc, slots := ds, locals := 12 }) (hno : ∀ pc, xNo x pc) (hmn : xmn x = "stringSize" ∧ xmy x yJ17_stringSize) (l0 : Int32) (l1 : Int32) : xI x xeI 11 [(0, .int l0), (1, .int l1)] [] (fJ17_stringSize_p11 l0 l1) := by
  unfold fJ17_stringSize_p11
  refine xr_bipush (-10 : Int32) F dJ17_stringSize_11 rfl ?_
  refine xr_letI (fun x2_13 => ?_)
  refine xs_i_n [0, 1] F dJ17_stringSize_13 hnL rfl rfl (xk1 rfl rfl (xk2 rfl rfl xk0)) ?_
  refine xr_iconst (1 : Int32) F dJ17_stringSize_14 rfl ?_
  refine xr_letI (fun x3_15 => ?_)
  refine xs_i_n [0, 1, 2] F dJ17_stringSize_15 hnL rfl rfl (xk2 rfl rfl (xk1 rfl rfl (xk1 rfl rfl xk0))) ?_
  exact xI.sub [2, 3, 1, 0] rfl (fJ17_stringSize_p16_ok F hnL hRm hno hmn xFU l0 l1 x2_13 x3_15)
theorem fJ17_stringSize_m {l : Launch} {D : xD} {s0 : State} {b0 : Nat} {Γ : Nat → Option Nat} (G : xG l D s0 b0 Γ) (p0 : Int32) : xMeth l D s0 Γ yJ17_stringSize (Cond.code yJ17_stringSize cJ17_stringSize 4 (some .int)) (1) (12) [.int p0] xeI (fJ17_stringSize p0) := by
  refine xMeth.of (lv0 := [(0, .int p0)]) G (by decide +kernel) (Or.inl rfl) (Nat.le_of_ble_eq_true rfl) rfl (fun x F hnL hRm hmn ht e1 e2 e3 e4 => ?_)
  have hno : ∀ pc, xNo x pc := fun pc z hz => by rw [ht.1 rfl] at hz; cases hz
  unfold fJ17_stringSize
  refine xr_iconst (1 : Int32) F dJ17_stringSize_0 rfl ?_
  refine xr_letI (fun x1_1 => ?_)
  refine xs_i_n [0] F dJ17_stringSize_1 hnL rfl rfl (xk2 rfl rfl xk0) ?_
  refine xr_iload_n 1 F dJ17_stringSize_2 rfl ?_
  refine xr_if_lt 11 F dJ17_stringSize_3 rfl ?_ ?_
  · exact xI.sub [1, 0] rfl (fJ17_stringSize_p11_ok F hnL hRm hno hmn p0 x1_1)
  · refine xr_iconst (0 : Int32) F dJ17_stringSize_6 rfl ?_
    refine xr_letI (fun x1_7 => ?_)
    refine xs_i_n [1] F dJ17_stringSize_7 hnL rfl rfl (xk2 rfl rfl xk0) ?_
    refine xr_iload_n 1 F dJ17_stringSize_8 rfl ?_
    refine xr_ineg F dJ17_stringSize_9 ?_
    refine xr_letI (fun x0_10 => ?_)
    refine xs_i_n [0] F dJ17_stringSize_10 hnL rfl rfl (xk1 rfl rfl xk0) ?_
    exact xI.sub [0, 1] rfl (fJ17_stringSize_p11_ok F hnL hRm hno hmn x0_10 x1_7)
theorem fJ17_getChars_p104_ok {x : xC} (F : xF x RJ17 cJ17_getChars (some .int)) (hnL : xnL x = 7) (hRm : ∃ dc ds, x.2.2.2.1 = { frames := 1, cells := dc, slots := ds, locals := 12 }) (hno : ∀ pc, xNo x pc) (hmn : xmn x = "getChars" ∧ xmy x yJ17_getChars) (l2 : Option Nat) (l5 : Int32) (l6 : Int32) : xI x xeI 104 [(2, va_rf l2), (5, .int l5), (6, .int l6)] [] (fJ17_getChars_p104 l2 l5 l6) := by
  unfold fJ17_getChars_p104
  refine xr_iload 2 F dJ17_getChars_104 rfl ?_
  refine xr_if_eq 118 F dJ17_getChars_106 rfl ?_ ?_
  · refine xr_iload 1 F dJ17_getChars_118 rfl ?_
    exact xr_iret F dJ17_getChars_120
  · refine xr_aload_n 0 (r := l2) F dJ17_getChars_109 rfl ?_
    refine xs_inc [1] F dJ17_getChars_110 rfl hnL rfl rfl xk0 (fun x5_110 => ?_)
    refine xr_iload 0 F dJ17_getChars_113 rfl ?_
    refine xr_bipush (45 : Int32) F dJ17_getChars_115 rfl ?_
    refine xr_bast (r := l2) F dJ17_getChars_117 ?_
    refine xr_iload 0 F dJ17_getChars_118 rfl ?_
    exact xr_iret F dJ17_getChars_120
theorem fJ17_getChars_p22_ok {x : xC} (F : xF x RJ17 cJ17_getChars (some .int)) (hnL : xnL x = 7) (hRm : ∃ dc ds, x.2.2.2.1 = { frames := 1, cells := dc, slots := ds, locals := 12 }) (hno : ∀ pc, xNo x pc) (hmn : xmn x = "getChars" ∧ xmy x yJ17_getChars) : ∀ (n : Nat) (l0 : Int32) (l2 : Option Nat) (l5 : Int32) (l6 : Int32), xI x xeI 22 [(0, .int l0), (2, va_rf l2), (5, .int l5), (6, .int l6)] [] (fJ17_getChars_p22 n l0 l2 l5 l6) := by
  intro n
  induction n with
  | zero => intro l0 l2 l5 l6; exact xI.stuck
  | succ n ih =>
    intro l0 l2 l5 l6
    unfold fJ17_getChars_p22
    refine xr_iload_n 0 F dJ17_getChars_22 rfl ?_
    refine xr_bipush (-100 : Int32) F dJ17_getChars_23 rfl ?_
    refine xr_icmp_gt 72 F dJ17_getChars_25 rfl ?_ ?_
    · refine xr_aload_n 1 (r := l2) F dJ17_getChars_72 rfl ?_
      refine xs_inc [2, 0, 1, 3] F dJ17_getChars_73 rfl hnL rfl rfl (xk1 rfl rfl (xk1 rfl rfl (xk1 rfl rfl xk0))) (fun x5_73 => ?_)
      refine xr_iload 0 F dJ17_getChars_76 rfl ?_
      refine xr_gs (k := 14) F dJ17_getChars_78 rfl q436 (fun v78 => ?_)
      refine xr_iload_n 1 F dJ17_getChars_81 rfl ?_
      refine xr_ineg F dJ17_getChars_82 ?_
      refine xr_bald (r := v78) F dJ17_getChars_83 (fun v83 => ?_)
      refine xr_bast (r := l2) F dJ17_getChars_84 ?_
      refine xr_iload_n 1 F dJ17_getChars_85 rfl ?_
      refine xr_bipush (-9 : Int32) F dJ17_getChars_86 rfl ?_
      refine xr_icmp_ge 104 F dJ17_getChars_88 rfl ?_ ?_
      · exact xI.sub [2, 0, 3] rfl (fJ17_getChars_p104_ok F hnL hRm hno hmn l2 x5_73 l6)
      · refine xr_aload_n 2 (r := l2) F dJ17_getChars_91 rfl ?_
        refine xs_inc [0, 1, 2, 3] F dJ17_getChars_92 rfl hnL rfl rfl (xk1 rfl rfl (xk1 rfl rfl (xk1 rfl rfl xk0))) (fun x5_92 => ?_)
        refine xr_iload 0 F dJ17_getChars_95 rfl ?_
        refine xr_gs (k := 15) F dJ17_getChars_97 rfl q438 (fun v97 => ?_)
        refine xr_iload_n 1 F dJ17_getChars_100 rfl ?_
        refine xr_ineg F dJ17_getChars_101 ?_
        refine xr_bald (r := v97) F dJ17_getChars_102 (fun v102 => ?_)
        refine xr_bast (r := l2) F dJ17_getChars_103 ?_
        exact xI.sub [2, 0, 3] rfl (fJ17_getChars_p104_ok F hnL hRm hno hmn l2 x5_92 l6)
    · refine xr_iload_n 0 F dJ17_getChars_28 rfl ?_
      refine xr_bipush (100 : Int32) F dJ17_getChars_29 rfl ?_
      refine xr_idiv F dJ17_getChars_31 ?_
      refine xr_letI (fun x3_32 => ?_)
      refine xs_i_n [0, 1, 2, 3] F dJ17_getChars_32 hnL rfl rfl (xk1 rfl rfl (xk2 rfl (xrf_cat _) (xk1 rfl rfl (xk1 rfl rfl xk0)))) ?_
      refine xr_iload_n 0 F dJ17_getChars_33 rfl ?_
      refine xr_bipush (100 : Int32) F dJ17_getChars_34 rfl ?_
      refine xr_imul F dJ17_getChars_36 ?_
      refine xr_iload_n 1 F dJ17_getChars_37 rfl ?_
      refine xr_isub F dJ17_getChars_38 ?_
      refine xr_letI (fun x4_39 => ?_)
      refine xs_i [0, 2, 3, 4] F dJ17_getChars_39 hnL rfl rfl (xk2 rfl rfl (xk1 rfl rfl (xk1 rfl rfl (xk1 rfl rfl xk0)))) ?_
      refine xr_iload_n 1 F dJ17_getChars_41 rfl ?_
      refine xs_i_n [0, 2, 3, 4] F dJ17_getChars_42 hnL rfl rfl (xk1 rfl rfl (xk1 rfl rfl (xk1 rfl rfl (xk1 rfl rfl xk0)))) ?_
      refine xr_aload_n 2 (r := l2) F dJ17_getChars_43 rfl ?_
      refine xs_inc [3, 0, 1, 2, 4] F dJ17_getChars_44 rfl hnL rfl rfl (xk1 rfl rfl (xk2 rfl rfl (xk1 rfl rfl (xk1 rfl rfl xk0)))) (fun x5_44 => ?_)
      refine xr_iload 0 F dJ17_getChars_47 rfl ?_
      refine xr_gs (k := 14) F dJ17_getChars_49 rfl q436 (fun v49 => ?_)
      refine xr_iload 2 F dJ17_getChars_52 rfl ?_
      refine xr_bald (r := v49) F dJ17_getChars_54 (fun v54 => ?_)
      refine xr_bast (r := l2) F dJ17_getChars_55 ?_
      refine xr_aload_n 3 (r := l2) F dJ17_getChars_56 rfl ?_
      refine xs_inc [0, 1, 2, 3, 4] F dJ17_getChars_57 rfl hnL rfl rfl (xk1 rfl rfl (xk2 rfl rfl (xk1 rfl rfl (xk1 rfl rfl xk0)))) (fun x5_57 => ?_)
      refine xr_iload 0 F dJ17_getChars_60 rfl ?_
      refine xr_gs (k := 15) F dJ17_getChars_62 rfl q438 (fun v62 => ?_)
      refine xr_iload 2 F dJ17_getChars_65 rfl ?_
      refine xr_bald (r := v62) F dJ17_getChars_67 (fun v67 => ?_)
      refine xr_bast (r := l2) F dJ17_getChars_68 ?_
      refine xr_goto 22 F dJ17_getChars_69 rfl ?_
      exact xI.sub [1, 3, 0, 4] rfl (ih x3_32 l2 x5_57 l6)
theorem fJ17_getChars_p12_ok {x : xC} (F : xF x RJ17 cJ17_getChars (some .int)) (hnL : xnL x = 7) (hRm : ∃ dc ds, x.2.2.2.1 = { frames := 1, cells := dc, slots := ds, locals := 12 }) (hno : ∀ pc, xNo x pc) (hmn : xmn x = "getChars" ∧ xmy x yJ17_getChars) (l0 : Int32) (l2 : Option Nat) (l5 : Int32) (s0 : Int32) : xI x xeI 12 [(0, .int l0), (2, va_rf l2), (5, .int l5)] [.int s0] (fJ17_getChars_p12 l0 l2 l5 s0) := by
  unfold fJ17_getChars_p12
  refine xs_i [0, 1, 2] F dJ17_getChars_12 hnL rfl rfl (xk1 rfl rfl (xk1 rfl rfl (xk2 rfl rfl xk0))) ?_
  refine xr_iload 0 F dJ17_getChars_14 rfl ?_
  refine xr_if_ne 22 F dJ17_getChars_16 rfl ?_ ?_
  · refine xr_iload_n 1 F dJ17_getChars_19 rfl ?_
    refine xr_ineg F dJ17_getChars_20 ?_
    refine xr_letI (fun x0_21 => ?_)
    refine xs_i_n [0, 2, 3] F dJ17_getChars_21 hnL rfl rfl (xk1 rfl rfl (xk1 rfl rfl (xk1 rfl rfl xk0))) ?_
    exact xI.sub [0, 2, 3, 1] rfl (fJ17_getChars_p22_ok F hnL hRm hno hmn xFU x0_21 l2 l5 s0)
  · exact xI.sub [1, 2, 3, 0] rfl (fJ17_getChars_p22_ok F hnL hRm hno hmn xFU l0 l2 l5 s0)
theorem fJ17_getChars_m {l : Launch} {D : xD} {s0 : State} {b0 : Nat} {Γ : Nat → Option Nat} (G : xG l D s0 b0 Γ) (p0 : Int32) (p1 : Int32) (p2 : Option Nat) : xMeth l D s0 Γ yJ17_getChars (Cond.code yJ17_getChars cJ17_getChars 7 (some .int)) (1) (12) [.int p0, .int p1, va_rf p2] xeI (fJ17_getChars p0 p1 p2) := by
  refine xMeth.of (lv0 := [(0, .int p0), (1, .int p1), (2, va_rf p2)]) G (by decide +kernel) (Or.inl rfl) (by simp [lg_sl, xrf_cat, xct_i, xct_l, xct_d, xct_r]) (by simp [lv_args, xrf_cat, xct_i, xct_l, xct_d, xct_r, xrf_some]) (fun x F hnL hRm hmn ht e1 e2 e3 e4 => ?_)
  have hno : ∀ pc, xNo x pc := fun pc z hz => by rw [ht.1 rfl] at hz; cases hz
  unfold fJ17_getChars
  refine xr_iload_n 1 F dJ17_getChars_0 rfl ?_
  refine xs_i [0, 2] F dJ17_getChars_1 hnL rfl rfl (xk1 rfl rfl (xk1 rfl rfl xk0)) ?_
  refine xr_iload_n 1 F dJ17_getChars_3 rfl ?_
  refine xr_if_ge 11 F dJ17_getChars_4 rfl ?_ ?_
  · refine xr_iconst (0 : Int32) F dJ17_getChars_11 rfl ?_
    exact xI.sub [1, 2, 0] rfl (fJ17_getChars_p12_ok F hnL hRm hno hmn p0 p2 p1 (0 : Int32))
  · refine xr_iconst (1 : Int32) F dJ17_getChars_7 rfl ?_
    refine xr_goto 12 F dJ17_getChars_8 rfl ?_
    exact xI.sub [1, 2, 0] rfl (fJ17_getChars_p12_ok F hnL hRm hno hmn p0 p2 p1 (1 : Int32))
theorem fJ7_append_2__J8_p48_ok {x : xC} (F : xF x RJ7 cJ7_append_2 (some (.object "java/lang/AbstractStringBuilder"))) (hnL : xnL x = 4) (hRm : ∃ dc ds, x.2.2.2.1 = { frames := 5, cells := dc, slots := ds, locals := 104 }) (hno : ∀ pc, xNo x pc) (hmn : xmn x = "append" ∧ xmy x yJ7_append_2) (l0 : Nat) (l3 : Int32) : xI x xeR 48 [(0, va_rf (some l0)), (3, .int l3)] [] (fJ7_append_2__J8_p48 l0 l3) := by
  unfold fJ7_append_2__J8_p48
  refine xr_aload_n 0 (r := (some l0)) F dJ7_append_2_48 rfl ?_
  refine xr_iload_n 1 F dJ7_append_2_49 rfl ?_
  refine xr_put (r := (some l0)) (ref := "java/lang/AbstractStringBuilder") F dJ7_append_2_50 xk_4 (by decide) (Or.inl q291) (Or.inl rfl) (Or.inl rfl) ⟨rfl, rfl⟩ ?_
  refine xr_aload_n 0 (r := (some l0)) F dJ7_append_2_53 rfl ?_
  exact xr_aret (v := (some l0)) F dJ7_append_2_54 (Or.inl ⟨_, rfl⟩)
theorem fJ7_append_2__J8_m {l : Launch} {D : xD} {s0 : State} {b0 : Nat} {Γ : Nat → Option Nat} (G : xG l D s0 b0 Γ) (a0 : Nat) (p0 : Int32) : xMeth l D s0 Γ yJ7_append_2 (Cond.code yJ7_append_2 cJ7_append_2 4 (some (.object "java/lang/AbstractStringBuilder"))) (5) (104) [.ref a0, .int p0] xeR (fJ7_append_2__J8 a0 p0) := by
  refine xMeth.of (lv0 := [(0, va_rf (some a0)), (1, .int p0)]) G (by decide +kernel) (Or.inl rfl) (Nat.le_of_ble_eq_true rfl) rfl (fun x F hnL hRm hmn ht e1 e2 e3 e4 => ?_)
  have hno : ∀ pc, xNo x pc := fun pc z hz => by rw [ht.1 rfl] at hz; cases hz
  unfold fJ7_append_2__J8
  refine xr_aload_n 0 (r := (some a0)) F dJ7_append_2_0 rfl ?_
  refine xr_gI (r := (some a0)) (ref := "java/lang/AbstractStringBuilder") F dJ7_append_2_1 (C := RJ8) (T := TJ8) (N := 4) rfl (by decide) (Or.inl q291) (Or.inl rfl) (fun v1 => ?_)
  refine xs_i_n [0, 1] F dJ7_append_2_4 hnL rfl rfl (xk1 rfl rfl (xk2 rfl rfl xk0)) ?_
  refine xr_iload_n 0 F dJ7_append_2_5 rfl ?_
  refine xr_iload_n 2 F dJ7_append_2_6 rfl ?_
  refine xr_SI (y := yJ17_stringSize) (As := [.int p0]) F (hno _) dJ7_append_2_7 (fJ17_stringSize_m (xFG F) p0) (Or.inl rfl) q432 q141 (Or.inl q430) q431 (xroom hRm (Nat.le_of_ble_eq_true rfl) (Nat.le_of_ble_eq_true rfl)) ⟨by decide, by decide⟩ n_J17_stringSize rfl (xcat (Nat.le_of_ble_eq_true rfl)) (fun v7 => ?_)
  refine xr_iadd F dJ7_append_2_10 ?_
  refine xr_letI (fun x3_11 => ?_)
  refine xs_i_n [0, 1, 2] F dJ7_append_2_11 hnL rfl rfl (xk2 rfl rfl (xk1 rfl rfl (xk1 rfl rfl xk0))) ?_
  refine xr_aload_n 2 (r := (some a0)) F dJ7_append_2_12 rfl ?_
  refine xr_iload_n 0 F dJ7_append_2_13 rfl ?_
  refine xr_PV (y := yJ7_ensureCapacityInternal) (y2 := ({ cls := "java/lang/AbstractStringBuilder", name := "isLatin1", desc := "()Z" } : Jvm.MethodName)) (As := [.int x3_11]) (r := (some a0)) F (hno _) dJ7_append_2_14 (fun z => fJ7_ensureCapacityInternal__J8_m (xFG F) z x3_11) (Or.inl rfl) (ci := 4) (C := RJ8) (T := TJ8) rfl q317 q314 q316 q315 q352 rfl (xroom hRm (Nat.le_of_ble_eq_true rfl) (Nat.le_of_ble_eq_true rfl)) ⟨by decide, by decide⟩ n_J7_ensureCapacityInternal rfl (xcat (Nat.le_of_ble_eq_true rfl)) (fun _ => ?_)
  refine xr_aload_n 2 (r := (some a0)) F dJ7_append_2_17 rfl ?_
  refine xr_VI (y := yJ7_isLatin1) (As := []) (r := (some a0)) F (hno _) dJ7_append_2_18 (fun z => fJ7_isLatin1__J8_m (xFG F) z) (Or.inl rfl) (ci := 4) (C := RJ8) (T := TJ8) rfl q353 q349 q350 q352 (xroom hRm (Nat.le_of_ble_eq_true rfl) (Nat.le_of_ble_eq_true rfl)) ⟨by decide, by decide⟩ n_J7_isLatin1 rfl (xcat (Nat.le_of_ble_eq_true rfl)) (fun v18 => ?_)
  refine xr_if_eq 37 F dJ7_append_2_21 rfl ?_ ?_
  · refine xr_iload_n 3 F dJ7_append_2_37 rfl ?_
    refine xr_iload_n 1 F dJ7_append_2_38 rfl ?_
    refine xr_iload_n 0 F dJ7_append_2_39 rfl ?_
    refine xr_aload_n 2 (r := (some a0)) F dJ7_append_2_40 rfl ?_
    refine xr_gR (r := (some a0)) (ref := "java/lang/AbstractStringBuilder") F dJ7_append_2_41 (C := RJ8) (T := TJ8) (N := 4) rfl (by decide) (Or.inl q288) (Or.inl rfl) (fun v41 => ?_)
    exact xI.stuck
  · refine xr_iload_n 3 F dJ7_append_2_24 rfl ?_
    refine xr_iload_n 0 F dJ7_append_2_25 rfl ?_
    refine xr_aload_n 2 (r := (some a0)) F dJ7_append_2_26 rfl ?_
    refine xr_gR (r := (some a0)) (ref := "java/lang/AbstractStringBuilder") F dJ7_append_2_27 (C := RJ8) (T := TJ8) (N := 4) rfl (by decide) (Or.inl q288) (Or.inl rfl) (fun v27 => ?_)
    refine xr_SI (y := yJ17_getChars) (As := [.int p0, .int x3_11, va_rf v27]) F (hno _) dJ7_append_2_30 (fJ17_getChars_m (xFG F) p0 x3_11 v27) (Or.inl rfl) q435 q141 (Or.inl q433) q434 (xroom hRm (Nat.le_of_ble_eq_true rfl) (Nat.le_of_ble_eq_true rfl)) ⟨by decide, by decide⟩ n_J17_getChars rfl (xcat (Nat.le_of_ble_eq_true rfl)) (fun v30 => ?_)
    refine xr_pop F dJ7_append_2_33 rfl ?_
    refine xr_goto 48 F dJ7_append_2_34 rfl ?_
    exact xI.sub [2, 0] rfl (fJ7_append_2__J8_p48_ok F hnL hRm hno hmn a0 x3_11)
theorem fJ8_append_2_m {l : Launch} {D : xD} {s0 : State} {b0 : Nat} {Γ : Nat → Option Nat} (G : xG l D s0 b0 Γ) (a0 : Nat) (p0 : Int32) : xMeth l D s0 Γ yJ8_append_2 (Cond.code yJ8_append_2 cJ8_append_2 2 (some (.object "java/lang/StringBuilder"))) (6) (127) [.ref a0, .int p0] xeR (fJ8_append_2 a0 p0) := by
  refine xMeth.of (lv0 := [(0, va_rf (some a0)), (1, .int p0)]) G (by decide +kernel) (Or.inl rfl) (Nat.le_of_ble_eq_true rfl) rfl (fun x F hnL hRm hmn ht e1 e2 e3 e4 => ?_)
  have hno : ∀ pc, xNo x pc := fun pc z hz => by rw [ht.1 rfl] at hz; cases hz
  unfold fJ8_append_2
  refine xr_aload_n 0 (r := (some a0)) F dJ8_append_2_0 rfl ?_
  refine xr_iload_n 1 F dJ8_append_2_1 rfl ?_
  refine xr_SUR (y := yJ7_append_2) (As := [.int p0]) (r := some a0) F (hno _) dJ8_append_2_2 (fun z => fJ7_append_2__J8_m (xFG F) z p0) rfl (ci := 4) (C := RJ8) (T := TJ8) rfl (by decide) q429 q427 q428 q3987 q300 (xroom hRm (Nat.le_of_ble_eq_true rfl) (Nat.le_of_ble_eq_true rfl)) n_J7_append_2 rfl (xcat (Nat.le_of_ble_eq_true rfl)) (fun v2 => ?_)
  refine xr_pop F dJ8_append_2_5 (xrf_cat _) ?_
  refine xr_aload_n 0 (r := (some a0)) F dJ8_append_2_6 rfl ?_
  exact xr_aret (v := (some a0)) F dJ8_append_2_7 (Or.inl ⟨_, rfl⟩)
theorem fJ8_append_4_m {l : Launch} {D : xD} {s0 : State} {b0 : Nat} {Γ : Nat → Option Nat} (G : xG l D s0 b0 Γ) (a0 : Nat) (p0 : Option Nat) : xMeth l D s0 Γ yJ8_append_4 (Cond.code yJ8_append_4 cJ8_append_4 2 (some (.object "java/lang/AbstractStringBuilder"))) (8) (169) [.ref a0, va_rf p0] xeR (fJ8_append_4 a0 p0) := by
  refine xMeth.of (lv0 := [(0, va_rf (some a0)), (1, va_rf p0)]) G (by decide +kernel) (Or.inl rfl) (by simp [lg_sl, xrf_cat, xct_i, xct_l, xct_d, xct_r]) (by simp [lv_args, xrf_cat, xct_i, xct_l, xct_d, xct_r, xrf_some]) (fun x F hnL hRm hmn ht e1 e2 e3 e4 => ?_)
  have hno : ∀ pc, xNo x pc := fun pc z hz => by rw [ht.1 rfl] at hz; cases hz
  unfold fJ8_append_4
  refine xr_aload_n 0 (r := (some a0)) F dJ8_append_4_0 rfl ?_
  refine xr_aload_n 1 (r := p0) F dJ8_append_4_1 rfl ?_
  refine xr_VR (y := yJ8_append) (As := [va_rf p0]) (r := (some a0)) F (hno _) dJ8_append_4_2 (fun z => fJ8_append_m (xFG F) z p0) (Or.inl rfl) (ci := 4) (C := RJ8) (T := TJ8) rfl q306 q3362 q304 q305 (xroom hRm (Nat.le_of_ble_eq_true rfl) (Nat.le_of_ble_eq_true rfl)) ⟨by decide, by decide⟩ n_J8_append rfl (xcat (Nat.le_of_ble_eq_true rfl)) (fun v2 => ?_)
  exact xr_aret (v := v2) F dJ8_append_4_5 (Or.inl ⟨_, rfl⟩)
theorem fJ7_init_2__J8_p53_ok {x : xC} (F : xF x RJ7 cJ7_init_2 none) (hnL : xnL x = 5) (hRm : ∃ dc ds, x.2.2.2.1 = { frames := 9, cells := dc, slots := ds, locals := 190 }) (hno : ∀ pc, xNo x pc) (hmn : xmn x = "<init>" ∧ xmy x yJ7_init_2) (l0 : Nat) (l1 : Option Nat) (s0 : Option Nat) (s1 : Nat) : xI x xeV 53 [(0, va_rf (some l0)), (1, va_rf l1)] [va_rf s0, va_rf (some s1)] (fJ7_init_2__J8_p53 l0 l1 s0 s1) := by
  unfold fJ7_init_2__J8_p53
  refine xr_put (r := (some s1)) (ref := "java/lang/AbstractStringBuilder") F dJ7_init_2_53 xk_4 (by decide) (Or.inl q288) (Or.inl rfl) (Or.inl rfl) (xr_rfa _ _) ?_
  refine xr_aload_n 0 (r := (some l0)) F dJ7_init_2_56 rfl ?_
  refine xr_aload_n 1 (r := l1) F dJ7_init_2_57 rfl ?_
  refine xr_UR (x0 := ⟨"java/lang/AbstractStringBuilder", "append", "(Ljava/lang/String;)Ljava/lang/AbstractStringBuilder;"⟩) (y := yJ8_append_4) (As := [va_rf l1]) (r := (some l0)) F (hno _) dJ7_init_2_58 (fun z => fJ8_append_4_m (xFG F) z l1) rfl (ci := 4) (C := RJ8) (T := TJ8) rfl q3361 q3359 q3360 q4002 q3980 (Or.inl ⟨_, _, _, q309, q308⟩) (xroom hRm (Nat.le_of_ble_eq_true rfl) (Nat.le_of_ble_eq_true rfl)) ⟨by decide, by decide⟩ n_J8_append_4 rfl (xcat (Nat.le_of_ble_eq_true rfl)) (fun v58 => ?_)
  refine xr_pop F dJ7_init_2_61 (xrf_cat _) ?_
  exact xr_vret F dJ7_init_2_62
theorem fJ7_init_2__J8_p24_ok {x : xC} (F : xF x RJ7 cJ7_init_2 none) (hnL : xnL x = 5) (hRm : ∃ dc ds, x.2.2.2.1 = { frames := 9, cells := dc, slots := ds, locals := 190 }) (hno : ∀ pc, xNo x pc) (hmn : xmn x = "<init>" ∧ xmy x yJ7_init_2) (l0 : Nat) (l1 : Option Nat) (s0 : Int32) : xI x xeV 24 [(0, va_rf (some l0)), (1, va_rf l1)] [.int s0] (fJ7_init_2__J8_p24 l0 l1 s0) := by
  unfold fJ7_init_2__J8_p24
  refine xs_i_n [0, 1] F dJ7_init_2_24 hnL rfl rfl (xk1 rfl rfl (xk1 rfl rfl xk0)) ?_
  refine xr_aload_n 2 (r := l1) F dJ7_init_2_25 rfl ?_
  refine xr_VI (y := yJ9_coder) (As := []) (r := l1) F (hno _) dJ7_init_2_26 (fun z => fJ9_coder_m (xFG F) z) (Or.inl rfl) (ci := 5) (C := RJ9) (T := TJ9) rfl q387 q397 q385 q386 (xroom hRm (Nat.le_of_ble_eq_true rfl) (Nat.le_of_ble_eq_true rfl)) ⟨by decide, by decide⟩ n_J9_coder rfl (xcat (Nat.le_of_ble_eq_true rfl)) (fun v26 => ?_)
  refine xs_i [0, 1, 2] F dJ7_init_2_29 hnL rfl rfl (xk2 rfl rfl (xk1 rfl rfl (xk1 rfl rfl xk0))) ?_
  refine xr_aload_n 2 (r := (some l0)) F dJ7_init_2_31 rfl ?_
  refine xr_iload 0 F dJ7_init_2_32 rfl ?_
  refine xr_pN (r := (some l0)) (ref := "java/lang/AbstractStringBuilder") F dJ7_init_2_34 xk_4 (by decide) (Or.inl q289) (Or.inl rfl) (Or.inl rfl) ?_
  refine xr_aload_n 2 (r := (some l0)) F dJ7_init_2_37 rfl ?_
  refine xr_iload 0 F dJ7_init_2_38 rfl ?_
  refine xr_if_ne 49 F dJ7_init_2_40 rfl ?_ ?_
  · refine xr_iload_n 1 F dJ7_init_2_43 rfl ?_
    refine xr_newa F dJ7_init_2_44 rfl (fun _ _ => rfl) (by decide) q301 (fun v44 => ?_)
    refine xr_goto 53 F dJ7_init_2_46 rfl ?_
    exact xI.sub [2, 3] rfl (fJ7_init_2__J8_p53_ok F hnL hRm hno hmn l0 l1 (some v44) l0)
  · refine xr_iload_n 1 F dJ7_init_2_49 rfl ?_
    exact xI.stuck
theorem fJ7_init_2__J8_m {l : Launch} {D : xD} {s0 : State} {b0 : Nat} {Γ : Nat → Option Nat} (G : xG l D s0 b0 Γ) (a0 : Nat) (p0 : Option Nat) : xMeth l D s0 Γ yJ7_init_2 (Cond.code yJ7_init_2 cJ7_init_2 5 none) (9) (190) [.ref a0, va_rf p0] xeV (fJ7_init_2__J8 a0 p0) := by
  refine xMeth.of (lv0 := [(0, va_rf (some a0)), (1, va_rf p0)]) G (by decide +kernel) (Or.inl rfl) (by simp [lg_sl, xrf_cat, xct_i, xct_l, xct_d, xct_r]) (by simp [lv_args, xrf_cat, xct_i, xct_l, xct_d, xct_r, xrf_some]) (fun x F hnL hRm hmn ht e1 e2 e3 e4 => ?_)
  have hno : ∀ pc, xNo x pc := fun pc z hz => by rw [ht.1 rfl] at hz; cases hz
  unfold fJ7_init_2__J8
  refine xr_aload_n 0 (r := (some a0)) F dJ7_init_2_0 rfl ?_
  refine xr_obj F dJ7_init_2_1 q278 q200 (q_objcode) (xroom hRm (Nat.le_of_ble_eq_true rfl) (Nat.le_of_ble_eq_true rfl)) (xcat (Nat.le_of_ble_eq_true rfl)) ?_
  refine xr_aload_n 1 (r := p0) F dJ7_init_2_4 rfl ?_
  refine xr_VI (y := yJ9_length) (As := []) (r := p0) F (hno _) dJ7_init_2_5 (fun z => fJ9_length_m (xFG F) z) (Or.inl rfl) (ci := 5) (C := RJ9) (T := TJ9) rfl q383 q380 q381 q382 (xroom hRm (Nat.le_of_ble_eq_true rfl) (Nat.le_of_ble_eq_true rfl)) ⟨by decide, by decide⟩ n_J9_length rfl (xcat (Nat.le_of_ble_eq_true rfl)) (fun v5 => ?_)
  refine xs_i_n [0, 1] F dJ7_init_2_8 hnL rfl rfl (xk1 rfl rfl (xk2 rfl (xrf_cat _) xk0)) ?_
  refine xr_iload_n 0 F dJ7_init_2_9 rfl ?_
  refine xr_ldc F dJ7_init_2_10 q3358 ?_
  refine xr_icmp_ge 22 F dJ7_init_2_12 rfl ?_ ?_
  · refine xr_ldc F dJ7_init_2_22 q332 ?_
    exact xI.sub [1, 2] rfl (fJ7_init_2__J8_p24_ok F hnL hRm hno hmn a0 p0 (2147483647 : Int32))
  · refine xr_iload_n 0 F dJ7_init_2_15 rfl ?_
    refine xr_bipush (16 : Int32) F dJ7_init_2_16 rfl ?_
    refine xr_iadd F dJ7_init_2_18 ?_
    refine xr_goto 24 F dJ7_init_2_19 rfl ?_
    exact xI.sub [1, 2] rfl (fJ7_init_2__J8_p24_ok F hnL hRm hno hmn a0 p0 (v5 + (16 : Int32)))
theorem fJ8_init_2_m {l : Launch} {D : xD} {s0 : State} {b0 : Nat} {Γ : Nat → Option Nat} (G : xG l D s0 b0 Γ) (a0 : Nat) (p0 : Option Nat) : xMeth l D s0 Γ yJ8_init_2 (Cond.code yJ8_init_2 cJ8_init_2 2 none) (10) (214) [.ref a0, va_rf p0] xeV (fJ8_init_2 a0 p0) := by
  refine xMeth.of (lv0 := [(0, va_rf (some a0)), (1, va_rf p0)]) G (by decide +kernel) (Or.inl rfl) (by simp [lg_sl, xrf_cat, xct_i, xct_l, xct_d, xct_r]) (by simp [lv_args, xrf_cat, xct_i, xct_l, xct_d, xct_r, xrf_some]) (fun x F hnL hRm hmn ht e1 e2 e3 e4 => ?_)
  have hno : ∀ pc, xNo x pc := fun pc z hz => by rw [ht.1 rfl] at hz; cases hz
  unfold fJ8_init_2
  refine xr_aload_n 0 (r := (some a0)) F dJ8_init_2_0 rfl ?_
  refine xr_aload_n 1 (r := p0) F dJ8_init_2_1 rfl ?_
  refine xr_IV (y := yJ7_init_2) (As := [va_rf p0]) F (hno _) dJ8_init_2_2 (fJ7_init_2__J8_m (xFG F) a0 p0) rfl rfl q3357 (Or.inl q3355) q3356 (xroom hRm (Nat.le_of_ble_eq_true rfl) (Nat.le_of_ble_eq_true rfl)) ⟨by decide, by decide⟩ n_J7_init_2 rfl (xcat (Nat.le_of_ble_eq_true rfl)) (fun _ => ?_)
  exact xr_vret F dJ8_init_2_5
theorem fX1_formatSpecies_p105_ok {x : xC} (F : xF x RX1 cX1_formatSpecies (some .int)) (hnL : xnL x = 5) (hRm : ∃ dc ds, x.2.2.2.1 = { frames := 11, cells := dc, slots := ds, locals := 235 }) (hno : ∀ pc, xNo x pc) (hmn : xmn x = "formatSpecies" ∧ xmy x yX1_formatSpecies) (l0 : Nat) (l3 : Nat) : xI x xeI 105 [(0, va_rf (some l0)), (3, va_rf (some l3))] [] (fX1_formatSpecies_p105 l0 l3) := by
  unfold fX1_formatSpecies_p105
  refine xr_aload_n 0 (r := (some l0)) F dX1_formatSpecies_105 rfl ?_
  refine xr_aload_n 1 (r := (some l3)) F dX1_formatSpecies_106 rfl ?_
  refine xr_VI (y := yX1_format) (As := [va_rf (some l3)]) (r := (some l0)) F (hno _) dX1_formatSpecies_107 (fun z => fX1_format_m (xFG F) z (some l3)) (Or.inl rfl) (ci := 0) (C := RX1) (T := TX1) rfl q3370 q3367 q3369 qs50 (xroom hRm (Nat.le_of_ble_eq_true rfl) (Nat.le_of_ble_eq_true rfl)) ⟨by decide, by decide⟩ n_X1_format rfl (xcat (Nat.le_of_ble_eq_true rfl)) (fun v107 => ?_)
  exact xr_iret F dX1_formatSpecies_110
theorem fX1_formatSpecies_p31_ok {x : xC} (F : xF x RX1 cX1_formatSpecies (some .int)) (hnL : xnL x = 5) (hRm : ∃ dc ds, x.2.2.2.1 = { frames := 11, cells := dc, slots := ds, locals := 235 }) (hno : ∀ pc, xNo x pc) (hmn : xmn x = "formatSpecies" ∧ xmy x yX1_formatSpecies) : ∀ (n : Nat) (l0 : Nat) (l2 : Option Nat) (l3 : Nat) (l4 : Int32), xI x xeI 31 [(0, va_rf (some l0)), (2, va_rf l2), (3, va_rf (some l3)), (4, .int l4)] [] (fX1_formatSpecies_p31 n l0 l2 l3 l4) := by
  intro n
  induction n with
  | zero => intro l0 l2 l3 l4; exact xI.stuck
  | succ n ih =>
    intro l0 l2 l3 l4
    unfold fX1_formatSpecies_p31
    refine xr_iload 3 F dX1_formatSpecies_31 rfl ?_
    refine xr_aload_n 1 (r := l2) F dX1_formatSpecies_33 rfl ?_
    refine xr_gR (r := l2) (ref := "ReserveLedger$Herd") F dX1_formatSpecies_34 (C := RX6) (T := TX6) (N := 8) rfl (by decide) (Or.inr ⟨_, q2037⟩) (Or.inl rfl) (fun v34 => ?_)
    refine xr_gI (r := v34) (ref := "ReserveLedger$Species") F dX1_formatSpecies_37 (C := RX7) (T := TX7) (N := 6) rfl (by decide) (Or.inr ⟨_, q1920⟩) (Or.inl rfl) (fun v37 => ?_)
    refine xr_icmp_gt 65 F dX1_formatSpecies_40 rfl ?_ ?_
    · refine xr_aload_n 2 (r := (some l3)) F dX1_formatSpecies_65 rfl ?_
      refine xr_strw (k := 14) F dX1_formatSpecies_66 rfl (fun v66 => ?_)
      refine xr_VR (y := yJ8_append) (As := [va_rf v66]) (r := (some l3)) F (hno _) dX1_formatSpecies_69 (fun z => fJ8_append_m (xFG F) z v66) (Or.inl rfl) (ci := 4) (C := RJ8) (T := TJ8) rfl q306 q3365 q304 q305 (xroom hRm (Nat.le_of_ble_eq_true rfl) (Nat.le_of_ble_eq_true rfl)) ⟨by decide, by decide⟩ n_J8_append rfl (xcat (Nat.le_of_ble_eq_true rfl)) (fun v69 => ?_)
      refine xr_aload_n 1 (r := l2) F dX1_formatSpecies_72 rfl ?_
      refine xr_gR (r := l2) (ref := "ReserveLedger$Herd") F dX1_formatSpecies_73 (C := RX6) (T := TX6) (N := 8) rfl (by decide) (Or.inr ⟨_, q2043⟩) (Or.inl rfl) (fun v73 => ?_)
      refine xr_VI (y := yX10_total) (As := []) (r := v73) F (hno _) dX1_formatSpecies_76 (fun z => fX10_total_m (xFG F) z) (Or.inl rfl) (ci := 24) (C := RX10) (T := TX10) rfl q1642 q2515 q1640 q1641 (xroom hRm (Nat.le_of_ble_eq_true rfl) (Nat.le_of_ble_eq_true rfl)) ⟨by decide, by decide⟩ n_X10_total rfl (xcat (Nat.le_of_ble_eq_true rfl)) (fun v76 => ?_)
      refine xr_VR (y := yJ8_append_2) (As := [.int v76]) (r := v69) F (hno _) dX1_formatSpecies_79 (fun z => fJ8_append_2_m (xFG F) z v76) (Or.inl rfl) (ci := 4) (C := RJ8) (T := TJ8) rfl q426 q3363 q424 q425 (xroom hRm (Nat.le_of_ble_eq_true rfl) (Nat.le_of_ble_eq_true rfl)) ⟨by decide, by decide⟩ n_J8_append_2 rfl (xcat (Nat.le_of_ble_eq_true rfl)) (fun v79 => ?_)
      refine xr_pop F dX1_formatSpecies_82 (xrf_cat _) ?_
      refine xr_aload_n 1 (r := l2) F dX1_formatSpecies_83 rfl ?_
      refine xr_gI (r := l2) (ref := "ReserveLedger$Herd") F dX1_formatSpecies_84 (C := RX6) (T := TX6) (N := 8) rfl (by decide) (Or.inr ⟨_, q2049⟩) (Or.inl rfl) (fun v84 => ?_)
      refine xr_if_le 105 F dX1_formatSpecies_87 rfl ?_ ?_
      · exact xI.sub [0, 2] rfl (fX1_formatSpecies_p105_ok F hnL hRm hno hmn l0 l3)
      · refine xr_aload_n 2 (r := (some l3)) F dX1_formatSpecies_90 rfl ?_
        refine xr_strw (k := 15) F dX1_formatSpecies_91 rfl (fun v91 => ?_)
        refine xr_VR (y := yJ8_append) (As := [va_rf v91]) (r := (some l3)) F (hno _) dX1_formatSpecies_94 (fun z => fJ8_append_m (xFG F) z v91) (Or.inl rfl) (ci := 4) (C := RJ8) (T := TJ8) rfl q306 q3365 q304 q305 (xroom hRm (Nat.le_of_ble_eq_true rfl) (Nat.le_of_ble_eq_true rfl)) ⟨by decide, by decide⟩ n_J8_append rfl (xcat (Nat.le_of_ble_eq_true rfl)) (fun v94 => ?_)
        refine xr_aload_n 1 (r := l2) F dX1_formatSpecies_97 rfl ?_
        refine xr_gI (r := l2) (ref := "ReserveLedger$Herd") F dX1_formatSpecies_98 (C := RX6) (T := TX6) (N := 8) rfl (by decide) (Or.inr ⟨_, q2049⟩) (Or.inl rfl) (fun v98 => ?_)
        refine xr_VR (y := yJ8_append_2) (As := [.int v98]) (r := v94) F (hno _) dX1_formatSpecies_101 (fun z => fJ8_append_2_m (xFG F) z v98) (Or.inl rfl) (ci := 4) (C := RJ8) (T := TJ8) rfl q426 q3363 q424 q425 (xroom hRm (Nat.le_of_ble_eq_true rfl) (Nat.le_of_ble_eq_true rfl)) ⟨by decide, by decide⟩ n_J8_append_2 rfl (xcat (Nat.le_of_ble_eq_true rfl)) (fun v101 => ?_)
        refine xr_pop F dX1_formatSpecies_104 (xrf_cat _) ?_
        exact xI.sub [0, 2] rfl (fX1_formatSpecies_p105_ok F hnL hRm hno hmn l0 l3)
    · refine xr_aload_n 2 (r := (some l3)) F dX1_formatSpecies_43 rfl ?_
      refine xr_bipush (32 : Int32) F dX1_formatSpecies_44 rfl ?_
      refine xr_VR (y := yJ8_append_3) (As := [.int (32 : Int32)]) (r := (some l3)) F (hno _) dX1_formatSpecies_46 (fun z => fJ8_append_3_m (xFG F) z (32 : Int32)) (Or.inl rfl) (ci := 4) (C := RJ8) (T := TJ8) rfl q664 q661 q662 q663 (xroom hRm (Nat.le_of_ble_eq_true rfl) (Nat.le_of_ble_eq_true rfl)) ⟨by decide, by decide⟩ n_J8_append_3 rfl (xcat (Nat.le_of_ble_eq_true rfl)) (fun v46 => ?_)
      refine xr_aload_n 1 (r := l2) F dX1_formatSpecies_49 rfl ?_
      refine xr_iload 3 F dX1_formatSpecies_50 rfl ?_
      refine xr_VI (y := yX6_cohort) (As := [.int l4]) (r := l2) F (hno _) dX1_formatSpecies_52 (fun z => fX6_cohort_m (xFG F) z l4) (Or.inl rfl) (ci := 19) (C := RX6) (T := TX6) rfl q2323 q2548 q2321 q2322 (xroom hRm (Nat.le_of_ble_eq_true rfl) (Nat.le_of_ble_eq_true rfl)) ⟨by decide, by decide⟩ n_X6_cohort rfl (xcat (Nat.le_of_ble_eq_true rfl)) (fun v52 => ?_)
      refine xr_VR (y := yJ8_append_2) (As := [.int v52]) (r := v46) F (hno _) dX1_formatSpecies_55 (fun z => fJ8_append_2_m (xFG F) z v52) (Or.inl rfl) (ci := 4) (C := RJ8) (T := TJ8) rfl q426 q3363 q424 q425 (xroom hRm (Nat.le_of_ble_eq_true rfl) (Nat.le_of_ble_eq_true rfl)) ⟨by decide, by decide⟩ n_J8_append_2 rfl (xcat (Nat.le_of_ble_eq_true rfl)) (fun v55 => ?_)
      refine xr_pop F dX1_formatSpecies_58 (xrf_cat _) ?_
      refine xs_inc [3, 0, 1, 2] F dX1_formatSpecies_59 rfl hnL rfl rfl (xk1 rfl rfl (xk1 rfl rfl (xk2 rfl (xrf_cat _) xk0))) (fun x4_59 => ?_)
      refine xr_goto 31 F dX1_formatSpecies_62 rfl ?_
      exact xI.sub [1, 2, 3, 0] rfl (ih l0 l2 l3 x4_59)
theorem fX1_formatSpecies_m {l : Launch} {D : xD} {s0 : State} {b0 : Nat} {Γ : Nat → Option Nat} (G : xG l D s0 b0 Γ) (a0 : Nat) (p0 : Int32) : xMeth l D s0 Γ yX1_formatSpecies (Cond.code yX1_formatSpecies cX1_formatSpecies 5 (some .int)) (11) (235) [.ref a0, .int p0] xeI (fX1_formatSpecies a0 p0) := by
  refine xMeth.of (lv0 := [(0, va_rf (some a0)), (1, .int p0)]) G (by decide +kernel) (Or.inl rfl) (Nat.le_of_ble_eq_true rfl) rfl (fun x F hnL hRm hmn ht e1 e2 e3 e4 => ?_)
  have hno : ∀ pc, xNo x pc := fun pc z hz => by rw [ht.1 rfl] at hz; cases hz
  unfold fX1_formatSpecies
  refine xr_aload_n 0 (r := (some a0)) F dX1_formatSpecies_0 rfl ?_
  refine xr_iload_n 1 F dX1_formatSpecies_1 rfl ?_
  refine xr_VR (y := yX1_herd) (As := [.int p0]) (r := (some a0)) F (hno _) dX1_formatSpecies_2 (fun z => fX1_herd_m (xFG F) z p0) (Or.inl rfl) (ci := 0) (C := RX1) (T := TX1) rfl q2504 q2501 q2503 qs34 (xroom hRm (Nat.le_of_ble_eq_true rfl) (Nat.le_of_ble_eq_true rfl)) ⟨by decide, by decide⟩ n_X1_herd rfl (xcat (Nat.le_of_ble_eq_true rfl)) (fun v2 => ?_)
  refine xs_a_n [0] F dX1_formatSpecies_5 hnL rfl rfl (xk1 rfl rfl xk0) ?_
  refine xr_new F dX1_formatSpecies_6 xk_4 xdf_4 q659 q271 q131 (fun v6 => ?_)
  refine xr_dup F dX1_formatSpecies_9 (xrf_cat _) ?_
  refine xr_aload_n 0 (r := v2) F dX1_formatSpecies_10 rfl ?_
  refine xr_gR (r := v2) (ref := "ReserveLedger$Herd") F dX1_formatSpecies_11 (C := RX6) (T := TX6) (N := 8) rfl (by decide) (Or.inr ⟨_, q2037⟩) (Or.inl rfl) (fun v11 => ?_)
  refine xr_gR (r := v11) (ref := "ReserveLedger$Species") F dX1_formatSpecies_14 (C := RX7) (T := TX7) (N := 6) rfl (by decide) (Or.inr ⟨_, q1916⟩) (Or.inl rfl) (fun v14 => ?_)
  refine xr_IV (y := yJ8_init_2) (As := [va_rf v14]) F (hno _) dX1_formatSpecies_17 (fJ8_init_2_m (xFG F) v6 v14) rfl rfl q3354 (Or.inl q3352) q3353 (xroom hRm (Nat.le_of_ble_eq_true rfl) (Nat.le_of_ble_eq_true rfl)) ⟨by decide, by decide⟩ n_J8_init_2 rfl (xcat (Nat.le_of_ble_eq_true rfl)) (fun _ => ?_)
  refine xs_a_n [0, 1] F dX1_formatSpecies_20 hnL rfl rfl (xk2 rfl (xrf_cat _) (xk1 rfl rfl xk0)) ?_
  refine xr_aload_n 0 (r := (some v6)) F dX1_formatSpecies_21 rfl ?_
  refine xr_bipush (58 : Int32) F dX1_formatSpecies_22 rfl ?_
  refine xr_VR (y := yJ8_append_3) (As := [.int (58 : Int32)]) (r := (some v6)) F (hno _) dX1_formatSpecies_24 (fun z => fJ8_append_3_m (xFG F) z (58 : Int32)) (Or.inl rfl) (ci := 4) (C := RJ8) (T := TJ8) rfl q664 q661 q662 q663 (xroom hRm (Nat.le_of_ble_eq_true rfl) (Nat.le_of_ble_eq_true rfl)) ⟨by decide, by decide⟩ n_J8_append_3 rfl (xcat (Nat.le_of_ble_eq_true rfl)) (fun v24 => ?_)
  refine xr_pop F dX1_formatSpecies_27 (xrf_cat _) ?_
  refine xr_iconst (0 : Int32) F dX1_formatSpecies_28 rfl ?_
  refine xr_letI (fun x4_29 => ?_)
  refine xs_i [0, 1, 2] F dX1_formatSpecies_29 hnL rfl rfl (xk2 rfl (xrf_cat _) (xk1 rfl rfl (xk1 rfl rfl xk0))) ?_
  exact xI.sub [3, 2, 1, 0] rfl (fX1_formatSpecies_p31_ok F hnL hRm hno hmn xFU a0 v2 v6 x4_29)
theorem fX0_formatSpecies_m {l : Launch} {D : xD} {s0 : State} {b0 : Nat} {Γ : Nat → Option Nat} (G : xG l D s0 b0 Γ) (p0 : Option Nat) (p1 : Int32) (p2 : Option Nat) : xMeth l D s0 Γ yX0_formatSpecies (Cond.codeWith yX0_formatSpecies cX0_formatSpecies 4 (some .int) [(0, 9, 12, 25)]) (12) (259) [va_rf p0, .int p1, va_rf p2] xeI (fX0_formatSpecies p0 p1 p2) := by
  refine xMeth.of (lv0 := [(0, va_rf p0), (1, .int p1), (2, va_rf p2)]) G (by decide +kernel) (Or.inr ⟨_, rfl⟩) (by simp [lg_sl, xrf_cat, xct_i, xct_l, xct_d, xct_r]) (by simp [lv_args, xrf_cat, xct_i, xct_l, xct_d, xct_r, xrf_some]) (fun x F hnL hRm hmn ht e1 e2 e3 e4 => ?_)
  have htb : x.2.2.2.2.2.2.2.2.2.1.exceptionTable.toList = tableOf [(0, 9, 12, 25)] := ht.2 _ rfl
  unfold fX0_formatSpecies
  refine xr_aload_n 2 (r := p2) F dX0_formatSpecies_0 rfl ?_
  refine xr_iconst (0 : Int32) F dX0_formatSpecies_1 rfl ?_
  refine xr_aload_n 0 (r := p0) F dX0_formatSpecies_2 rfl ?_
  refine xr_iload_n 1 F dX0_formatSpecies_3 rfl ?_
  refine xr_VIT (y := yX1_formatSpecies) (As := [.int p1]) (r := p0) F dX0_formatSpecies_4 (fun z => fX1_formatSpecies_m (xFG F) z p1) (Or.inl rfl) (ci := 0) (C := RX1) (T := TX1) rfl q3351 q3348 q3349 q3350 (xroom hRm (Nat.le_of_ble_eq_true rfl) (Nat.le_of_ble_eq_true rfl)) ⟨by decide, by decide⟩ n_X1_formatSpecies rfl (xcat (Nat.le_of_ble_eq_true rfl)) (fun v4 => ?_) (fun q => ?_)
  · refine xr_i2l F dX0_formatSpecies_7 ?_
    refine xr_last (r := p2) F dX0_formatSpecies_8 ?_
    refine xr_goto 15 F dX0_formatSpecies_9 rfl ?_
    refine xr_iconst (0 : Int32) F dX0_formatSpecies_15 rfl ?_
    exact xr_iret F dX0_formatSpecies_16
  · refine xT.catch F htb (tableOf []) ⟨0, 9, 12, 25⟩ (tableOf []) rfl rfl xps0 rfl (Or.inr ⟨by decide, _, q2481, q739⟩) ?_
    refine xs_a_n [] F dX0_formatSpecies_12 hnL rfl rfl xk0 ?_
    refine xr_iconst (1 : Int32) F dX0_formatSpecies_13 rfl ?_
    exact xr_iret F dX0_formatSpecies_14
theorem fX1_formatLedger_m {l : Launch} {D : xD} {s0 : State} {b0 : Nat} {Γ : Nat → Option Nat} (G : xG l D s0 b0 Γ) (a0 : Nat) (p0 : Int32) (p1 : Int32) : xMeth l D s0 Γ yX1_formatLedger (Cond.code yX1_formatLedger cX1_formatLedger 5 (some .int)) (10) (214) [.ref a0, .int p0, .int p1] xeI (fX1_formatLedger a0 p0 p1) := by
  refine xMeth.of (lv0 := [(0, va_rf (some a0)), (1, .int p0), (2, .int p1)]) G (by decide +kernel) (Or.inl rfl) (Nat.le_of_ble_eq_true rfl) rfl (fun x F hnL hRm hmn ht e1 e2 e3 e4 => ?_)
  have hno : ∀ pc, xNo x pc := fun pc z hz => by rw [ht.1 rfl] at hz; cases hz
  unfold fX1_formatLedger
  refine xr_aload_n 0 (r := (some a0)) F dX1_formatLedger_0 rfl ?_
  refine xr_iload_n 1 F dX1_formatLedger_1 rfl ?_
  refine xr_iload_n 2 F dX1_formatLedger_2 rfl ?_
  refine xr_VR (y := yX1_ledgerOf) (As := [.int p0, .int p1]) (r := (some a0)) F (hno _) dX1_formatLedger_3 (fun z => fX1_ledgerOf_m (xFG F) z p0 p1) (Or.inl rfl) (ci := 0) (C := RX1) (T := TX1) rfl q2615 q2612 q2614 qs36 (xroom hRm (Nat.le_of_ble_eq_true rfl) (Nat.le_of_ble_eq_true rfl)) ⟨by decide, by decide⟩ n_X1_ledgerOf rfl (xcat (Nat.le_of_ble_eq_true rfl)) (fun v3 => ?_)
  refine xs_a_n [0, 2] F dX1_formatLedger_6 hnL rfl rfl (xk1 rfl rfl (xk2 rfl rfl xk0)) ?_
  refine xr_new F dX1_formatLedger_7 xk_4 xdf_4 q659 q271 q131 (fun v7 => ?_)
  refine xr_dup F dX1_formatLedger_10 (xrf_cat _) ?_
  refine xr_IV (y := yJ8_init) (As := []) F (hno _) dX1_formatLedger_11 (fJ8_init_m (xFG F) v7) rfl rfl q274 (Or.inl q660) q273 (xroom hRm (Nat.le_of_ble_eq_true rfl) (Nat.le_of_ble_eq_true rfl)) ⟨by decide, by decide⟩ n_J8_init rfl (xcat (Nat.le_of_ble_eq_true rfl)) (fun _ => ?_)
  refine xs_a [0, 1, 2] F dX1_formatLedger_14 hnL rfl rfl (xk2 rfl (xrf_cat _) (xk1 rfl rfl (xk1 rfl rfl xk0))) ?_
  refine xr_aload 0 (r := (some v7)) F dX1_formatLedger_16 rfl ?_
  refine xr_iload_n 3 F dX1_formatLedger_18 rfl ?_
  refine xr_VR (y := yJ8_append_2) (As := [.int p1]) (r := (some v7)) F (hno _) dX1_formatLedger_19 (fun z => fJ8_append_2_m (xFG F) z p1) (Or.inl rfl) (ci := 4) (C := RJ8) (T := TJ8) rfl q426 q3363 q424 q425 (xroom hRm (Nat.le_of_ble_eq_true rfl) (Nat.le_of_ble_eq_true rfl)) ⟨by decide, by decide⟩ n_J8_append_2 rfl (xcat (Nat.le_of_ble_eq_true rfl)) (fun v19 => ?_)
  refine xr_strw (k := 16) F dX1_formatLedger_22 rfl (fun v22 => ?_)
  refine xr_VR (y := yJ8_append) (As := [va_rf v22]) (r := v19) F (hno _) dX1_formatLedger_25 (fun z => fJ8_append_m (xFG F) z v22) (Or.inl rfl) (ci := 4) (C := RJ8) (T := TJ8) rfl q306 q3365 q304 q305 (xroom hRm (Nat.le_of_ble_eq_true rfl) (Nat.le_of_ble_eq_true rfl)) ⟨by decide, by decide⟩ n_J8_append rfl (xcat (Nat.le_of_ble_eq_true rfl)) (fun v25 => ?_)
  refine xr_aload_n 1 (r := v3) F dX1_formatLedger_28 rfl ?_
  refine xr_gI (r := v3) (ref := "ReserveLedger$Ledger") F dX1_formatLedger_29 (C := RX9) (T := TX9) (N := 7) rfl (by decide) (Or.inr ⟨_, q1959⟩) (Or.inl rfl) (fun v29 => ?_)
  refine xr_VR (y := yJ8_append_2) (As := [.int v29]) (r := v25) F (hno _) dX1_formatLedger_32 (fun z => fJ8_append_2_m (xFG F) z v29) (Or.inl rfl) (ci := 4) (C := RJ8) (T := TJ8) rfl q426 q3363 q424 q425 (xroom hRm (Nat.le_of_ble_eq_true rfl) (Nat.le_of_ble_eq_true rfl)) ⟨by decide, by decide⟩ n_J8_append_2 rfl (xcat (Nat.le_of_ble_eq_true rfl)) (fun v32 => ?_)
  refine xr_bipush (43 : Int32) F dX1_formatLedger_35 rfl ?_
  refine xr_VR (y := yJ8_append_3) (As := [.int (43 : Int32)]) (r := v32) F (hno _) dX1_formatLedger_37 (fun z => fJ8_append_3_m (xFG F) z (43 : Int32)) (Or.inl rfl) (ci := 4) (C := RJ8) (T := TJ8) rfl q664 q661 q662 q663 (xroom hRm (Nat.le_of_ble_eq_true rfl) (Nat.le_of_ble_eq_true rfl)) ⟨by decide, by decide⟩ n_J8_append_3 rfl (xcat (Nat.le_of_ble_eq_true rfl)) (fun v37 => ?_)
  refine xr_aload_n 1 (r := v3) F dX1_formatLedger_40 rfl ?_
  refine xr_gI (r := v3) (ref := "ReserveLedger$Ledger") F dX1_formatLedger_41 (C := RX9) (T := TX9) (N := 7) rfl (by decide) (Or.inr ⟨_, q1962⟩) (Or.inl rfl) (fun v41 => ?_)
  refine xr_VR (y := yJ8_append_2) (As := [.int v41]) (r := v37) F (hno _) dX1_formatLedger_44 (fun z => fJ8_append_2_m (xFG F) z v41) (Or.inl rfl) (ci := 4) (C := RJ8) (T := TJ8) rfl q426 q3363 q424 q425 (xroom hRm (Nat.le_of_ble_eq_true rfl) (Nat.le_of_ble_eq_true rfl)) ⟨by decide, by decide⟩ n_J8_append_2 rfl (xcat (Nat.le_of_ble_eq_true rfl)) (fun v44 => ?_)
  refine xr_bipush (43 : Int32) F dX1_formatLedger_47 rfl ?_
  refine xr_VR (y := yJ8_append_3) (As := [.int (43 : Int32)]) (r := v44) F (hno _) dX1_formatLedger_49 (fun z => fJ8_append_3_m (xFG F) z (43 : Int32)) (Or.inl rfl) (ci := 4) (C := RJ8) (T := TJ8) rfl q664 q661 q662 q663 (xroom hRm (Nat.le_of_ble_eq_true rfl) (Nat.le_of_ble_eq_true rfl)) ⟨by decide, by decide⟩ n_J8_append_3 rfl (xcat (Nat.le_of_ble_eq_true rfl)) (fun v49 => ?_)
  refine xr_aload_n 1 (r := v3) F dX1_formatLedger_52 rfl ?_
  refine xr_gI (r := v3) (ref := "ReserveLedger$Ledger") F dX1_formatLedger_53 (C := RX9) (T := TX9) (N := 7) rfl (by decide) (Or.inr ⟨_, q1971⟩) (Or.inl rfl) (fun v53 => ?_)
  refine xr_VR (y := yJ8_append_2) (As := [.int v53]) (r := v49) F (hno _) dX1_formatLedger_56 (fun z => fJ8_append_2_m (xFG F) z v53) (Or.inl rfl) (ci := 4) (C := RJ8) (T := TJ8) rfl q426 q3363 q424 q425 (xroom hRm (Nat.le_of_ble_eq_true rfl) (Nat.le_of_ble_eq_true rfl)) ⟨by decide, by decide⟩ n_J8_append_2 rfl (xcat (Nat.le_of_ble_eq_true rfl)) (fun v56 => ?_)
  refine xr_pop F dX1_formatLedger_59 (xrf_cat _) ?_
  refine xr_aload 0 (r := (some v7)) F dX1_formatLedger_60 rfl ?_
  refine xr_bipush (45 : Int32) F dX1_formatLedger_62 rfl ?_
  refine xr_VR (y := yJ8_append_3) (As := [.int (45 : Int32)]) (r := (some v7)) F (hno _) dX1_formatLedger_64 (fun z => fJ8_append_3_m (xFG F) z (45 : Int32)) (Or.inl rfl) (ci := 4) (C := RJ8) (T := TJ8) rfl q664 q661 q662 q663 (xroom hRm (Nat.le_of_ble_eq_true rfl) (Nat.le_of_ble_eq_true rfl)) ⟨by decide, by decide⟩ n_J8_append_3 rfl (xcat (Nat.le_of_ble_eq_true rfl)) (fun v64 => ?_)
  refine xr_aload_n 1 (r := v3) F dX1_formatLedger_67 rfl ?_
  refine xr_gI (r := v3) (ref := "ReserveLedger$Ledger") F dX1_formatLedger_68 (C := RX9) (T := TX9) (N := 7) rfl (by decide) (Or.inr ⟨_, q1965⟩) (Or.inl rfl) (fun v68 => ?_)
  refine xr_VR (y := yJ8_append_2) (As := [.int v68]) (r := v64) F (hno _) dX1_formatLedger_71 (fun z => fJ8_append_2_m (xFG F) z v68) (Or.inl rfl) (ci := 4) (C := RJ8) (T := TJ8) rfl q426 q3363 q424 q425 (xroom hRm (Nat.le_of_ble_eq_true rfl) (Nat.le_of_ble_eq_true rfl)) ⟨by decide, by decide⟩ n_J8_append_2 rfl (xcat (Nat.le_of_ble_eq_true rfl)) (fun v71 => ?_)
  refine xr_bipush (45 : Int32) F dX1_formatLedger_74 rfl ?_
  refine xr_VR (y := yJ8_append_3) (As := [.int (45 : Int32)]) (r := v71) F (hno _) dX1_formatLedger_76 (fun z => fJ8_append_3_m (xFG F) z (45 : Int32)) (Or.inl rfl) (ci := 4) (C := RJ8) (T := TJ8) rfl q664 q661 q662 q663 (xroom hRm (Nat.le_of_ble_eq_true rfl) (Nat.le_of_ble_eq_true rfl)) ⟨by decide, by decide⟩ n_J8_append_3 rfl (xcat (Nat.le_of_ble_eq_true rfl)) (fun v76 => ?_)
  refine xr_aload_n 1 (r := v3) F dX1_formatLedger_79 rfl ?_
  refine xr_gI (r := v3) (ref := "ReserveLedger$Ledger") F dX1_formatLedger_80 (C := RX9) (T := TX9) (N := 7) rfl (by decide) (Or.inr ⟨_, q1968⟩) (Or.inl rfl) (fun v80 => ?_)
  refine xr_VR (y := yJ8_append_2) (As := [.int v80]) (r := v76) F (hno _) dX1_formatLedger_83 (fun z => fJ8_append_2_m (xFG F) z v80) (Or.inl rfl) (ci := 4) (C := RJ8) (T := TJ8) rfl q426 q3363 q424 q425 (xroom hRm (Nat.le_of_ble_eq_true rfl) (Nat.le_of_ble_eq_true rfl)) ⟨by decide, by decide⟩ n_J8_append_2 rfl (xcat (Nat.le_of_ble_eq_true rfl)) (fun v83 => ?_)
  refine xr_bipush (61 : Int32) F dX1_formatLedger_86 rfl ?_
  refine xr_VR (y := yJ8_append_3) (As := [.int (61 : Int32)]) (r := v83) F (hno _) dX1_formatLedger_88 (fun z => fJ8_append_3_m (xFG F) z (61 : Int32)) (Or.inl rfl) (ci := 4) (C := RJ8) (T := TJ8) rfl q664 q661 q662 q663 (xroom hRm (Nat.le_of_ble_eq_true rfl) (Nat.le_of_ble_eq_true rfl)) ⟨by decide, by decide⟩ n_J8_append_3 rfl (xcat (Nat.le_of_ble_eq_true rfl)) (fun v88 => ?_)
  refine xr_aload_n 1 (r := v3) F dX1_formatLedger_91 rfl ?_
  refine xr_gI (r := v3) (ref := "ReserveLedger$Ledger") F dX1_formatLedger_92 (C := RX9) (T := TX9) (N := 7) rfl (by decide) (Or.inr ⟨_, q1974⟩) (Or.inl rfl) (fun v92 => ?_)
  refine xr_VR (y := yJ8_append_2) (As := [.int v92]) (r := v88) F (hno _) dX1_formatLedger_95 (fun z => fJ8_append_2_m (xFG F) z v92) (Or.inl rfl) (ci := 4) (C := RJ8) (T := TJ8) rfl q426 q3363 q424 q425 (xroom hRm (Nat.le_of_ble_eq_true rfl) (Nat.le_of_ble_eq_true rfl)) ⟨by decide, by decide⟩ n_J8_append_2 rfl (xcat (Nat.le_of_ble_eq_true rfl)) (fun v95 => ?_)
  refine xr_pop F dX1_formatLedger_98 (xrf_cat _) ?_
  refine xr_aload_n 2 (r := (some a0)) F dX1_formatLedger_99 rfl ?_
  refine xr_aload 0 (r := (some v7)) F dX1_formatLedger_100 rfl ?_
  refine xr_VI (y := yX1_format) (As := [va_rf (some v7)]) (r := (some a0)) F (hno _) dX1_formatLedger_102 (fun z => fX1_format_m (xFG F) z (some v7)) (Or.inl rfl) (ci := 0) (C := RX1) (T := TX1) rfl q3370 q3367 q3369 qs50 (xroom hRm (Nat.le_of_ble_eq_true rfl) (Nat.le_of_ble_eq_true rfl)) ⟨by decide, by decide⟩ n_X1_format rfl (xcat (Nat.le_of_ble_eq_true rfl)) (fun v102 => ?_)
  exact xr_iret F dX1_formatLedger_105
theorem fX0_formatLedger_m {l : Launch} {D : xD} {s0 : State} {b0 : Nat} {Γ : Nat → Option Nat} (G : xG l D s0 b0 Γ) (p0 : Option Nat) (p1 : Int32) (p2 : Int32) (p3 : Option Nat) : xMeth l D s0 Γ yX0_formatLedger (Cond.codeWith yX0_formatLedger cX0_formatLedger 5 (some .int) [(0, 10, 13, 25), (0, 10, 17, 19)]) (11) (238) [va_rf p0, .int p1, .int p2, va_rf p3] xeI (fX0_formatLedger p0 p1 p2 p3) := by
  refine xMeth.of (lv0 := [(0, va_rf p0), (1, .int p1), (2, .int p2), (3, va_rf p3)]) G (by decide +kernel) (Or.inr ⟨_, rfl⟩) (by simp [lg_sl, xrf_cat, xct_i, xct_l, xct_d, xct_r]) (by simp [lv_args, xrf_cat, xct_i, xct_l, xct_d, xct_r, xrf_some]) (fun x F hnL hRm hmn ht e1 e2 e3 e4 => ?_)
  have htb : x.2.2.2.2.2.2.2.2.2.1.exceptionTable.toList = tableOf [(0, 10, 13, 25), (0, 10, 17, 19)] := ht.2 _ rfl
  unfold fX0_formatLedger
  refine xr_aload_n 3 (r := p3) F dX0_formatLedger_0 rfl ?_
  refine xr_iconst (0 : Int32) F dX0_formatLedger_1 rfl ?_
  refine xr_aload_n 0 (r := p0) F dX0_formatLedger_2 rfl ?_
  refine xr_iload_n 1 F dX0_formatLedger_3 rfl ?_
  refine xr_iload_n 2 F dX0_formatLedger_4 rfl ?_
  refine xr_VIT (y := yX1_formatLedger) (As := [.int p1, .int p2]) (r := p0) F dX0_formatLedger_5 (fun z => fX1_formatLedger_m (xFG F) z p1 p2) (Or.inl rfl) (ci := 0) (C := RX1) (T := TX1) rfl q3377 q3374 q3375 q3376 (xroom hRm (Nat.le_of_ble_eq_true rfl) (Nat.le_of_ble_eq_true rfl)) ⟨by decide, by decide⟩ n_X1_formatLedger rfl (xcat (Nat.le_of_ble_eq_true rfl)) (fun v5 => ?_) (fun q => ?_)
  · refine xr_i2l F dX0_formatLedger_8 ?_
    refine xr_last (r := p3) F dX0_formatLedger_9 ?_
    refine xr_goto 21 F dX0_formatLedger_10 rfl ?_
    refine xr_iconst (0 : Int32) F dX0_formatLedger_21 rfl ?_
    exact xr_iret F dX0_formatLedger_22
  · refine xT.sel2 ?_ ?_
    · refine xT.catch F htb (tableOf []) ⟨0, 10, 13, 25⟩ (tableOf [(0, 10, 17, 19)]) rfl rfl xps0 rfl (Or.inr ⟨by decide, _, q2481, q739⟩) ?_
      refine xs_a [] F dX0_formatLedger_13 hnL rfl rfl xk0 ?_
      refine xr_iconst (1 : Int32) F dX0_formatLedger_15 rfl ?_
      exact xr_iret F dX0_formatLedger_16
    refine xT.catch F htb (tableOf [(0, 10, 13, 25)]) ⟨0, 10, 17, 19⟩ (tableOf []) rfl rfl (xps1 (Or.inr ⟨by decide, _, 0, q2481, rfl⟩) xps0) rfl (Or.inr ⟨by decide, _, q2471, q924⟩) ?_
    refine xs_a [] F dX0_formatLedger_17 hnL rfl rfl xk0 ?_
    refine xr_iconst (2 : Int32) F dX0_formatLedger_19 rfl ?_
    exact xr_iret F dX0_formatLedger_20
theorem fX1_init_m {l : Launch} {D : xD} {s0 : State} {b0 : Nat} {Γ : Nat → Option Nat} (G : xG l D s0 b0 Γ) (a0 : Nat) : xMeth l D s0 Γ yX1_init (Cond.code yX1_init cX1_init 1 none) (6) (120) [.ref a0] xeV (fX1_init a0) := by
  refine xMeth.of (lv0 := [(0, va_rf (some a0))]) G (by decide +kernel) (Or.inl rfl) (Nat.le_of_ble_eq_true rfl) rfl (fun x F hnL hRm hmn ht e1 e2 e3 e4 => ?_)
  have hno : ∀ pc, xNo x pc := fun pc z hz => by rw [ht.1 rfl] at hz; cases hz
  unfold fX1_init
  refine xr_aload_n 0 (r := (some a0)) F dX1_init_0 rfl ?_
  refine xr_obj F dX1_init_1 q199 q200 (q_objcode) (xroom hRm (Nat.le_of_ble_eq_true rfl) (Nat.le_of_ble_eq_true rfl)) (xcat (Nat.le_of_ble_eq_true rfl)) ?_
  refine xr_aload_n 0 (r := (some a0)) F dX1_init_4 rfl ?_
  refine xr_sipush (900 : Int32) F dX1_init_5 rfl ?_
  refine xr_newa F dX1_init_8 rfl (fun _ _ => rfl) (by decide) q301 (fun v8 => ?_)
  refine xr_put (r := (some a0)) (ref := "ReserveLedger") F dX1_init_10 xk_0 (by decide) (Or.inl q610) (Or.inl rfl) (Or.inr ⟨rfl, hmn.1, rfl, q610⟩) (xr_rfa _ _) ?_
  refine xr_aload_n 0 (r := (some a0)) F dX1_init_13 rfl ?_
  refine xr_iconst (-1 : Int32) F dX1_init_14 rfl ?_
  refine xr_put (r := (some a0)) (ref := "ReserveLedger") F dX1_init_15 xk_0 (by decide) (Or.inl q612) (Or.inl rfl) (Or.inl rfl) ⟨rfl, rfl⟩ ?_
  refine xr_aload_n 0 (r := (some a0)) F dX1_init_18 rfl ?_
  refine xr_new F dX1_init_19 xk_1 xdf_1 q202 q203 q122 (fun v19 => ?_)
  refine xr_dup F dX1_init_22 (xrf_cat _) ?_
  refine xr_IV (y := yX2_init) (As := []) F (hno _) dX1_init_23 (fX2_init_m (xFG F) v19) rfl rfl q206 (Or.inr ⟨_, q204⟩) q205 (xroom hRm (Nat.le_of_ble_eq_true rfl) (Nat.le_of_ble_eq_true rfl)) ⟨by decide, by decide⟩ n_X2_init rfl (xcat (Nat.le_of_ble_eq_true rfl)) (fun _ => ?_)
  refine xr_put (r := (some a0)) (ref := "ReserveLedger") F dX1_init_26 xk_0 (by decide) (Or.inl q614) (Or.inl rfl) (Or.inl rfl) (xr_rf _ _) ?_
  refine xr_aload_n 0 (r := (some a0)) F dX1_init_29 rfl ?_
  refine xr_new F dX1_init_30 xk_6 xdf_6 q606 q563 q143 (fun v30 => ?_)
  refine xr_dup F dX1_init_33 (xrf_cat _) ?_
  refine xr_IV (y := yJ19_init) (As := []) F (hno _) dX1_init_34 (fJ19_init_m (xFG F) v30) rfl rfl q566 (Or.inl q607) q565 (xroom hRm (Nat.le_of_ble_eq_true rfl) (Nat.le_of_ble_eq_true rfl)) ⟨by decide, by decide⟩ n_J19_init rfl (xcat (Nat.le_of_ble_eq_true rfl)) (fun _ => ?_)
  refine xr_put (r := (some a0)) (ref := "ReserveLedger") F dX1_init_37 xk_0 (by decide) (Or.inl q615) (Or.inl rfl) (Or.inr ⟨rfl, hmn.1, rfl, q615⟩) (xr_rf _ _) ?_
  refine xr_aload_n 0 (r := (some a0)) F dX1_init_40 rfl ?_
  refine xr_str (k := 0) F dX1_init_41 rfl (fun v41 => ?_)
  refine xr_put (r := (some a0)) (ref := "ReserveLedger") F dX1_init_43 xk_0 (by decide) (Or.inl q616) (Or.inl rfl) (Or.inl rfl) (xr_rf _ _) ?_
  exact xr_vret F dX1_init_46
theorem fX1_appendWord_p3_ok {x : xC} (F : xF x RX1 cX1_appendWord none) (hnL : xnL x = 3) (hRm : ∃ dc ds, x.2.2.2.1 = { frames := 1, cells := dc, slots := ds, locals := 12 }) (hno : ∀ pc, xNo x pc) (hmn : xmn x = "appendWord" ∧ xmy x yX1_appendWord) : ∀ (n : Nat) (l0 : Nat) (l1 : Int32) (l2 : Int32), xI x xeV 3 [(0, va_rf (some l0)), (1, .int l1), (2, .int l2)] [] (fX1_appendWord_p3 n l0 l1 l2) := by
  intro n
  induction n with
  | zero => intro l0 l1 l2; exact xI.stuck
  | succ n ih =>
    intro l0 l1 l2
    unfold fX1_appendWord_p3
    refine xr_iload_n 2 F dX1_appendWord_3 rfl ?_
    refine xr_if_lt 36 F dX1_appendWord_4 rfl ?_ ?_
    · exact xr_vret F dX1_appendWord_36
    · refine xr_aload_n 0 (r := (some l0)) F dX1_appendWord_7 rfl ?_
      refine xr_gR (r := (some l0)) (ref := "ReserveLedger") F dX1_appendWord_8 (C := RX1) (T := TX1) (N := 7) rfl (by decide) (Or.inl q610) (Or.inl rfl) (fun v8 => ?_)
      refine xr_aload_n 0 (r := (some l0)) F dX1_appendWord_11 rfl ?_
      refine xr_gI (r := (some l0)) (ref := "ReserveLedger") F dX1_appendWord_12 (C := RX1) (T := TX1) (N := 7) rfl (by decide) (Or.inl q611) (Or.inl rfl) (fun v12 => ?_)
      refine xr_iload_n 1 F dX1_appendWord_15 rfl ?_
      refine xr_iload_n 2 F dX1_appendWord_16 rfl ?_
      refine xr_ishr F dX1_appendWord_17 ?_
      refine xr_i2b F dX1_appendWord_18 ?_
      refine xr_bast (r := v8) F dX1_appendWord_19 ?_
      refine xr_aload_n 0 (r := (some l0)) F dX1_appendWord_20 rfl ?_
      refine xr_dup F dX1_appendWord_21 (xrf_cat _) ?_
      refine xr_gI (r := (some l0)) (ref := "ReserveLedger") F dX1_appendWord_22 (C := RX1) (T := TX1) (N := 7) rfl (by decide) (Or.inl q611) (Or.inl rfl) (fun v22 => ?_)
      refine xr_iconst (1 : Int32) F dX1_appendWord_25 rfl ?_
      refine xr_iadd F dX1_appendWord_26 ?_
      refine xr_put (r := (some l0)) (ref := "ReserveLedger") F dX1_appendWord_27 xk_0 (by decide) (Or.inl q611) (Or.inl rfl) (Or.inl rfl) ⟨rfl, rfl⟩ ?_
      refine xs_inc [2, 0, 1] F dX1_appendWord_30 rfl hnL rfl rfl (xk1 rfl rfl (xk2 rfl rfl xk0)) (fun x2_30 => ?_)
      refine xr_goto 3 F dX1_appendWord_33 rfl ?_
      exact xI.sub [1, 2, 0] rfl (ih l0 l1 x2_30)
theorem fX1_appendWord_m {l : Launch} {D : xD} {s0 : State} {b0 : Nat} {Γ : Nat → Option Nat} (G : xG l D s0 b0 Γ) (a0 : Nat) (p0 : Int32) : xMeth l D s0 Γ yX1_appendWord (Cond.code yX1_appendWord cX1_appendWord 3 none) (1) (12) [.ref a0, .int p0] xeV (fX1_appendWord a0 p0) := by
  refine xMeth.of (lv0 := [(0, va_rf (some a0)), (1, .int p0)]) G (by decide +kernel) (Or.inl rfl) (Nat.le_of_ble_eq_true rfl) rfl (fun x F hnL hRm hmn ht e1 e2 e3 e4 => ?_)
  have hno : ∀ pc, xNo x pc := fun pc z hz => by rw [ht.1 rfl] at hz; cases hz
  unfold fX1_appendWord
  refine xr_bipush (24 : Int32) F dX1_appendWord_0 rfl ?_
  refine xr_letI (fun x2_2 => ?_)
  refine xs_i_n [0, 1] F dX1_appendWord_2 hnL rfl rfl (xk1 rfl rfl (xk2 rfl rfl xk0)) ?_
  exact xI.sub [1, 2, 0] rfl (fX1_appendWord_p3_ok F hnL hRm hno hmn xFU a0 p0 x2_2)
theorem fX1_append_m {l : Launch} {D : xD} {s0 : State} {b0 : Nat} {Γ : Nat → Option Nat} (G : xG l D s0 b0 Γ) (a0 : Nat) (p0 : Int32) (p1 : Int32) (p2 : Int32) (p3 : Int32) (p4 : Int32) : xMeth l D s0 Γ yX1_append (Cond.code yX1_append cX1_append 6 (some .int)) (2) (34) [.ref a0, .int p0, .int p1, .int p2, .int p3, .int p4] xeI (fX1_append a0 p0 p1 p2 p3 p4) := by
  refine xMeth.of (lv0 := [(0, va_rf (some a0)), (1, .int p0), (2, .int p1), (3, .int p2), (4, .int p3), (5, .int p4)]) G (by decide +kernel) (Or.inl rfl) (Nat.le_of_ble_eq_true rfl) rfl (fun x F hnL hRm hmn ht e1 e2 e3 e4 => ?_)
  have hno : ∀ pc, xNo x pc := fun pc z hz => by rw [ht.1 rfl] at hz; cases hz
  unfold fX1_append
  refine xr_aload_n 0 (r := (some a0)) F dX1_append_0 rfl ?_
  refine xr_gI (r := (some a0)) (ref := "ReserveLedger") F dX1_append_1 (C := RX1) (T := TX1) (N := 7) rfl (by decide) (Or.inl q611) (Or.inl rfl) (fun v1 => ?_)
  refine xr_bipush (20 : Int32) F dX1_append_4 rfl ?_
  refine xr_iadd F dX1_append_6 ?_
  refine xr_sipush (900 : Int32) F dX1_append_7 rfl ?_
  refine xr_icmp_le 15 F dX1_append_10 rfl ?_ ?_
  · refine xr_aload_n 0 (r := (some a0)) F dX1_append_15 rfl ?_
    refine xr_iload_n 1 F dX1_append_16 rfl ?_
    refine xr_VV (y := yX1_appendWord) (As := [.int p0]) (r := (some a0)) F (hno _) dX1_append_17 (fun z => fX1_appendWord_m (xFG F) z p0) (Or.inl rfl) (ci := 0) (C := RX1) (T := TX1) rfl q639 q636 q638 qs1 (xroom hRm (Nat.le_of_ble_eq_true rfl) (Nat.le_of_ble_eq_true rfl)) ⟨by decide, by decide⟩ n_X1_appendWord rfl (xcat (Nat.le_of_ble_eq_true rfl)) (fun _ => ?_)
    refine xr_aload_n 0 (r := (some a0)) F dX1_append_20 rfl ?_
    refine xr_iload_n 2 F dX1_append_21 rfl ?_
    refine xr_VV (y := yX1_appendWord) (As := [.int p1]) (r := (some a0)) F (hno _) dX1_append_22 (fun z => fX1_appendWord_m (xFG F) z p1) (Or.inl rfl) (ci := 0) (C := RX1) (T := TX1) rfl q639 q636 q638 qs1 (xroom hRm (Nat.le_of_ble_eq_true rfl) (Nat.le_of_ble_eq_true rfl)) ⟨by decide, by decide⟩ n_X1_appendWord rfl (xcat (Nat.le_of_ble_eq_true rfl)) (fun _ => ?_)
    refine xr_aload_n 0 (r := (some a0)) F dX1_append_25 rfl ?_
    refine xr_iload_n 3 F dX1_append_26 rfl ?_
    refine xr_VV (y := yX1_appendWord) (As := [.int p2]) (r := (some a0)) F (hno _) dX1_append_27 (fun z => fX1_appendWord_m (xFG F) z p2) (Or.inl rfl) (ci := 0) (C := RX1) (T := TX1) rfl q639 q636 q638 qs1 (xroom hRm (Nat.le_of_ble_eq_true rfl) (Nat.le_of_ble_eq_true rfl)) ⟨by decide, by decide⟩ n_X1_appendWord rfl (xcat (Nat.le_of_ble_eq_true rfl)) (fun _ => ?_)
    refine xr_aload_n 0 (r := (some a0)) F dX1_append_30 rfl ?_
    refine xr_iload 4 F dX1_append_31 rfl ?_
    refine xr_VV (y := yX1_appendWord) (As := [.int p3]) (r := (some a0)) F (hno _) dX1_append_33 (fun z => fX1_appendWord_m (xFG F) z p3) (Or.inl rfl) (ci := 0) (C := RX1) (T := TX1) rfl q639 q636 q638 qs1 (xroom hRm (Nat.le_of_ble_eq_true rfl) (Nat.le_of_ble_eq_true rfl)) ⟨by decide, by decide⟩ n_X1_appendWord rfl (xcat (Nat.le_of_ble_eq_true rfl)) (fun _ => ?_)
    refine xr_aload_n 0 (r := (some a0)) F dX1_append_36 rfl ?_
    refine xr_iload 5 F dX1_append_37 rfl ?_
    refine xr_VV (y := yX1_appendWord) (As := [.int p4]) (r := (some a0)) F (hno _) dX1_append_39 (fun z => fX1_appendWord_m (xFG F) z p4) (Or.inl rfl) (ci := 0) (C := RX1) (T := TX1) rfl q639 q636 q638 qs1 (xroom hRm (Nat.le_of_ble_eq_true rfl) (Nat.le_of_ble_eq_true rfl)) ⟨by decide, by decide⟩ n_X1_appendWord rfl (xcat (Nat.le_of_ble_eq_true rfl)) (fun _ => ?_)
    refine xr_aload_n 0 (r := (some a0)) F dX1_append_42 rfl ?_
    refine xr_gI (r := (some a0)) (ref := "ReserveLedger") F dX1_append_43 (C := RX1) (T := TX1) (N := 7) rfl (by decide) (Or.inl q611) (Or.inl rfl) (fun v43 => ?_)
    exact xr_iret F dX1_append_46
  · refine xr_iconst (-1 : Int32) F dX1_append_13 rfl ?_
    exact xr_iret F dX1_append_14
theorem fX1_truncate_m {l : Launch} {D : xD} {s0 : State} {b0 : Nat} {Γ : Nat → Option Nat} (G : xG l D s0 b0 Γ) (a0 : Nat) (p0 : Int32) : xMeth l D s0 Γ yX1_truncate (Cond.code yX1_truncate cX1_truncate 2 (some .boolean)) (2) (34) [.ref a0, .int p0] xeI (fX1_truncate a0 p0) := by
  refine xMeth.of (lv0 := [(0, va_rf (some a0)), (1, .int p0)]) G (by decide +kernel) (Or.inl rfl) (Nat.le_of_ble_eq_true rfl) rfl (fun x F hnL hRm hmn ht e1 e2 e3 e4 => ?_)
  have hno : ∀ pc, xNo x pc := fun pc z hz => by rw [ht.1 rfl] at hz; cases hz
  unfold fX1_truncate
  refine xr_iload_n 1 F dX1_truncate_0 rfl ?_
  refine xr_iconst (0 : Int32) F dX1_truncate_1 rfl ?_
  refine xr_aload_n 0 (r := (some a0)) F dX1_truncate_2 rfl ?_
  refine xr_gI (r := (some a0)) (ref := "ReserveLedger") F dX1_truncate_3 (C := RX1) (T := TX1) (N := 7) rfl (by decide) (Or.inl q611) (Or.inl rfl) (fun v3 => ?_)
  refine xr_SI (y := yX1_inRange) (As := [.int p0, .int (0 : Int32), .int v3]) F (hno _) dX1_truncate_6 (fX1_inRange_m (xFG F) p0 (0 : Int32) v3) (Or.inl rfl) q646 q121 (Or.inl q644) q645 (xroom hRm (Nat.le_of_ble_eq_true rfl) (Nat.le_of_ble_eq_true rfl)) ⟨by decide, by decide⟩ n_X1_inRange rfl (xcat (Nat.le_of_ble_eq_true rfl)) (fun v6 => ?_)
  refine xr_if_ne 14 F dX1_truncate_9 rfl ?_ ?_
  · refine xr_iconst (0 : Int32) F dX1_truncate_12 rfl ?_
    exact xr_zret F dX1_truncate_13 rfl
  · refine xr_aload_n 0 (r := (some a0)) F dX1_truncate_14 rfl ?_
    refine xr_iload_n 1 F dX1_truncate_15 rfl ?_
    refine xr_put (r := (some a0)) (ref := "ReserveLedger") F dX1_truncate_16 xk_0 (by decide) (Or.inl q611) (Or.inl rfl) (Or.inl rfl) ⟨rfl, rfl⟩ ?_
    refine xr_iconst (1 : Int32) F dX1_truncate_19 rfl ?_
    exact xr_zret F dX1_truncate_20 rfl
theorem fX1_errorOffset_m {l : Launch} {D : xD} {s0 : State} {b0 : Nat} {Γ : Nat → Option Nat} (G : xG l D s0 b0 Γ) (a0 : Nat) : xMeth l D s0 Γ yX1_errorOffset (Cond.code yX1_errorOffset cX1_errorOffset 1 (some .int)) (1) (12) [.ref a0] xeI (fX1_errorOffset a0) := by
  refine xMeth.of (lv0 := [(0, va_rf (some a0))]) G (by decide +kernel) (Or.inl rfl) (Nat.le_of_ble_eq_true rfl) rfl (fun x F hnL hRm hmn ht e1 e2 e3 e4 => ?_)
  have hno : ∀ pc, xNo x pc := fun pc z hz => by rw [ht.1 rfl] at hz; cases hz
  unfold fX1_errorOffset
  refine xr_aload_n 0 (r := (some a0)) F dX1_errorOffset_0 rfl ?_
  refine xr_gI (r := (some a0)) (ref := "ReserveLedger") F dX1_errorOffset_1 (C := RX1) (T := TX1) (N := 7) rfl (by decide) (Or.inl q612) (Or.inl rfl) (fun v1 => ?_)
  exact xr_iret F dX1_errorOffset_4
theorem fX1_errorKind_m {l : Launch} {D : xD} {s0 : State} {b0 : Nat} {Γ : Nat → Option Nat} (G : xG l D s0 b0 Γ) (a0 : Nat) : xMeth l D s0 Γ yX1_errorKind (Cond.code yX1_errorKind cX1_errorKind 1 (some .int)) (1) (12) [.ref a0] xeI (fX1_errorKind a0) := by
  refine xMeth.of (lv0 := [(0, va_rf (some a0))]) G (by decide +kernel) (Or.inl rfl) (Nat.le_of_ble_eq_true rfl) rfl (fun x F hnL hRm hmn ht e1 e2 e3 e4 => ?_)
  have hno : ∀ pc, xNo x pc := fun pc z hz => by rw [ht.1 rfl] at hz; cases hz
  unfold fX1_errorKind
  refine xr_aload_n 0 (r := (some a0)) F dX1_errorKind_0 rfl ?_
  refine xr_gI (r := (some a0)) (ref := "ReserveLedger") F dX1_errorKind_1 (C := RX1) (T := TX1) (N := 7) rfl (by decide) (Or.inl q613) (Or.inl rfl) (fun v1 => ?_)
  exact xr_iret F dX1_errorKind_4
theorem fX1_speciesNamed_p66_ok {x : xC} (F : xF x RX1 cX1_speciesNamed (some .int)) (hnL : xnL x = 6) (hRm : ∃ dc ds, x.2.2.2.1 = { frames := 7, cells := dc, slots := ds, locals := 171 }) (hno : ∀ pc, xNo x pc) (hmn : xmn x = "speciesNamed" ∧ xmy x yX1_speciesNamed) : ∀ (n : Nat) (l2 : Option Nat) (l3 : Int32) (l4 : Option Nat), xI x xeI 66 [(2, va_rf l2), (3, .int l3), (4, va_rf l4)] [] (fX1_speciesNamed_p66 n l2 l3 l4) := by
  intro n
  induction n with
  | zero => intro l2 l3 l4; exact xI.stuck
  | succ n ih =>
    intro l2 l3 l4
    unfold fX1_speciesNamed_p66
    refine xr_aload 2 (r := l4) F dX1_speciesNamed_66 rfl ?_
    refine xr_FI (x0 := ⟨"java/util/Iterator", "hasNext", "()Z"⟩) (y := yJ20_hasNext) (As := []) (r := l4) F (hno _) dX1_speciesNamed_68 (fun z => fJ20_hasNext_m (xFG F) z) rfl (ci := 7) (C := RJ20) (T := TJ20) rfl q853 q824 q851 q849 q826 q825 q852 q850 q848 (xroom hRm (Nat.le_of_ble_eq_true rfl) (Nat.le_of_ble_eq_true rfl)) ⟨by decide, by decide⟩ n_J20_hasNext rfl (xcat (Nat.le_of_ble_eq_true rfl)) (fun v68 => ?_)
    refine xr_if_eq 111 F dX1_speciesNamed_73 rfl ?_ ?_
    · refine xr_iconst (-1 : Int32) F dX1_speciesNamed_111 rfl ?_
      exact xr_iret F dX1_speciesNamed_112
    · refine xr_aload 2 (r := l4) F dX1_speciesNamed_76 rfl ?_
      refine xr_FR (x0 := ⟨"java/util/Iterator", "next", "()Ljava/lang/Object;"⟩) (y := yJ20_next) (As := []) (r := l4) F (hno _) dX1_speciesNamed_78 (fun z => fJ20_next_m (xFG F) z) rfl (ci := 7) (C := RJ20) (T := TJ20) rfl q1075 q883 q1073 q1071 q885 q884 q1074 q1072 q848 (xroom hRm (Nat.le_of_ble_eq_true rfl) (Nat.le_of_ble_eq_true rfl)) ⟨by decide, by decide⟩ n_J20_next rfl (xcat (Nat.le_of_ble_eq_true rfl)) (fun v78 => ?_)
      refine xr_castE (ci := 19) (r := v78) F dX1_speciesNamed_83 q1145 rfl ?_
      refine xs_a [0, 1, 2] F dX1_speciesNamed_86 hnL rfl rfl (xk1 rfl rfl (xk1 rfl rfl (xk2 rfl (xrf_cat _) xk0))) ?_
      refine xr_aload 0 (r := v78) F dX1_speciesNamed_88 rfl ?_
      refine xr_gR (r := v78) (ref := "ReserveLedger$Herd") F dX1_speciesNamed_90 (C := RX6) (T := TX6) (N := 8) rfl (by decide) (Or.inr ⟨_, q2037⟩) (Or.inl rfl) (fun v90 => ?_)
      refine xr_gR (r := v90) (ref := "ReserveLedger$Species") F dX1_speciesNamed_93 (C := RX7) (T := TX7) (N := 6) rfl (by decide) (Or.inr ⟨_, q1916⟩) (Or.inl rfl) (fun v93 => ?_)
      refine xr_aload_n 1 (r := l2) F dX1_speciesNamed_96 rfl ?_
      refine xr_VI (y := yJ9_equals) (As := [va_rf l2]) (r := v93) F (hno _) dX1_speciesNamed_97 (fun z => fJ9_equals_m (xFG F) z l2) (Or.inl rfl) (ci := 5) (C := RJ9) (T := TJ9) rfl q1149 q1146 q1147 q1148 (xroom hRm (Nat.le_of_ble_eq_true rfl) (Nat.le_of_ble_eq_true rfl)) ⟨by decide, by decide⟩ n_J9_equals rfl (xcat (Nat.le_of_ble_eq_true rfl)) (fun v97 => ?_)
      refine xr_if_eq 105 F dX1_speciesNamed_100 rfl ?_ ?_
      · refine xs_inc [2, 1, 3] F dX1_speciesNamed_105 rfl hnL rfl rfl (xk2 rfl (xrf_cat _) (xk1 rfl rfl xk0)) (fun x3_105 => ?_)
        refine xr_goto 66 F dX1_speciesNamed_108 rfl ?_
        exact xI.sub [1, 0, 2] rfl (ih l2 x3_105 l4)
      · refine xr_iload_n 2 F dX1_speciesNamed_103 rfl ?_
        exact xr_iret F dX1_speciesNamed_104
theorem fX1_speciesNamed_p10_ok {x : xC} (F : xF x RX1 cX1_speciesNamed (some .int)) (hnL : xnL x = 6) (hRm : ∃ dc ds, x.2.2.2.1 = { frames := 7, cells := dc, slots := ds, locals := 171 }) (hno : ∀ pc, xNo x pc) (hmn : xmn x = "speciesNamed" ∧ xmy x yX1_speciesNamed) : ∀ (n : Nat) (l0 : Nat) (l1 : Nat) (l2 : Int32), xI x xeI 10 [(0, va_rf (some l0)), (1, va_rf (some l1)), (2, .int l2)] [] (fX1_speciesNamed_p10 n l0 l1 l2) := by
  intro n
  induction n with
  | zero => intro l0 l1 l2; exact xI.stuck
  | succ n ih =>
    intro l0 l1 l2
    unfold fX1_speciesNamed_p10
    refine xr_iload_n 2 F dX1_speciesNamed_10 rfl ?_
    refine xr_aload_n 0 (r := (some l0)) F dX1_speciesNamed_11 rfl ?_
    refine xr_gI (r := (some l0)) (ref := "ReserveLedger") F dX1_speciesNamed_12 (C := RX1) (T := TX1) (N := 7) rfl (by decide) (Or.inl q611) (Or.inl rfl) (fun v12 => ?_)
    refine xr_icmp_ge 40 F dX1_speciesNamed_15 rfl ?_ ?_
    · refine xr_aload_n 0 (r := (some l0)) F dX1_speciesNamed_40 rfl ?_
      refine xr_iconst (0 : Int32) F dX1_speciesNamed_41 rfl ?_
      refine xr_put (r := (some l0)) (ref := "ReserveLedger") F dX1_speciesNamed_42 xk_0 (by decide) (Or.inl q611) (Or.inl rfl) (Or.inl rfl) ⟨rfl, rfl⟩ ?_
      refine xr_aload_n 1 (r := (some l1)) F dX1_speciesNamed_45 rfl ?_
      refine xr_VR (y := yJ8_toString) (As := []) (r := (some l1)) F (hno _) dX1_speciesNamed_46 (fun z => fJ8_toString_m (xFG F) z) (Or.inl rfl) (ci := 4) (C := RJ8) (T := TJ8) rfl q451 q683 q449 q450 (xroom hRm (Nat.le_of_ble_eq_true rfl) (Nat.le_of_ble_eq_true rfl)) ⟨by decide, by decide⟩ n_J8_toString rfl (xcat (Nat.le_of_ble_eq_true rfl)) (fun v46 => ?_)
      refine xs_a_n [0] F dX1_speciesNamed_49 hnL rfl rfl (xk1 rfl rfl xk0) ?_
      refine xr_iconst (0 : Int32) F dX1_speciesNamed_50 rfl ?_
      refine xr_letI (fun x3_51 => ?_)
      refine xs_i_n [0, 1] F dX1_speciesNamed_51 hnL rfl rfl (xk2 rfl (xrf_cat _) (xk1 rfl rfl xk0)) ?_
      refine xr_aload_n 2 (r := (some l0)) F dX1_speciesNamed_52 rfl ?_
      refine xr_gR (r := (some l0)) (ref := "ReserveLedger") F dX1_speciesNamed_53 (C := RX1) (T := TX1) (N := 7) rfl (by decide) (Or.inl q614) (Or.inl rfl) (fun v53 => ?_)
      refine xr_gR (r := v53) (ref := "ReserveLedger$State") F dX1_speciesNamed_56 (C := RX2) (T := TX2) (N := 5) rfl (by decide) (Or.inr ⟨_, q584⟩) (Or.inl rfl) (fun v56 => ?_)
      refine xr_FR (x0 := ⟨"java/util/List", "iterator", "()Ljava/util/Iterator;"⟩) (y := yJ2_iterator) (As := []) (r := v56) F (hno _) dX1_speciesNamed_59 (fun z => fJ2_iterator_m (xFG F) z) rfl (ci := 2) (C := RJ2) (T := TJ2) rfl q693 q685 q691 q689 q687 q686 q692 q690 q688 (xroom hRm (Nat.le_of_ble_eq_true rfl) (Nat.le_of_ble_eq_true rfl)) ⟨by decide, by decide⟩ n_J2_iterator rfl (xcat (Nat.le_of_ble_eq_true rfl)) (fun v59 => ?_)
      refine xs_a [0, 1] F dX1_speciesNamed_64 hnL rfl rfl (xk2 rfl rfl (xk1 rfl rfl xk0)) ?_
      exact xI.sub [2, 1, 0] rfl (fX1_speciesNamed_p66_ok F hnL hRm hno hmn xFU v46 x3_51 v59)
    · refine xr_aload_n 1 (r := (some l1)) F dX1_speciesNamed_18 rfl ?_
      refine xr_aload_n 0 (r := (some l0)) F dX1_speciesNamed_19 rfl ?_
      refine xr_gR (r := (some l0)) (ref := "ReserveLedger") F dX1_speciesNamed_20 (C := RX1) (T := TX1) (N := 7) rfl (by decide) (Or.inl q610) (Or.inl rfl) (fun v20 => ?_)
      refine xr_iload_n 2 F dX1_speciesNamed_23 rfl ?_
      refine xr_bald (r := v20) F dX1_speciesNamed_24 (fun v24 => ?_)
      refine xr_sipush (255 : Int32) F dX1_speciesNamed_25 rfl ?_
      refine xr_iand F dX1_speciesNamed_28 ?_
      refine xr_i2c F dX1_speciesNamed_29 ?_
      refine xr_VR (y := yJ8_append_3) (As := [.int (((v24 &&& (255 : Int32)).toUInt32 % 65536).toInt32)]) (r := (some l1)) F (hno _) dX1_speciesNamed_30 (fun z => fJ8_append_3_m (xFG F) z (((v24 &&& (255 : Int32)).toUInt32 % 65536).toInt32)) (Or.inl rfl) (ci := 4) (C := RJ8) (T := TJ8) rfl q664 q661 q662 q663 (xroom hRm (Nat.le_of_ble_eq_true rfl) (Nat.le_of_ble_eq_true rfl)) ⟨by decide, by decide⟩ n_J8_append_3 rfl (xcat (Nat.le_of_ble_eq_true rfl)) (fun v30 => ?_)
      refine xr_pop F dX1_speciesNamed_33 (xrf_cat _) ?_
      refine xs_inc [2, 0, 1] F dX1_speciesNamed_34 rfl hnL rfl rfl (xk1 rfl rfl (xk2 rfl (xrf_cat _) xk0)) (fun x2_34 => ?_)
      refine xr_goto 10 F dX1_speciesNamed_37 rfl ?_
      exact xI.sub [1, 2, 0] rfl (ih l0 l1 x2_34)
theorem fX1_speciesNamed_m {l : Launch} {D : xD} {s0 : State} {b0 : Nat} {Γ : Nat → Option Nat} (G : xG l D s0 b0 Γ) (a0 : Nat) : xMeth l D s0 Γ yX1_speciesNamed (Cond.code yX1_speciesNamed cX1_speciesNamed 6 (some .int)) (7) (171) [.ref a0] xeI (fX1_speciesNamed a0) := by
  refine xMeth.of (lv0 := [(0, va_rf (some a0))]) G (by decide +kernel) (Or.inl rfl) (Nat.le_of_ble_eq_true rfl) rfl (fun x F hnL hRm hmn ht e1 e2 e3 e4 => ?_)
  have hno : ∀ pc, xNo x pc := fun pc z hz => by rw [ht.1 rfl] at hz; cases hz
  unfold fX1_speciesNamed
  refine xr_new F dX1_speciesNamed_0 xk_4 xdf_4 q659 q271 q131 (fun v0 => ?_)
  refine xr_dup F dX1_speciesNamed_3 (xrf_cat _) ?_
  refine xr_IV (y := yJ8_init) (As := []) F (hno _) dX1_speciesNamed_4 (fJ8_init_m (xFG F) v0) rfl rfl q274 (Or.inl q660) q273 (xroom hRm (Nat.le_of_ble_eq_true rfl) (Nat.le_of_ble_eq_true rfl)) ⟨by decide, by decide⟩ n_J8_init rfl (xcat (Nat.le_of_ble_eq_true rfl)) (fun _ => ?_)
  refine xs_a_n [0] F dX1_speciesNamed_7 hnL rfl rfl (xk2 rfl (xrf_cat _) xk0) ?_
  refine xr_iconst (0 : Int32) F dX1_speciesNamed_8 rfl ?_
  refine xr_letI (fun x2_9 => ?_)
  refine xs_i_n [0, 1] F dX1_speciesNamed_9 hnL rfl rfl (xk2 rfl (xrf_cat _) (xk1 rfl rfl xk0)) ?_
  exact xI.sub [2, 1, 0] rfl (fX1_speciesNamed_p10_ok F hnL hRm hno hmn xFU a0 v0 x2_9)
