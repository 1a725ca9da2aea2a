theorem fX1_foresee_p3_ok {x : xC} (F : xF x RX1 cX1_foresee (some .int)) (hnL : xnL x = 5) (hRm : ∃ dc ds, x.2.2.2.1 = { frames := 5, cells := dc, slots := ds, locals := 103 }) (hno : ∀ pc, xNo x pc) (hmn : xmn x = "foresee" ∧ xmy x yX1_foresee) : ∀ (n : Nat) (l0 : Option Nat) (l1 : Option Nat) (l2 : Int32) (l3 : Option Nat) (l4 : Int32), xI x xeI 3 [(0, va_rf l0), (1, va_rf l1), (2, .int l2), (3, va_rf l3), (4, .int l4)] [] (fX1_foresee_p3 n l0 l1 l2 l3 l4) := by
  intro n
  induction n with
  | zero => intro l0 l1 l2 l3 l4; exact xI.stuck
  | succ n ih =>
    intro l0 l1 l2 l3 l4
    unfold fX1_foresee_p3
    refine xr_iload 4 F dX1_foresee_3 rfl ?_
    refine xr_iload_n 2 F dX1_foresee_5 rfl ?_
    refine xr_icmp_ge 39 F dX1_foresee_6 rfl ?_ ?_
    · refine xr_iload 4 F dX1_foresee_39 rfl ?_
      exact xr_iret F dX1_foresee_41
    · refine xr_aload_n 3 (r := l3) F dX1_foresee_9 rfl ?_
      refine xr_iload 4 F dX1_foresee_10 rfl ?_
      refine xr_aload_n 1 (r := l1) F dX1_foresee_12 rfl ?_
      refine xI.alt2 (Kp := ∀ (v13 : Int32), xI x xeI 18 [(0, va_rf l0), (1, va_rf l1), (2, .int l2), (3, va_rf l3), (4, .int l4)] [.int v13] _) ?_ (fun hK => xrL_10 (r := l3) l4 l1 F (hno _) dX1_foresee_13 q2932 (xroom hRm (Nat.le_of_ble_eq_true rfl) (Nat.le_of_ble_eq_true rfl)) rfl (xcat (Nat.le_of_ble_eq_true rfl)) hK) (fun hK => (xI.alt2 hK (fun hK => xrL_11 (r := l3) l4 l1 F (hno _) dX1_foresee_13 q2932 (xroom hRm (Nat.le_of_ble_eq_true rfl) (Nat.le_of_ble_eq_true rfl)) rfl (xcat (Nat.le_of_ble_eq_true rfl)) hK) (fun hK => (xrL_12 (r := l3) l4 l1 F (hno _) dX1_foresee_13 q2932 (xroom hRm (Nat.le_of_ble_eq_true rfl) (Nat.le_of_ble_eq_true rfl)) rfl (xcat (Nat.le_of_ble_eq_true rfl)) hK))))
      intro v13
      refine xr_if_eq 39 F dX1_foresee_18 rfl ?_ ?_
      · refine xr_iload 4 F dX1_foresee_39 rfl ?_
        exact xr_iret F dX1_foresee_41
      · refine xr_aload_n 1 (r := l1) F dX1_foresee_21 rfl ?_
        refine xr_aload_n 0 (r := l0) F dX1_foresee_22 rfl ?_
        refine xr_gR (r := l0) (ref := "ReserveLedger$Herd") F dX1_foresee_23 (C := RX6) (T := TX6) (N := 8) rfl (by decide) (Or.inr ⟨_, q2041⟩) (Or.inl rfl) (fun v23 => ?_)
        refine xr_aload_n 0 (r := l0) F dX1_foresee_26 rfl ?_
        refine xr_gI (r := l0) (ref := "ReserveLedger$Herd") F dX1_foresee_27 (C := RX6) (T := TX6) (N := 8) rfl (by decide) (Or.inr ⟨_, q2046⟩) (Or.inl rfl) (fun v27 => ?_)
        refine xr_VV (y := yX10_close) (As := [va_rf v23, .int v27]) (r := l1) F (hno _) dX1_foresee_30 (fun z => fX10_close_m (xFG F) z v23 v27) (Or.inl rfl) (ci := 24) (C := RX10) (T := TX10) rfl q2938 q2935 q2936 q2937 (xroom hRm (Nat.le_of_ble_eq_true rfl) (Nat.le_of_ble_eq_true rfl)) ⟨by decide, by decide⟩ n_X10_close rfl (xcat (Nat.le_of_ble_eq_true rfl)) (fun _ => ?_)
        refine xs_inc [4, 0, 1, 2, 3] F dX1_foresee_33 rfl hnL rfl rfl (xk1 rfl rfl (xk1 rfl rfl (xk1 rfl rfl (xk2 rfl (xrf_cat _) xk0)))) (fun x4_33 => ?_)
        refine xr_goto 3 F dX1_foresee_36 rfl ?_
        exact xI.sub [1, 2, 3, 4, 0] rfl (ih l0 l1 l2 l3 x4_33)
theorem fX1_foresee_m {l : Launch} {D : xD} {s0 : State} {b0 : Nat} {Γ : Nat → Option Nat} (G : xG l D s0 b0 Γ) (p0 : Option Nat) (p1 : Option Nat) (p2 : Int32) (p3 : Option Nat) : xMeth l D s0 Γ yX1_foresee (Cond.code yX1_foresee cX1_foresee 5 (some .int)) (5) (103) [va_rf p0, va_rf p1, .int p2, va_rf p3] xeI (fX1_foresee p0 p1 p2 p3) := by
  refine xMeth.of (lv0 := [(0, va_rf p0), (1, va_rf p1), (2, .int p2), (3, va_rf p3)]) G (by decide +kernel) (Or.inl rfl) (by simp [lg_sl, xrf_cat, xct_i, xct_l, xct_d, xct_r]) (by simp [lv_args, xrf_cat, xct_i, xct_l, xct_d, xct_r, xrf_some]) (fun x F hnL hRm hmn ht e1 e2 e3 e4 => ?_)
  have hno : ∀ pc, xNo x pc := fun pc z hz => by rw [ht.1 rfl] at hz; cases hz
  unfold fX1_foresee
  refine xr_iconst (0 : Int32) F dX1_foresee_0 rfl ?_
  refine xr_letI (fun x4_1 => ?_)
  refine xs_i [0, 1, 2, 3] F dX1_foresee_1 hnL rfl rfl (xk1 rfl rfl (xk1 rfl rfl (xk1 rfl rfl (xk2 rfl (xrf_cat _) xk0)))) ?_
  exact xI.sub [1, 2, 3, 4, 0] rfl (fX1_foresee_p3_ok F hnL hRm hno hmn xFU p0 p1 p2 p3 x4_1)
theorem fX1_after_m {l : Launch} {D : xD} {s0 : State} {b0 : Nat} {Γ : Nat → Option Nat} (G : xG l D s0 b0 Γ) (p0 : Option Nat) (p1 : Int32) : xMeth l D s0 Γ yX1_after (Cond.code yX1_after cX1_after 4 (some (.object "ReserveLedger$Stock"))) (6) (3100) [va_rf p0, .int p1] xeR (fX1_after p0 p1) := by
  refine xMeth.of (lv0 := [(0, va_rf p0), (1, .int p1)]) G (by decide +kernel) (Or.inl rfl) (by simp [lg_sl, xrf_cat, xct_i, xct_l, xct_d, xct_r]) (by simp [lv_args, xrf_cat, xct_i, xct_l, xct_d, xct_r, xrf_some]) (fun x F hnL hRm hmn ht e1 e2 e3 e4 => ?_)
  have hno : ∀ pc, xNo x pc := fun pc z hz => by rw [ht.1 rfl] at hz; cases hz
  unfold fX1_after
  refine xr_aload_n 0 (r := p0) F dX1_after_0 rfl ?_
  refine xr_SR (y := yX1_thought) (As := [va_rf p0]) F (hno _) dX1_after_1 (fX1_thought_m (xFG F) p0) (Or.inl rfl) q2918 q121 (Or.inl q2916) q2917 (xroom hRm (Nat.le_of_ble_eq_true rfl) (Nat.le_of_ble_eq_true rfl)) ⟨by decide, by decide⟩ n_X1_thought rfl (xcat (Nat.le_of_ble_eq_true rfl)) (fun v1 => ?_)
  refine xs_a_n [0, 1] F dX1_after_4 hnL rfl rfl (xk1 rfl rfl (xk2 rfl rfl xk0)) ?_
  refine xr_aload_n 1 (r := p0) F dX1_after_5 rfl ?_
  refine xr_aload_n 0 (r := v1) F dX1_after_6 rfl ?_
  refine xr_iload_n 2 F dX1_after_7 rfl ?_
  refine xr_lamC (k := 10) F hmn.2 dX1_after_8 rfl rfl (xroom hRm (Nat.le_of_ble_eq_true rfl) (Nat.le_of_ble_eq_true rfl)) (xcat (Nat.le_of_ble_eq_true rfl)) (fun v8 => ?_)
  refine xr_SI (y := yX1_foresee) (As := [va_rf p0, va_rf v1, .int p1, va_rf v8]) F (hno _) dX1_after_13 (fX1_foresee_m (xFG F) p0 v1 p1 v8) (Or.inl rfl) q2930 q121 (Or.inl q2928) q2929 (xroom hRm (Nat.le_of_ble_eq_true rfl) (Nat.le_of_ble_eq_true rfl)) ⟨by decide, by decide⟩ n_X1_foresee rfl (xcat (Nat.le_of_ble_eq_true rfl)) (fun v13 => ?_)
  refine xs_i_n [0] F dX1_after_16 hnL rfl rfl (xk2 rfl (xrf_cat _) xk0) ?_
  refine xr_aload_n 1 (r := v1) F dX1_after_17 rfl ?_
  exact xr_aret (v := v1) F dX1_after_18 (Or.inl ⟨_, rfl⟩)
theorem fX1_totalIn_m {l : Launch} {D : xD} {s0 : State} {b0 : Nat} {Γ : Nat → Option Nat} (G : xG l D s0 b0 Γ) (a0 : Nat) (p0 : Int32) (p1 : Int32) : xMeth l D s0 Γ yX1_totalIn (Cond.code yX1_totalIn cX1_totalIn 4 (some .int)) (8) (3123) [.ref a0, .int p0, .int p1] xeI (fX1_totalIn a0 p0 p1) := by
  refine xMeth.of (lv0 := [(0, va_rf (some a0)), (1, .int p0), (2, .int p1)]) G (by decide +kernel) (Or.inl rfl) (Nat.le_of_ble_eq_true rfl) rfl (fun x F hnL hRm hmn ht e1 e2 e3 e4 => ?_)
  have hno : ∀ pc, xNo x pc := fun pc z hz => by rw [ht.1 rfl] at hz; cases hz
  unfold fX1_totalIn
  refine xr_aload_n 0 (r := (some a0)) F dX1_totalIn_0 rfl ?_
  refine xr_iload_n 1 F dX1_totalIn_1 rfl ?_
  refine xr_VR (y := yX1_herd) (As := [.int p0]) (r := (some a0)) F (hno _) dX1_totalIn_2 (fun z => fX1_herd_m (xFG F) z p0) (Or.inl rfl) (ci := 0) (C := RX1) (T := TX1) rfl q2504 q2501 q2503 qs34 (xroom hRm (Nat.le_of_ble_eq_true rfl) (Nat.le_of_ble_eq_true rfl)) ⟨by decide, by decide⟩ n_X1_herd rfl (xcat (Nat.le_of_ble_eq_true rfl)) (fun v2 => ?_)
  refine xs_a_n [2] F dX1_totalIn_5 hnL rfl rfl (xk2 rfl rfl xk0) ?_
  refine xr_iload_n 1 F dX1_totalIn_6 rfl ?_
  refine xr_iconst (0 : Int32) F dX1_totalIn_7 rfl ?_
  refine xr_bipush (50 : Int32) F dX1_totalIn_8 rfl ?_
  refine xr_SI (y := yX1_inRange) (As := [.int p1, .int (0 : Int32), .int (50 : Int32)]) F (hno _) dX1_totalIn_10 (fX1_inRange_m (xFG F) p1 (0 : Int32) (50 : Int32)) (Or.inl rfl) q646 q121 (Or.inl q644) q645 (xroom hRm (Nat.le_of_ble_eq_true rfl) (Nat.le_of_ble_eq_true rfl)) ⟨by decide, by decide⟩ n_X1_inRange rfl (xcat (Nat.le_of_ble_eq_true rfl)) (fun v10 => ?_)
  refine xr_SV (y := yX1_checkArgument) (As := [.int v10]) F (hno _) dX1_totalIn_13 (fX1_checkArgument_m (xFG F) v10) (Or.inl rfl) q2912 q121 (Or.inl q2910) q2911 (xroom hRm (Nat.le_of_ble_eq_true rfl) (Nat.le_of_ble_eq_true rfl)) ⟨by decide, by decide⟩ n_X1_checkArgument rfl (xcat (Nat.le_of_ble_eq_true rfl)) (fun _ => ?_)
  refine xr_aload_n 0 (r := v2) F dX1_totalIn_16 rfl ?_
  refine xr_iload_n 1 F dX1_totalIn_17 rfl ?_
  refine xr_SR (y := yX1_after) (As := [va_rf v2, .int p1]) F (hno _) dX1_totalIn_18 (fX1_after_m (xFG F) v2 p1) (Or.inl rfl) q2915 q121 (Or.inl q2913) q2914 (xroom hRm (Nat.le_of_ble_eq_true rfl) (Nat.le_of_ble_eq_true rfl)) ⟨by decide, by decide⟩ n_X1_after rfl (xcat (Nat.le_of_ble_eq_true rfl)) (fun v18 => ?_)
  refine xr_VI (y := yX10_total) (As := []) (r := v18) F (hno _) dX1_totalIn_21 (fun z => fX10_total_m (xFG F) z) (Or.inl rfl) (ci := 24) (C := RX10) (T := TX10) rfl q1642 q2515 q1640 q1641 (xroom hRm (Nat.le_of_ble_eq_true rfl) (Nat.le_of_ble_eq_true rfl)) ⟨by decide, by decide⟩ n_X10_total rfl (xcat (Nat.le_of_ble_eq_true rfl)) (fun v21 => ?_)
  exact xr_iret F dX1_totalIn_24
theorem fX0_totalIn_m {l : Launch} {D : xD} {s0 : State} {b0 : Nat} {Γ : Nat → Option Nat} (G : xG l D s0 b0 Γ) (p0 : Option Nat) (p1 : Int32) (p2 : Int32) (p3 : Option Nat) : xMeth l D s0 Γ yX0_totalIn (Cond.codeWith yX0_totalIn cX0_totalIn 5 (some .int) [(0, 10, 13, 25), (0, 10, 17, 13)]) (9) (3146) [va_rf p0, .int p1, .int p2, va_rf p3] xeI (fX0_totalIn p0 p1 p2 p3) := by
  refine xMeth.of (lv0 := [(0, va_rf p0), (1, .int p1), (2, .int p2), (3, va_rf p3)]) G (by decide +kernel) (Or.inr ⟨_, rfl⟩) (by simp [lg_sl, xrf_cat, xct_i, xct_l, xct_d, xct_r]) (by simp [lv_args, xrf_cat, xct_i, xct_l, xct_d, xct_r, xrf_some]) (fun x F hnL hRm hmn ht e1 e2 e3 e4 => ?_)
  have htb : x.2.2.2.2.2.2.2.2.2.1.exceptionTable.toList = tableOf [(0, 10, 13, 25), (0, 10, 17, 13)] := ht.2 _ rfl
  unfold fX0_totalIn
  refine xr_aload_n 3 (r := p3) F dX0_totalIn_0 rfl ?_
  refine xr_iconst (0 : Int32) F dX0_totalIn_1 rfl ?_
  refine xr_aload_n 0 (r := p0) F dX0_totalIn_2 rfl ?_
  refine xr_iload_n 1 F dX0_totalIn_3 rfl ?_
  refine xr_iload_n 2 F dX0_totalIn_4 rfl ?_
  refine xr_VIT (y := yX1_totalIn) (As := [.int p1, .int p2]) (r := p0) F dX0_totalIn_5 (fun z => fX1_totalIn_m (xFG F) z p1 p2) (Or.inl rfl) (ci := 0) (C := RX1) (T := TX1) rfl q2909 q2906 q2907 q2908 (xroom hRm (Nat.le_of_ble_eq_true rfl) (Nat.le_of_ble_eq_true rfl)) ⟨by decide, by decide⟩ n_X1_totalIn rfl (xcat (Nat.le_of_ble_eq_true rfl)) (fun v5 => ?_) (fun q => ?_)
  · refine xr_i2l F dX0_totalIn_8 ?_
    refine xr_last (r := p3) F dX0_totalIn_9 ?_
    refine xr_goto 21 F dX0_totalIn_10 rfl ?_
    refine xr_iconst (0 : Int32) F dX0_totalIn_21 rfl ?_
    exact xr_iret F dX0_totalIn_22
  · refine xT.sel2 ?_ ?_
    · refine xT.catch F htb (tableOf []) ⟨0, 10, 13, 25⟩ (tableOf [(0, 10, 17, 13)]) rfl rfl xps0 rfl (Or.inr ⟨by decide, _, q2481, q739⟩) ?_
      refine xs_a [] F dX0_totalIn_13 hnL rfl rfl xk0 ?_
      refine xr_iconst (1 : Int32) F dX0_totalIn_15 rfl ?_
      exact xr_iret F dX0_totalIn_16
    refine xT.catch F htb (tableOf [(0, 10, 13, 25)]) ⟨0, 10, 17, 13⟩ (tableOf []) rfl rfl (xps1 (Or.inr ⟨by decide, _, 1, q2481, rfl⟩) xps0) rfl (Or.inr ⟨by decide, _, q1741, q226⟩) ?_
    refine xs_a [] F dX0_totalIn_17 hnL rfl rfl xk0 ?_
    refine xr_iconst (2 : Int32) F dX0_totalIn_19 rfl ?_
    exact xr_iret F dX0_totalIn_20
theorem fX1_share_m {l : Launch} {D : xD} {s0 : State} {b0 : Nat} {Γ : Nat → Option Nat} (G : xG l D s0 b0 Γ) (a0 : Nat) (p0 : Int32) (p1 : Int32) (p2 : Int32) : xMeth l D s0 Γ yX1_share (Cond.code yX1_share cX1_share 7 (some .double)) (9) (3123) [.ref a0, .int p0, .int p1, .int p2] xeD (fX1_share a0 p0 p1 p2) := by
  refine xMeth.of (lv0 := [(0, va_rf (some a0)), (1, .int p0), (2, .int p1), (3, .int p2)]) G (by decide +kernel) (Or.inl rfl) (Nat.le_of_ble_eq_true rfl) rfl (fun x F hnL hRm hmn ht e1 e2 e3 e4 => ?_)
  have hno : ∀ pc, xNo x pc := fun pc z hz => by rw [ht.1 rfl] at hz; cases hz
  unfold fX1_share
  refine xr_aload_n 0 (r := (some a0)) F dX1_share_0 rfl ?_
  refine xr_iload_n 1 F dX1_share_1 rfl ?_
  refine xr_iload_n 2 F dX1_share_2 rfl ?_
  refine xr_VR (y := yX1_herdWith) (As := [.int p0, .int p1]) (r := (some a0)) F (hno _) dX1_share_3 (fun z => fX1_herdWith_m (xFG F) z p0 p1) (Or.inl rfl) (ci := 0) (C := RX1) (T := TX1) rfl q2533 q2530 q2532 qs35 (xroom hRm (Nat.le_of_ble_eq_true rfl) (Nat.le_of_ble_eq_true rfl)) ⟨by decide, by decide⟩ n_X1_herdWith rfl (xcat (Nat.le_of_ble_eq_true rfl)) (fun v3 => ?_)
  refine xs_a [2, 3] F dX1_share_6 hnL rfl rfl (xk1 rfl rfl (xk2 rfl rfl xk0)) ?_
  refine xr_iload_n 2 F dX1_share_8 rfl ?_
  refine xr_iconst (0 : Int32) F dX1_share_9 rfl ?_
  refine xr_bipush (50 : Int32) F dX1_share_10 rfl ?_
  refine xr_SI (y := yX1_inRange) (As := [.int p2, .int (0 : Int32), .int (50 : Int32)]) F (hno _) dX1_share_12 (fX1_inRange_m (xFG F) p2 (0 : Int32) (50 : Int32)) (Or.inl rfl) q646 q121 (Or.inl q644) q645 (xroom hRm (Nat.le_of_ble_eq_true rfl) (Nat.le_of_ble_eq_true rfl)) ⟨by decide, by decide⟩ n_X1_inRange rfl (xcat (Nat.le_of_ble_eq_true rfl)) (fun v12 => ?_)
  refine xr_SV (y := yX1_checkArgument) (As := [.int v12]) F (hno _) dX1_share_15 (fX1_checkArgument_m (xFG F) v12) (Or.inl rfl) q2912 q121 (Or.inl q2910) q2911 (xroom hRm (Nat.le_of_ble_eq_true rfl) (Nat.le_of_ble_eq_true rfl)) ⟨by decide, by decide⟩ n_X1_checkArgument rfl (xcat (Nat.le_of_ble_eq_true rfl)) (fun _ => ?_)
  refine xr_aload 0 (r := v3) F dX1_share_18 rfl ?_
  refine xr_iload_n 2 F dX1_share_20 rfl ?_
  refine xr_SR (y := yX1_after) (As := [va_rf v3, .int p2]) F (hno _) dX1_share_21 (fX1_after_m (xFG F) v3 p2) (Or.inl rfl) q2915 q121 (Or.inl q2913) q2914 (xroom hRm (Nat.le_of_ble_eq_true rfl) (Nat.le_of_ble_eq_true rfl)) ⟨by decide, by decide⟩ n_X1_after rfl (xcat (Nat.le_of_ble_eq_true rfl)) (fun v21 => ?_)
  refine xs_a [1] F dX1_share_24 hnL rfl rfl (xk1 rfl rfl xk0) ?_
  refine xr_aload 0 (r := v21) F dX1_share_26 rfl ?_
  refine xr_VI (y := yX10_total) (As := []) (r := v21) F (hno _) dX1_share_28 (fun z => fX10_total_m (xFG F) z) (Or.inl rfl) (ci := 24) (C := RX10) (T := TX10) rfl q1642 q2515 q1640 q1641 (xroom hRm (Nat.le_of_ble_eq_true rfl) (Nat.le_of_ble_eq_true rfl)) ⟨by decide, by decide⟩ n_X10_total rfl (xcat (Nat.le_of_ble_eq_true rfl)) (fun v28 => ?_)
  refine xs_i [0, 1] F dX1_share_31 hnL rfl rfl (xk2 rfl (xrf_cat _) (xk1 rfl rfl xk0)) ?_
  refine xr_iload 0 F dX1_share_33 rfl ?_
  refine xr_if_ne 42 F dX1_share_35 rfl ?_ ?_
  · refine xr_dconst0 F dX1_share_38 ?_
    refine xr_goto 54 F dX1_share_39 rfl ?_
    exact xr_dret F dX1_share_54
  · refine xr_aload 1 (r := v21) F dX1_share_42 rfl ?_
    refine xr_gR (r := v21) (ref := "ReserveLedger$Stock") F dX1_share_44 (C := RX10) (T := TX10) (N := 4) rfl (by decide) (Or.inr ⟨_, q2022⟩) (Or.inl rfl) (fun v44 => ?_)
    refine xr_iload_n 2 F dX1_share_47 rfl ?_
    refine xr_iald (r := v44) F dX1_share_48 (fun v48 => ?_)
    refine xr_i2d F dX1_share_49 ?_
    refine xr_iload 0 F dX1_share_50 rfl ?_
    refine xr_i2d F dX1_share_52 ?_
    refine xr_ddiv F dX1_share_53 ?_
    exact xr_dret F dX1_share_54
theorem fX0_share_m {l : Launch} {D : xD} {s0 : State} {b0 : Nat} {Γ : Nat → Option Nat} (G : xG l D s0 b0 Γ) (p0 : Option Nat) (p1 : Int32) (p2 : Int32) (p3 : Int32) (p4 : Option Nat) : xMeth l D s0 Γ yX0_share (Cond.codeWith yX0_share cX0_share 6 (some .int) [(0, 11, 14, 25), (0, 11, 18, 13)]) (10) (3149) [va_rf p0, .int p1, .int p2, .int p3, va_rf p4] xeI (fX0_share p0 p1 p2 p3 p4) := by
  refine xMeth.of (lv0 := [(0, va_rf p0), (1, .int p1), (2, .int p2), (3, .int p3), (4, va_rf p4)]) G (by decide +kernel) (Or.inr ⟨_, rfl⟩) (by simp [lg_sl, xrf_cat, xct_i, xct_l, xct_d, xct_r]) (by simp [lv_args, xrf_cat, xct_i, xct_l, xct_d, xct_r, xrf_some]) (fun x F hnL hRm hmn ht e1 e2 e3 e4 => ?_)
  have htb : x.2.2.2.2.2.2.2.2.2.1.exceptionTable.toList = tableOf [(0, 11, 14, 25), (0, 11, 18, 13)] := ht.2 _ rfl
  unfold fX0_share
  refine xr_aload 4 (r := p4) F dX0_share_0 rfl ?_
  refine xr_iconst (0 : Int32) F dX0_share_2 rfl ?_
  refine xr_aload_n 0 (r := p0) F dX0_share_3 rfl ?_
  refine xr_iload_n 1 F dX0_share_4 rfl ?_
  refine xr_iload_n 2 F dX0_share_5 rfl ?_
  refine xr_iload_n 3 F dX0_share_6 rfl ?_
  refine xr_VDT (y := yX1_share) (As := [.int p1, .int p2, .int p3]) (r := p0) F dX0_share_7 (fun z => fX1_share_m (xFG F) z p1 p2 p3) (Or.inl rfl) (ci := 0) (C := RX1) (T := TX1) rfl q2949 q2946 q2947 q2948 (xroom hRm (Nat.le_of_ble_eq_true rfl) (Nat.le_of_ble_eq_true rfl)) ⟨by decide, by decide⟩ n_X1_share rfl (xcat (Nat.le_of_ble_eq_true rfl)) (fun v7 => ?_) (fun q => ?_)
  · refine xr_dast (r := p4) F dX0_share_10 ?_
    refine xr_goto 22 F dX0_share_11 rfl ?_
    refine xr_iconst (0 : Int32) F dX0_share_22 rfl ?_
    exact xr_iret F dX0_share_23
  · refine xT.sel2 ?_ ?_
    · refine xT.catch F htb (tableOf []) ⟨0, 11, 14, 25⟩ (tableOf [(0, 11, 18, 13)]) rfl rfl xps0 rfl (Or.inr ⟨by decide, _, q2481, q739⟩) ?_
      refine xs_a [] F dX0_share_14 hnL rfl rfl xk0 ?_
      refine xr_iconst (1 : Int32) F dX0_share_16 rfl ?_
      exact xr_iret F dX0_share_17
    refine xT.catch F htb (tableOf [(0, 11, 14, 25)]) ⟨0, 11, 18, 13⟩ (tableOf []) rfl rfl (xps1 (Or.inr ⟨by decide, _, 1, q2481, rfl⟩) xps0) rfl (Or.inr ⟨by decide, _, q1741, q226⟩) ?_
    refine xs_a [] F dX0_share_18 hnL rfl rfl xk0 ?_
    refine xr_iconst (2 : Int32) F dX0_share_20 rfl ?_
    exact xr_iret F dX0_share_21
theorem fX1_growth_m {l : Launch} {D : xD} {s0 : State} {b0 : Nat} {Γ : Nat → Option Nat} (G : xG l D s0 b0 Γ) (a0 : Nat) (p0 : Int32) (p1 : Int32) : xMeth l D s0 Γ yX1_growth (Cond.code yX1_growth cX1_growth 5 (some .double)) (8) (3123) [.ref a0, .int p0, .int p1] xeD (fX1_growth a0 p0 p1) := by
  refine xMeth.of (lv0 := [(0, va_rf (some a0)), (1, .int p0), (2, .int p1)]) G (by decide +kernel) (Or.inl rfl) (Nat.le_of_ble_eq_true rfl) rfl (fun x F hnL hRm hmn ht e1 e2 e3 e4 => ?_)
  have hno : ∀ pc, xNo x pc := fun pc z hz => by rw [ht.1 rfl] at hz; cases hz
  unfold fX1_growth
  refine xr_aload_n 0 (r := (some a0)) F dX1_growth_0 rfl ?_
  refine xr_iload_n 1 F dX1_growth_1 rfl ?_
  refine xr_VR (y := yX1_herd) (As := [.int p0]) (r := (some a0)) F (hno _) dX1_growth_2 (fun z => fX1_herd_m (xFG F) z p0) (Or.inl rfl) (ci := 0) (C := RX1) (T := TX1) rfl q2504 q2501 q2503 qs34 (xroom hRm (Nat.le_of_ble_eq_true rfl) (Nat.le_of_ble_eq_true rfl)) ⟨by decide, by decide⟩ n_X1_herd rfl (xcat (Nat.le_of_ble_eq_true rfl)) (fun v2 => ?_)
  refine xs_a_n [2] F dX1_growth_5 hnL rfl rfl (xk2 rfl rfl xk0) ?_
  refine xr_iload_n 1 F dX1_growth_6 rfl ?_
  refine xr_iconst (1 : Int32) F dX1_growth_7 rfl ?_
  refine xr_bipush (50 : Int32) F dX1_growth_8 rfl ?_
  refine xr_SI (y := yX1_inRange) (As := [.int p1, .int (1 : Int32), .int (50 : Int32)]) F (hno _) dX1_growth_10 (fX1_inRange_m (xFG F) p1 (1 : Int32) (50 : Int32)) (Or.inl rfl) q646 q121 (Or.inl q644) q645 (xroom hRm (Nat.le_of_ble_eq_true rfl) (Nat.le_of_ble_eq_true rfl)) ⟨by decide, by decide⟩ n_X1_inRange rfl (xcat (Nat.le_of_ble_eq_true rfl)) (fun v10 => ?_)
  refine xr_SV (y := yX1_checkArgument) (As := [.int v10]) F (hno _) dX1_growth_13 (fX1_checkArgument_m (xFG F) v10) (Or.inl rfl) q2912 q121 (Or.inl q2910) q2911 (xroom hRm (Nat.le_of_ble_eq_true rfl) (Nat.le_of_ble_eq_true rfl)) ⟨by decide, by decide⟩ n_X1_checkArgument rfl (xcat (Nat.le_of_ble_eq_true rfl)) (fun _ => ?_)
  refine xr_aload_n 0 (r := v2) F dX1_growth_16 rfl ?_
  refine xr_iload_n 1 F dX1_growth_17 rfl ?_
  refine xr_iconst (1 : Int32) F dX1_growth_18 rfl ?_
  refine xr_isub F dX1_growth_19 ?_
  refine xr_SR (y := yX1_after) (As := [va_rf v2, .int (p1 - (1 : Int32))]) F (hno _) dX1_growth_20 (fX1_after_m (xFG F) v2 (p1 - (1 : Int32))) (Or.inl rfl) q2915 q121 (Or.inl q2913) q2914 (xroom hRm (Nat.le_of_ble_eq_true rfl) (Nat.le_of_ble_eq_true rfl)) ⟨by decide, by decide⟩ n_X1_after rfl (xcat (Nat.le_of_ble_eq_true rfl)) (fun v20 => ?_)
  refine xr_VI (y := yX10_total) (As := []) (r := v20) F (hno _) dX1_growth_23 (fun z => fX10_total_m (xFG F) z) (Or.inl rfl) (ci := 24) (C := RX10) (T := TX10) rfl q1642 q2515 q1640 q1641 (xroom hRm (Nat.le_of_ble_eq_true rfl) (Nat.le_of_ble_eq_true rfl)) ⟨by decide, by decide⟩ n_X10_total rfl (xcat (Nat.le_of_ble_eq_true rfl)) (fun v23 => ?_)
  refine xs_i [0, 1] F dX1_growth_26 hnL rfl rfl (xk2 rfl (xrf_cat _) (xk1 rfl rfl xk0)) ?_
  refine xr_iload 0 F dX1_growth_28 rfl ?_
  refine xr_if_ne 37 F dX1_growth_30 rfl ?_ ?_
  · refine xr_dconst0 F dX1_growth_33 ?_
    refine xr_goto 50 F dX1_growth_34 rfl ?_
    exact xr_dret F dX1_growth_50
  · refine xr_aload_n 1 (r := v2) F dX1_growth_37 rfl ?_
    refine xr_iload_n 2 F dX1_growth_38 rfl ?_
    refine xr_SR (y := yX1_after) (As := [va_rf v2, .int p1]) F (hno _) dX1_growth_39 (fX1_after_m (xFG F) v2 p1) (Or.inl rfl) q2915 q121 (Or.inl q2913) q2914 (xroom hRm (Nat.le_of_ble_eq_true rfl) (Nat.le_of_ble_eq_true rfl)) ⟨by decide, by decide⟩ n_X1_after rfl (xcat (Nat.le_of_ble_eq_true rfl)) (fun v39 => ?_)
    refine xr_VI (y := yX10_total) (As := []) (r := v39) F (hno _) dX1_growth_42 (fun z => fX10_total_m (xFG F) z) (Or.inl rfl) (ci := 24) (C := RX10) (T := TX10) rfl q1642 q2515 q1640 q1641 (xroom hRm (Nat.le_of_ble_eq_true rfl) (Nat.le_of_ble_eq_true rfl)) ⟨by decide, by decide⟩ n_X10_total rfl (xcat (Nat.le_of_ble_eq_true rfl)) (fun v42 => ?_)
    refine xr_i2d F dX1_growth_45 ?_
    refine xr_iload 0 F dX1_growth_46 rfl ?_
    refine xr_i2d F dX1_growth_48 ?_
    refine xr_ddiv F dX1_growth_49 ?_
    exact xr_dret F dX1_growth_50
theorem fX0_growth_m {l : Launch} {D : xD} {s0 : State} {b0 : Nat} {Γ : Nat → Option Nat} (G : xG l D s0 b0 Γ) (p0 : Option Nat) (p1 : Int32) (p2 : Int32) (p3 : Option Nat) : xMeth l D s0 Γ yX0_growth (Cond.codeWith yX0_growth cX0_growth 5 (some .int) [(0, 9, 12, 25), (0, 9, 16, 13)]) (9) (3147) [va_rf p0, .int p1, .int p2, va_rf p3] xeI (fX0_growth p0 p1 p2 p3) := by
  refine xMeth.of (lv0 := [(0, va_rf p0), (1, .int p1), (2, .int p2), (3, va_rf p3)]) G (by decide +kernel) (Or.inr ⟨_, rfl⟩) (by simp [lg_sl, xrf_cat, xct_i, xct_l, xct_d, xct_r]) (by simp [lv_args, xrf_cat, xct_i, xct_l, xct_d, xct_r, xrf_some]) (fun x F hnL hRm hmn ht e1 e2 e3 e4 => ?_)
  have htb : x.2.2.2.2.2.2.2.2.2.1.exceptionTable.toList = tableOf [(0, 9, 12, 25), (0, 9, 16, 13)] := ht.2 _ rfl
  unfold fX0_growth
  refine xr_aload_n 3 (r := p3) F dX0_growth_0 rfl ?_
  refine xr_iconst (0 : Int32) F dX0_growth_1 rfl ?_
  refine xr_aload_n 0 (r := p0) F dX0_growth_2 rfl ?_
  refine xr_iload_n 1 F dX0_growth_3 rfl ?_
  refine xr_iload_n 2 F dX0_growth_4 rfl ?_
  refine xr_VDT (y := yX1_growth) (As := [.int p1, .int p2]) (r := p0) F dX0_growth_5 (fun z => fX1_growth_m (xFG F) z p1 p2) (Or.inl rfl) (ci := 0) (C := RX1) (T := TX1) rfl q2956 q2953 q2954 q2955 (xroom hRm (Nat.le_of_ble_eq_true rfl) (Nat.le_of_ble_eq_true rfl)) ⟨by decide, by decide⟩ n_X1_growth rfl (xcat (Nat.le_of_ble_eq_true rfl)) (fun v5 => ?_) (fun q => ?_)
  · refine xr_dast (r := p3) F dX0_growth_8 ?_
    refine xr_goto 20 F dX0_growth_9 rfl ?_
    refine xr_iconst (0 : Int32) F dX0_growth_20 rfl ?_
    exact xr_iret F dX0_growth_21
  · refine xT.sel2 ?_ ?_
    · refine xT.catch F htb (tableOf []) ⟨0, 9, 12, 25⟩ (tableOf [(0, 9, 16, 13)]) rfl rfl xps0 rfl (Or.inr ⟨by decide, _, q2481, q739⟩) ?_
      refine xs_a [] F dX0_growth_12 hnL rfl rfl xk0 ?_
      refine xr_iconst (1 : Int32) F dX0_growth_14 rfl ?_
      exact xr_iret F dX0_growth_15
    refine xT.catch F htb (tableOf [(0, 9, 12, 25)]) ⟨0, 9, 16, 13⟩ (tableOf []) rfl rfl (xps1 (Or.inr ⟨by decide, _, 1, q2481, rfl⟩) xps0) rfl (Or.inr ⟨by decide, _, q1741, q226⟩) ?_
    refine xs_a [] F dX0_growth_16 hnL rfl rfl xk0 ?_
    refine xr_iconst (2 : Int32) F dX0_growth_18 rfl ?_
    exact xr_iret F dX0_growth_19
theorem fX1_below_m {l : Launch} {D : xD} {s0 : State} {b0 : Nat} {Γ : Nat → Option Nat} (G : xG l D s0 b0 Γ) (a0 : Nat) (p0 : Int32) (p1 : Int32) : xMeth l D s0 Γ yX1_below (Cond.code yX1_below cX1_below 6 (some .int)) (8) (3100) [.ref a0, .int p0, .int p1] xeI (fX1_below a0 p0 p1) := by
  refine xMeth.of (lv0 := [(0, va_rf (some a0)), (1, .int p0), (2, .int p1)]) G (by decide +kernel) (Or.inl rfl) (Nat.le_of_ble_eq_true rfl) rfl (fun x F hnL hRm hmn ht e1 e2 e3 e4 => ?_)
  have hno : ∀ pc, xNo x pc := fun pc z hz => by rw [ht.1 rfl] at hz; cases hz
  unfold fX1_below
  refine xr_aload_n 0 (r := (some a0)) F dX1_below_0 rfl ?_
  refine xr_iload_n 1 F dX1_below_1 rfl ?_
  refine xr_VR (y := yX1_herd) (As := [.int p0]) (r := (some a0)) F (hno _) dX1_below_2 (fun z => fX1_herd_m (xFG F) z p0) (Or.inl rfl) (ci := 0) (C := RX1) (T := TX1) rfl q2504 q2501 q2503 qs34 (xroom hRm (Nat.le_of_ble_eq_true rfl) (Nat.le_of_ble_eq_true rfl)) ⟨by decide, by decide⟩ n_X1_herd rfl (xcat (Nat.le_of_ble_eq_true rfl)) (fun v2 => ?_)
  refine xs_a_n [2] F dX1_below_5 hnL rfl rfl (xk2 rfl rfl xk0) ?_
  refine xr_aload_n 0 (r := v2) F dX1_below_6 rfl ?_
  refine xr_SR (y := yX1_thought) (As := [va_rf v2]) F (hno _) dX1_below_7 (fX1_thought_m (xFG F) v2) (Or.inl rfl) q2918 q121 (Or.inl q2916) q2917 (xroom hRm (Nat.le_of_ble_eq_true rfl) (Nat.le_of_ble_eq_true rfl)) ⟨by decide, by decide⟩ n_X1_thought rfl (xcat (Nat.le_of_ble_eq_true rfl)) (fun v7 => ?_)
  refine xs_a [0, 1] F dX1_below_10 hnL rfl rfl (xk2 rfl (xrf_cat _) (xk1 rfl rfl xk0)) ?_
  refine xr_aload_n 1 (r := v2) F dX1_below_12 rfl ?_
  refine xr_aload 0 (r := v7) F dX1_below_13 rfl ?_
  refine xr_bipush (50 : Int32) F dX1_below_15 rfl ?_
  refine xr_iload_n 2 F dX1_below_17 rfl ?_
  refine xrN_11 p1 F hmn.2 rfl dX1_below_18 q4100 (xroom hRm (Nat.le_of_ble_eq_true rfl) (Nat.le_of_ble_eq_true rfl)) (xcat (Nat.le_of_ble_eq_true rfl)) (fun v18 => ?_)
  refine xr_SI (y := yX1_foresee) (As := [va_rf v2, va_rf v7, .int (50 : Int32), va_rf (some v18)]) F (hno _) dX1_below_23 (fX1_foresee_m (xFG F) v2 v7 (50 : Int32) (some v18)) (Or.inl rfl) q2930 q121 (Or.inl q2928) q2929 (xroom hRm (Nat.le_of_ble_eq_true rfl) (Nat.le_of_ble_eq_true rfl)) ⟨by decide, by decide⟩ n_X1_foresee rfl (xcat (Nat.le_of_ble_eq_true rfl)) (fun v23 => ?_)
  refine xs_i [0, 2] F dX1_below_26 hnL rfl rfl (xk2 rfl (xrf_cat _) (xk1 rfl rfl xk0)) ?_
  refine xr_aload 1 (r := v7) F dX1_below_28 rfl ?_
  refine xr_VI (y := yX10_total) (As := []) (r := v7) F (hno _) dX1_below_30 (fun z => fX10_total_m (xFG F) z) (Or.inl rfl) (ci := 24) (C := RX10) (T := TX10) rfl q1642 q2515 q1640 q1641 (xroom hRm (Nat.le_of_ble_eq_true rfl) (Nat.le_of_ble_eq_true rfl)) ⟨by decide, by decide⟩ n_X10_total rfl (xcat (Nat.le_of_ble_eq_true rfl)) (fun v30 => ?_)
  refine xr_iload_n 2 F dX1_below_33 rfl ?_
  refine xr_icmp_ge 42 F dX1_below_34 rfl ?_ ?_
  · refine xr_iconst (-1 : Int32) F dX1_below_42 rfl ?_
    exact xr_iret F dX1_below_43
  · refine xr_iload 0 F dX1_below_37 rfl ?_
    refine xr_goto 43 F dX1_below_39 rfl ?_
    exact xr_iret F dX1_below_43
theorem fX0_below_m {l : Launch} {D : xD} {s0 : State} {b0 : Nat} {Γ : Nat → Option Nat} (G : xG l D s0 b0 Γ) (p0 : Option Nat) (p1 : Int32) (p2 : Int32) (p3 : Option Nat) : xMeth l D s0 Γ yX0_below (Cond.codeWith yX0_below cX0_below 5 (some .int) [(0, 10, 13, 25)]) (9) (3125) [va_rf p0, .int p1, .int p2, va_rf p3] xeI (fX0_below p0 p1 p2 p3) := by
  refine xMeth.of (lv0 := [(0, va_rf p0), (1, .int p1), (2, .int p2), (3, va_rf p3)]) G (by decide +kernel) (Or.inr ⟨_, rfl⟩) (by simp [lg_sl, xrf_cat, xct_i, xct_l, xct_d, xct_r]) (by simp [lv_args, xrf_cat, xct_i, xct_l, xct_d, xct_r, xrf_some]) (fun x F hnL hRm hmn ht e1 e2 e3 e4 => ?_)
  have htb : x.2.2.2.2.2.2.2.2.2.1.exceptionTable.toList = tableOf [(0, 10, 13, 25)] := ht.2 _ rfl
  unfold fX0_below
  refine xr_aload_n 3 (r := p3) F dX0_below_0 rfl ?_
  refine xr_iconst (0 : Int32) F dX0_below_1 rfl ?_
  refine xr_aload_n 0 (r := p0) F dX0_below_2 rfl ?_
  refine xr_iload_n 1 F dX0_below_3 rfl ?_
  refine xr_iload_n 2 F dX0_below_4 rfl ?_
  refine xr_VIT (y := yX1_below) (As := [.int p1, .int p2]) (r := p0) F dX0_below_5 (fun z => fX1_below_m (xFG F) z p1 p2) (Or.inl rfl) (ci := 0) (C := RX1) (T := TX1) rfl q2963 q2960 q2961 q2962 (xroom hRm (Nat.le_of_ble_eq_true rfl) (Nat.le_of_ble_eq_true rfl)) ⟨by decide, by decide⟩ n_X1_below rfl (xcat (Nat.le_of_ble_eq_true rfl)) (fun v5 => ?_) (fun q => ?_)
  · refine xr_i2l F dX0_below_8 ?_
    refine xr_last (r := p3) F dX0_below_9 ?_
    refine xr_goto 17 F dX0_below_10 rfl ?_
    refine xr_iconst (0 : Int32) F dX0_below_17 rfl ?_
    exact xr_iret F dX0_below_18
  · refine xT.catch F htb (tableOf []) ⟨0, 10, 13, 25⟩ (tableOf []) rfl rfl xps0 rfl (Or.inr ⟨by decide, _, q2481, q739⟩) ?_
    refine xs_a [] F dX0_below_13 hnL rfl rfl xk0 ?_
    refine xr_iconst (1 : Int32) F dX0_below_15 rfl ?_
    exact xr_iret F dX0_below_16
theorem fX1_works_m {l : Launch} {D : xD} {s0 : State} {b0 : Nat} {Γ : Nat → Option Nat} (G : xG l D s0 b0 Γ) (p0 : Option Nat) (p1 : Option Nat) (p2 : Int32) (p3 : Int32) (p4 : Int32) : xMeth l D s0 Γ yX1_works (Cond.code yX1_works cX1_works 6 (some .boolean)) (6) (3100) [va_rf p0, va_rf p1, .int p2, .int p3, .int p4] xeI (fX1_works p0 p1 p2 p3 p4) := by
  refine xMeth.of (lv0 := [(0, va_rf p0), (1, va_rf p1), (2, .int p2), (3, .int p3), (4, .int p4)]) G (by decide +kernel) (Or.inl rfl) (by simp [lg_sl, xrf_cat, xct_i, xct_l, xct_d, xct_r]) (by simp [lv_args, xrf_cat, xct_i, xct_l, xct_d, xct_r, xrf_some]) (fun x F hnL hRm hmn ht e1 e2 e3 e4 => ?_)
  have hno : ∀ pc, xNo x pc := fun pc z hz => by rw [ht.1 rfl] at hz; cases hz
  unfold fX1_works
  refine xr_aload_n 1 (r := p1) F dX1_works_0 rfl ?_
  refine xr_aload_n 0 (r := p0) F dX1_works_1 rfl ?_
  refine xr_gR (r := p0) (ref := "ReserveLedger$Herd") F dX1_works_2 (C := RX6) (T := TX6) (N := 8) rfl (by decide) (Or.inr ⟨_, q2043⟩) (Or.inl rfl) (fun v2 => ?_)
  refine xr_VV (y := yX10_become) (As := [va_rf v2]) (r := p1) F (hno _) dX1_works_5 (fun z => fX10_become_m (xFG F) z v2) (Or.inl rfl) (ci := 24) (C := RX10) (T := TX10) rfl q2924 q2921 q2922 q2923 (xroom hRm (Nat.le_of_ble_eq_true rfl) (Nat.le_of_ble_eq_true rfl)) ⟨by decide, by decide⟩ n_X10_become rfl (xcat (Nat.le_of_ble_eq_true rfl)) (fun _ => ?_)
  refine xr_aload_n 0 (r := p0) F dX1_works_8 rfl ?_
  refine xr_aload_n 1 (r := p1) F dX1_works_9 rfl ?_
  refine xr_iload_n 3 F dX1_works_10 rfl ?_
  refine xr_iload_n 2 F dX1_works_11 rfl ?_
  refine xr_iload 4 F dX1_works_12 rfl ?_
  refine xrN_12 p2 p4 F hmn.2 rfl dX1_works_14 q4100 (xroom hRm (Nat.le_of_ble_eq_true rfl) (Nat.le_of_ble_eq_true rfl)) (xcat (Nat.le_of_ble_eq_true rfl)) (fun v14 => ?_)
  refine xr_SI (y := yX1_foresee) (As := [va_rf p0, va_rf p1, .int p3, va_rf (some v14)]) F (hno _) dX1_works_19 (fX1_foresee_m (xFG F) p0 p1 p3 (some v14)) (Or.inl rfl) q2930 q121 (Or.inl q2928) q2929 (xroom hRm (Nat.le_of_ble_eq_true rfl) (Nat.le_of_ble_eq_true rfl)) ⟨by decide, by decide⟩ n_X1_foresee rfl (xcat (Nat.le_of_ble_eq_true rfl)) (fun v19 => ?_)
  refine xs_i [1, 3, 4] F dX1_works_22 hnL rfl rfl (xk1 rfl rfl (xk1 rfl rfl (xk2 rfl rfl xk0))) ?_
  refine xr_iload 0 F dX1_works_24 rfl ?_
  refine xr_iload_n 2 F dX1_works_26 rfl ?_
  refine xr_icmp_ne 43 F dX1_works_27 rfl ?_ ?_
  · refine xr_aload_n 1 (r := p1) F dX1_works_30 rfl ?_
    refine xr_VI (y := yX10_total) (As := []) (r := p1) F (hno _) dX1_works_31 (fun z => fX10_total_m (xFG F) z) (Or.inl rfl) (ci := 24) (C := RX10) (T := TX10) rfl q1642 q2515 q1640 q1641 (xroom hRm (Nat.le_of_ble_eq_true rfl) (Nat.le_of_ble_eq_true rfl)) ⟨by decide, by decide⟩ n_X10_total rfl (xcat (Nat.le_of_ble_eq_true rfl)) (fun v31 => ?_)
    refine xr_iload 3 F dX1_works_34 rfl ?_
    refine xr_icmp_lt 43 F dX1_works_36 rfl ?_ ?_
    · refine xr_iconst (0 : Int32) F dX1_works_43 rfl ?_
      exact xr_zret F dX1_works_44 rfl
    · refine xr_iconst (1 : Int32) F dX1_works_39 rfl ?_
      refine xr_goto 44 F dX1_works_40 rfl ?_
      exact xr_zret F dX1_works_44 rfl
  · refine xr_iconst (0 : Int32) F dX1_works_43 rfl ?_
    exact xr_zret F dX1_works_44 rfl
theorem fX1_steadyTake_p109_ok {x : xC} (F : xF x RX1 cX1_steadyTake (some .int)) (hnL : xnL x = 9) (hRm : ∃ dc ds, x.2.2.2.1 = { frames := 8, cells := dc, slots := ds, locals := 3125 }) (hno : ∀ pc, xNo x pc) (hmn : xmn x = "steadyTake" ∧ xmy x yX1_steadyTake) {k66 : Int32 → Int32 → Option Nat → Option Nat → Int32 → Int32 → xM (Int32)} (hk66 : ∀ (l2 : Int32) (l3 : Int32) (l4 : Option Nat) (l5 : Option Nat) (l6 : Int32) (l7 : Int32), xI x xeI 66 [(2, .int l2), (3, .int l3), (4, va_rf l4), (5, va_rf l5), (6, .int l6), (7, .int l7)] [] (k66 l2 l3 l4 l5 l6 l7)) (l2 : Int32) (l3 : Int32) (l4 : Option Nat) (l5 : Option Nat) (l6 : Int32) (l7 : Int32) : xI x xeI 109 [(2, .int l2), (3, .int l3), (4, va_rf l4), (5, va_rf l5), (6, .int l6), (7, .int l7)] [] (fX1_steadyTake_p109 k66 l2 l3 l4 l5 l6 l7) := by
  unfold fX1_steadyTake_p109
  refine xr_goto 66 F dX1_steadyTake_109 rfl ?_
  exact xI.sub [0, 1, 2, 3, 4, 5] rfl (hk66 l2 l3 l4 l5 l6 l7)
theorem fX1_steadyTake_p66_ok {x : xC} (F : xF x RX1 cX1_steadyTake (some .int)) (hnL : xnL x = 9) (hRm : ∃ dc ds, x.2.2.2.1 = { frames := 8, cells := dc, slots := ds, locals := 3125 }) (hno : ∀ pc, xNo x pc) (hmn : xmn x = "steadyTake" ∧ xmy x yX1_steadyTake) : ∀ (n : Nat) (l2 : Int32) (l3 : Int32) (l4 : Option Nat) (l5 : Option Nat) (l6 : Int32) (l7 : Int32), xI x xeI 66 [(2, .int l2), (3, .int l3), (4, va_rf l4), (5, va_rf l5), (6, .int l6), (7, .int l7)] [] (fX1_steadyTake_p66 n l2 l3 l4 l5 l6 l7) := by
  intro n
  induction n with
  | zero => intro l2 l3 l4 l5 l6 l7; exact xI.stuck
  | succ n ih =>
    intro l2 l3 l4 l5 l6 l7
    unfold fX1_steadyTake_p66
    refine xr_iload 5 F dX1_steadyTake_66 rfl ?_
    refine xr_iload 4 F dX1_steadyTake_68 rfl ?_
    refine xr_iconst (1 : Int32) F dX1_steadyTake_70 rfl ?_
    refine xr_iadd F dX1_steadyTake_71 ?_
    refine xr_icmp_le 112 F dX1_steadyTake_72 rfl ?_ ?_
    · refine xr_iload 4 F dX1_steadyTake_112 rfl ?_
      exact xr_iret F dX1_steadyTake_114
    · refine xr_iload 4 F dX1_steadyTake_75 rfl ?_
      refine xr_iload 5 F dX1_steadyTake_77 rfl ?_
      refine xr_iadd F dX1_steadyTake_79 ?_
      refine xr_iconst (2 : Int32) F dX1_steadyTake_80 rfl ?_
      refine xr_idiv F dX1_steadyTake_81 ?_
      refine xr_letI (fun x8_82 => ?_)
      refine xs_i [0, 1, 2, 3, 4, 5] F dX1_steadyTake_82 hnL rfl rfl (xk1 rfl rfl (xk1 rfl rfl (xk1 rfl rfl (xk1 rfl rfl (xk1 rfl rfl (xk2 rfl rfl xk0)))))) ?_
      refine xr_aload 3 (r := l4) F dX1_steadyTake_84 rfl ?_
      refine xr_aload 4 (r := l5) F dX1_steadyTake_86 rfl ?_
      refine xr_iload 0 F dX1_steadyTake_88 rfl ?_
      refine xr_iload_n 1 F dX1_steadyTake_90 rfl ?_
      refine xr_iload_n 2 F dX1_steadyTake_91 rfl ?_
      refine xr_SI (y := yX1_works) (As := [va_rf l4, va_rf l5, .int x8_82, .int l2, .int l3]) F (hno _) dX1_steadyTake_92 (fX1_works_m (xFG F) l4 l5 x8_82 l2 l3) (Or.inl rfl) q2975 q121 (Or.inl q2973) q2974 (xroom hRm (Nat.le_of_ble_eq_true rfl) (Nat.le_of_ble_eq_true rfl)) ⟨by decide, by decide⟩ n_X1_works rfl (xcat (Nat.le_of_ble_eq_true rfl)) (fun v92 => ?_)
      refine xr_if_eq 105 F dX1_steadyTake_95 rfl ?_ ?_
      · refine xr_iload 0 F dX1_steadyTake_105 rfl ?_
        refine xs_i [1, 2, 3, 4, 5] F dX1_steadyTake_107 hnL rfl rfl (xk1 rfl rfl (xk1 rfl rfl (xk1 rfl rfl (xk1 rfl rfl (xk2 rfl rfl xk0))))) ?_
        exact xI.sub [1, 2, 3, 4, 5, 0] rfl (fX1_steadyTake_p109_ok F hnL hRm hno hmn ih l2 l3 l4 l5 l6 x8_82)
      · refine xr_iload 0 F dX1_steadyTake_98 rfl ?_
        refine xs_i [1, 2, 3, 4, 6] F dX1_steadyTake_100 hnL rfl rfl (xk1 rfl rfl (xk1 rfl rfl (xk1 rfl rfl (xk2 rfl (xrf_cat _) (xk1 rfl rfl xk0))))) ?_
        refine xr_goto 109 F dX1_steadyTake_102 rfl ?_
        exact xI.sub [1, 2, 3, 4, 0, 5] rfl (fX1_steadyTake_p109_ok F hnL hRm hno hmn ih l2 l3 l4 l5 x8_82 l7)
theorem fX1_steadyTake_p26_ok {x : xC} (F : xF x RX1 cX1_steadyTake (some .int)) (hnL : xnL x = 9) (hRm : ∃ dc ds, x.2.2.2.1 = { frames := 8, cells := dc, slots := ds, locals := 3125 }) (hno : ∀ pc, xNo x pc) (hmn : xmn x = "steadyTake" ∧ xmy x yX1_steadyTake) (l2 : Int32) (l3 : Int32) (l4 : Option Nat) (s0 : Int32) : xI x xeI 26 [(2, .int l2), (3, .int l3), (4, va_rf l4)] [.int s0] (fX1_steadyTake_p26 l2 l3 l4 s0) := by
  unfold fX1_steadyTake_p26
  refine xr_SV (y := yX1_checkArgument) (As := [.int s0]) F (hno _) dX1_steadyTake_26 (fX1_checkArgument_m (xFG F) s0) (Or.inl rfl) q2912 q121 (Or.inl q2910) q2911 (xroom hRm (Nat.le_of_ble_eq_true rfl) (Nat.le_of_ble_eq_true rfl)) ⟨by decide, by decide⟩ n_X1_checkArgument rfl (xcat (Nat.le_of_ble_eq_true rfl)) (fun _ => ?_)
  refine xr_aload 2 (r := l4) F dX1_steadyTake_29 rfl ?_
  refine xr_SR (y := yX1_thought) (As := [va_rf l4]) F (hno _) dX1_steadyTake_31 (fX1_thought_m (xFG F) l4) (Or.inl rfl) q2918 q121 (Or.inl q2916) q2917 (xroom hRm (Nat.le_of_ble_eq_true rfl) (Nat.le_of_ble_eq_true rfl)) ⟨by decide, by decide⟩ n_X1_thought rfl (xcat (Nat.le_of_ble_eq_true rfl)) (fun v31 => ?_)
  refine xs_a [0, 1, 2] F dX1_steadyTake_34 hnL rfl rfl (xk1 rfl rfl (xk1 rfl rfl (xk2 rfl (xrf_cat _) xk0))) ?_
  refine xr_aload 3 (r := l4) F dX1_steadyTake_36 rfl ?_
  refine xr_aload 0 (r := v31) F dX1_steadyTake_38 rfl ?_
  refine xr_iconst (0 : Int32) F dX1_steadyTake_40 rfl ?_
  refine xr_iload_n 1 F dX1_steadyTake_41 rfl ?_
  refine xr_iload_n 2 F dX1_steadyTake_42 rfl ?_
  refine xr_SI (y := yX1_works) (As := [va_rf l4, va_rf v31, .int (0 : Int32), .int l2, .int l3]) F (hno _) dX1_steadyTake_43 (fX1_works_m (xFG F) l4 v31 (0 : Int32) l2 l3) (Or.inl rfl) q2975 q121 (Or.inl q2973) q2974 (xroom hRm (Nat.le_of_ble_eq_true rfl) (Nat.le_of_ble_eq_true rfl)) ⟨by decide, by decide⟩ n_X1_works rfl (xcat (Nat.le_of_ble_eq_true rfl)) (fun v43 => ?_)
  refine xr_if_ne 51 F dX1_steadyTake_46 rfl ?_ ?_
  · refine xr_iconst (-1 : Int32) F dX1_steadyTake_49 rfl ?_
    exact xr_iret F dX1_steadyTake_50
  · refine xr_iconst (0 : Int32) F dX1_steadyTake_51 rfl ?_
    refine xr_letI (fun x6_52 => ?_)
    refine xs_i [0, 1, 2, 3] F dX1_steadyTake_52 hnL rfl rfl (xk2 rfl (xrf_cat _) (xk1 rfl rfl (xk1 rfl rfl (xk1 rfl rfl xk0)))) ?_
    refine xr_aload 4 (r := l4) F dX1_steadyTake_54 rfl ?_
    refine xr_gR (r := l4) (ref := "ReserveLedger$Herd") F dX1_steadyTake_56 (C := RX6) (T := TX6) (N := 8) rfl (by decide) (Or.inr ⟨_, q2043⟩) (Or.inl rfl) (fun v56 => ?_)
    refine xr_VI (y := yX10_adults) (As := []) (r := v56) F (hno _) dX1_steadyTake_59 (fun z => fX10_adults_m (xFG F) z) (Or.inl rfl) (ci := 24) (C := RX10) (T := TX10) rfl q2319 q2516 q2317 q2318 (xroom hRm (Nat.le_of_ble_eq_true rfl) (Nat.le_of_ble_eq_true rfl)) ⟨by decide, by decide⟩ n_X10_adults rfl (xcat (Nat.le_of_ble_eq_true rfl)) (fun v59 => ?_)
    refine xr_iconst (1 : Int32) F dX1_steadyTake_62 rfl ?_
    refine xr_iadd F dX1_steadyTake_63 ?_
    refine xr_letI (fun x7_64 => ?_)
    refine xs_i [0, 1, 2, 3, 4] F dX1_steadyTake_64 hnL rfl rfl (xk2 rfl rfl (xk1 rfl rfl (xk1 rfl rfl (xk1 rfl rfl (xk1 rfl rfl xk0))))) ?_
    exact xI.sub [3, 4, 5, 2, 1, 0] rfl (fX1_steadyTake_p66_ok F hnL hRm hno hmn xFU l2 l3 l4 v31 x6_52 x7_64)
theorem fX1_steadyTake_p25_ok {x : xC} (F : xF x RX1 cX1_steadyTake (some .int)) (hnL : xnL x = 9) (hRm : ∃ dc ds, x.2.2.2.1 = { frames := 8, cells := dc, slots := ds, locals := 3125 }) (hno : ∀ pc, xNo x pc) (hmn : xmn x = "steadyTake" ∧ xmy x yX1_steadyTake) (l2 : Int32) (l3 : Int32) (l4 : Option Nat) : xI x xeI 25 [(2, .int l2), (3, .int l3), (4, va_rf l4)] [] (fX1_steadyTake_p25 l2 l3 l4) := by
  unfold fX1_steadyTake_p25
  refine xr_iconst (0 : Int32) F dX1_steadyTake_25 rfl ?_
  exact xI.sub [0, 1, 2] rfl (fX1_steadyTake_p26_ok F hnL hRm hno hmn l2 l3 l4 (0 : Int32))
theorem fX1_steadyTake_m {l : Launch} {D : xD} {s0 : State} {b0 : Nat} {Γ : Nat → Option Nat} (G : xG l D s0 b0 Γ) (a0 : Nat) (p0 : Int32) (p1 : Int32) (p2 : Int32) : xMeth l D s0 Γ yX1_steadyTake (Cond.code yX1_steadyTake cX1_steadyTake 9 (some .int)) (8) (3125) [.ref a0, .int p0, .int p1, .int p2] xeI (fX1_steadyTake a0 p0 p1 p2) := by
  refine xMeth.of (lv0 := [(0, va_rf (some a0)), (1, .int p0), (2, .int p1), (3, .int p2)]) G (by decide +kernel) (Or.inl rfl) (Nat.le_of_ble_eq_true rfl) rfl (fun x F hnL hRm hmn ht e1 e2 e3 e4 => ?_)
  have hno : ∀ pc, xNo x pc := fun pc z hz => by rw [ht.1 rfl] at hz; cases hz
  unfold fX1_steadyTake
  refine xr_aload_n 0 (r := (some a0)) F dX1_steadyTake_0 rfl ?_
  refine xr_iload_n 1 F dX1_steadyTake_1 rfl ?_
  refine xr_VR (y := yX1_herd) (As := [.int p0]) (r := (some a0)) F (hno _) dX1_steadyTake_2 (fun z => fX1_herd_m (xFG F) z p0) (Or.inl rfl) (ci := 0) (C := RX1) (T := TX1) rfl q2504 q2501 q2503 qs34 (xroom hRm (Nat.le_of_ble_eq_true rfl) (Nat.le_of_ble_eq_true rfl)) ⟨by decide, by decide⟩ n_X1_herd rfl (xcat (Nat.le_of_ble_eq_true rfl)) (fun v2 => ?_)
  refine xs_a [2, 3] F dX1_steadyTake_5 hnL rfl rfl (xk1 rfl rfl (xk2 rfl rfl xk0)) ?_
  refine xr_iload_n 1 F dX1_steadyTake_7 rfl ?_
  refine xr_iconst (1 : Int32) F dX1_steadyTake_8 rfl ?_
  refine xr_bipush (30 : Int32) F dX1_steadyTake_9 rfl ?_
  refine xr_SI (y := yX1_inRange) (As := [.int p1, .int (1 : Int32), .int (30 : Int32)]) F (hno _) dX1_steadyTake_11 (fX1_inRange_m (xFG F) p1 (1 : Int32) (30 : Int32)) (Or.inl rfl) q646 q121 (Or.inl q644) q645 (xroom hRm (Nat.le_of_ble_eq_true rfl) (Nat.le_of_ble_eq_true rfl)) ⟨by decide, by decide⟩ n_X1_inRange rfl (xcat (Nat.le_of_ble_eq_true rfl)) (fun v11 => ?_)
  refine xr_if_eq 25 F dX1_steadyTake_14 rfl ?_ ?_
  · exact xI.sub [1, 2, 0] rfl (fX1_steadyTake_p25_ok F hnL hRm hno hmn p1 p2 v2)
  · refine xr_iload_n 2 F dX1_steadyTake_17 rfl ?_
    refine xr_if_lt 25 F dX1_steadyTake_18 rfl ?_ ?_
    · exact xI.sub [1, 2, 0] rfl (fX1_steadyTake_p25_ok F hnL hRm hno hmn p1 p2 v2)
    · refine xr_iconst (1 : Int32) F dX1_steadyTake_21 rfl ?_
      refine xr_goto 26 F dX1_steadyTake_22 rfl ?_
      exact xI.sub [1, 2, 0] rfl (fX1_steadyTake_p26_ok F hnL hRm hno hmn p1 p2 v2 (1 : Int32))
theorem fX0_steadyTake_m {l : Launch} {D : xD} {s0 : State} {b0 : Nat} {Γ : Nat → Option Nat} (G : xG l D s0 b0 Γ) (p0 : Option Nat) (p1 : Int32) (p2 : Int32) (p3 : Int32) (p4 : Option Nat) : xMeth l D s0 Γ yX0_steadyTake (Cond.codeWith yX0_steadyTake cX0_steadyTake 6 (some .int) [(0, 12, 15, 25), (0, 12, 19, 13)]) (9) (3153) [va_rf p0, .int p1, .int p2, .int p3, va_rf p4] xeI (fX0_steadyTake p0 p1 p2 p3 p4) := by
  refine xMeth.of (lv0 := [(0, va_rf p0), (1, .int p1), (2, .int p2), (3, .int p3), (4, va_rf p4)]) G (by decide +kernel) (Or.inr ⟨_, rfl⟩) (by simp [lg_sl, xrf_cat, xct_i, xct_l, xct_d, xct_r]) (by simp [lv_args, xrf_cat, xct_i, xct_l, xct_d, xct_r, xrf_some]) (fun x F hnL hRm hmn ht e1 e2 e3 e4 => ?_)
  have htb : x.2.2.2.2.2.2.2.2.2.1.exceptionTable.toList = tableOf [(0, 12, 15, 25), (0, 12, 19, 13)] := ht.2 _ rfl
  unfold fX0_steadyTake
  refine xr_aload 4 (r := p4) F dX0_steadyTake_0 rfl ?_
  refine xr_iconst (0 : Int32) F dX0_steadyTake_2 rfl ?_
  refine xr_aload_n 0 (r := p0) F dX0_steadyTake_3 rfl ?_
  refine xr_iload_n 1 F dX0_steadyTake_4 rfl ?_
  refine xr_iload_n 2 F dX0_steadyTake_5 rfl ?_
  refine xr_iload_n 3 F dX0_steadyTake_6 rfl ?_
  refine xr_VIT (y := yX1_steadyTake) (As := [.int p1, .int p2, .int p3]) (r := p0) F dX0_steadyTake_7 (fun z => fX1_steadyTake_m (xFG F) z p1 p2 p3) (Or.inl rfl) (ci := 0) (C := RX1) (T := TX1) rfl q2972 q2969 q2970 q2971 (xroom hRm (Nat.le_of_ble_eq_true rfl) (Nat.le_of_ble_eq_true rfl)) ⟨by decide, by decide⟩ n_X1_steadyTake rfl (xcat (Nat.le_of_ble_eq_true rfl)) (fun v7 => ?_) (fun q => ?_)
  · refine xr_i2l F dX0_steadyTake_10 ?_
    refine xr_last (r := p4) F dX0_steadyTake_11 ?_
    refine xr_goto 23 F dX0_steadyTake_12 rfl ?_
    refine xr_iconst (0 : Int32) F dX0_steadyTake_23 rfl ?_
    exact xr_iret F dX0_steadyTake_24
  · refine xT.sel2 ?_ ?_
    · refine xT.catch F htb (tableOf []) ⟨0, 12, 15, 25⟩ (tableOf [(0, 12, 19, 13)]) rfl rfl xps0 rfl (Or.inr ⟨by decide, _, q2481, q739⟩) ?_
      refine xs_a [] F dX0_steadyTake_15 hnL rfl rfl xk0 ?_
      refine xr_iconst (1 : Int32) F dX0_steadyTake_17 rfl ?_
      exact xr_iret F dX0_steadyTake_18
    refine xT.catch F htb (tableOf [(0, 12, 15, 25)]) ⟨0, 12, 19, 13⟩ (tableOf []) rfl rfl (xps1 (Or.inr ⟨by decide, _, 1, q2481, rfl⟩) xps0) rfl (Or.inr ⟨by decide, _, q1741, q226⟩) ?_
    refine xs_a [] F dX0_steadyTake_19 hnL rfl rfl xk0 ?_
    refine xr_iconst (2 : Int32) F dX0_steadyTake_21 rfl ?_
    exact xr_iret F dX0_steadyTake_22
theorem fX6_lose_p21_ok {x : xC} (F : xF x RX6 cX6_lose none) (hnL : xnL x = 3) (hRm : ∃ dc ds, x.2.2.2.1 = { frames := 1, cells := dc, slots := ds, locals := 12 }) (hno : ∀ pc, xNo x pc) (hmn : xmn x = "lose" ∧ xmy x yX6_lose) (s0 : Int32) (s1 : Nat) : xI x xeV 21 [] [.int s0, va_rf (some s1)] (fX6_lose_p21 s0 s1) := by
  unfold fX6_lose_p21
  refine xr_put (r := (some s1)) (ref := "ReserveLedger$Herd") F dX6_lose_21 xk_19 (by decide) (Or.inl q2048) (Or.inl rfl) (Or.inl rfl) ⟨rfl, rfl⟩ ?_
  exact xr_vret F dX6_lose_24
theorem fX6_lose_m {l : Launch} {D : xD} {s0 : State} {b0 : Nat} {Γ : Nat → Option Nat} (G : xG l D s0 b0 Γ) (a0 : Nat) (p0 : Int32) (p1 : Int32) : xMeth l D s0 Γ yX6_lose (Cond.code yX6_lose cX6_lose 3 none) (1) (12) [.ref a0, .int p0, .int p1] xeV (fX6_lose a0 p0 p1) := by
  refine xMeth.of (lv0 := [(0, va_rf (some a0)), (1, .int p0), (2, .int p1)]) G (by decide +kernel) (Or.inl rfl) (Nat.le_of_ble_eq_true rfl) rfl (fun x F hnL hRm hmn ht e1 e2 e3 e4 => ?_)
  have hno : ∀ pc, xNo x pc := fun pc z hz => by rw [ht.1 rfl] at hz; cases hz
  unfold fX6_lose
  refine xr_aload_n 0 (r := (some a0)) F dX6_lose_0 rfl ?_
  refine xr_iload_n 1 F dX6_lose_1 rfl ?_
  refine xr_if_ne 9 F dX6_lose_2 rfl ?_ ?_
  · refine xr_iconst (0 : Int32) F dX6_lose_5 rfl ?_
    refine xr_goto 21 F dX6_lose_6 rfl ?_
    exact xI.sub [] rfl (fX6_lose_p21_ok F hnL hRm hno hmn (0 : Int32) a0)
  · refine xr_aload_n 0 (r := (some a0)) F dX6_lose_9 rfl ?_
    refine xr_gI (r := (some a0)) (ref := "ReserveLedger$Herd") F dX6_lose_10 (C := RX6) (T := TX6) (N := 8) rfl (by decide) (Or.inl q2048) (Or.inl rfl) (fun v10 => ?_)
    refine xr_i2l F dX6_lose_13 ?_
    refine xr_iload_n 2 F dX6_lose_14 rfl ?_
    refine xr_i2l F dX6_lose_15 ?_
    refine xr_lmul F dX6_lose_16 ?_
    refine xr_iload_n 1 F dX6_lose_17 rfl ?_
    refine xr_i2l F dX6_lose_18 ?_
    refine xr_ldiv F dX6_lose_19 ?_
    refine xr_l2i F dX6_lose_20 ?_
    exact xI.sub [] rfl (fX6_lose_p21_ok F hnL hRm hno hmn (((v10.toInt64 * p1.toInt64) / p0.toInt64).toInt32) a0)
theorem fJ29_parentOf_m {l : Launch} {D : xD} {s0 : State} {b0 : Nat} {Γ : Nat → Option Nat} (G : xG l D s0 b0 Γ) (p0 : Option Nat) : xMeth l D s0 Γ yJ29_parentOf (Cond.code yJ29_parentOf cJ29_parentOf 1 (some (.object "java/util/TreeMap$Entry"))) (1) (12) [va_rf p0] xeR (fJ29_parentOf p0) := by
  refine xMeth.of (lv0 := [(0, va_rf p0)]) G (by decide +kernel) (Or.inl rfl) (by simp [lg_sl, xrf_cat, xct_i, xct_l, xct_d, xct_r]) (by simp [lv_args, xrf_cat, xct_i, xct_l, xct_d, xct_r, xrf_some]) (fun x F hnL hRm hmn ht e1 e2 e3 e4 => ?_)
  have hno : ∀ pc, xNo x pc := fun pc z hz => by rw [ht.1 rfl] at hz; cases hz
  unfold fJ29_parentOf
  refine xr_aload_n 0 (r := p0) F dJ29_parentOf_0 rfl ?_
  refine xr_ifnonnull 8 F dJ29_parentOf_1 rfl ?_ ?_
  · refine xr_null F dJ29_parentOf_4 ?_
    refine xr_goto 12 F dJ29_parentOf_5 rfl ?_
    exact xr_aret (v := none) F dJ29_parentOf_12 (Or.inl ⟨_, rfl⟩)
  · refine xr_aload_n 0 (r := p0) F dJ29_parentOf_8 rfl ?_
    refine xr_gR (r := p0) (ref := "java/util/TreeMap$Entry") F dJ29_parentOf_9 (C := RJ47) (T := TJ47) (N := 6) rfl (by decide) (Or.inl q3167) (Or.inl rfl) (fun v9 => ?_)
    exact xr_aret (v := v9) F dJ29_parentOf_12 (Or.inl ⟨_, rfl⟩)
theorem fJ29_setColor_m {l : Launch} {D : xD} {s0 : State} {b0 : Nat} {Γ : Nat → Option Nat} (G : xG l D s0 b0 Γ) (p0 : Option Nat) (p1 : Int32) : xMeth l D s0 Γ yJ29_setColor (Cond.code yJ29_setColor cJ29_setColor 2 none) (1) (12) [va_rf p0, .int p1] xeV (fJ29_setColor p0 p1) := by
  refine xMeth.of (lv0 := [(0, va_rf p0), (1, .int p1)]) G (by decide +kernel) (Or.inl rfl) (by simp [lg_sl, xrf_cat, xct_i, xct_l, xct_d, xct_r]) (by simp [lv_args, xrf_cat, xct_i, xct_l, xct_d, xct_r, xrf_some]) (fun x F hnL hRm hmn ht e1 e2 e3 e4 => ?_)
  have hno : ∀ pc, xNo x pc := fun pc z hz => by rw [ht.1 rfl] at hz; cases hz
  unfold fJ29_setColor
  refine xr_aload_n 0 (r := p0) F dJ29_setColor_0 rfl ?_
  refine xr_ifnull 9 F dJ29_setColor_1 rfl ?_ ?_
  · exact xr_vret F dJ29_setColor_9
  · refine xr_aload_n 0 (r := p0) F dJ29_setColor_4 rfl ?_
    refine xr_iload_n 1 F dJ29_setColor_5 rfl ?_
    refine xr_pN (r := p0) (ref := "java/util/TreeMap$Entry") F dJ29_setColor_6 xk_36 (by decide) (Or.inl q3169) (Or.inl rfl) (Or.inl rfl) ?_
    exact xr_vret F dJ29_setColor_9
theorem fJ29_rotateRight_p85_ok {x : xC} (F : xF x RJ29 cJ29_rotateRight none) (hnL : xnL x = 3) (hRm : ∃ dc ds, x.2.2.2.1 = { frames := 1, cells := dc, slots := ds, locals := 12 }) (hno : ∀ pc, xNo x pc) (hmn : xmn x = "rotateRight" ∧ xmy x yJ29_rotateRight) (l1 : Option Nat) (l2 : Option Nat) : xI x xeV 85 [(1, va_rf l1), (2, va_rf l2)] [] (fJ29_rotateRight_p85 l1 l2) := by
  unfold fJ29_rotateRight_p85
  refine xr_aload_n 1 (r := l2) F dJ29_rotateRight_85 rfl ?_
  refine xr_aload_n 0 (r := l1) F dJ29_rotateRight_86 rfl ?_
  refine xr_put (r := l2) (ref := "java/util/TreeMap$Entry") F dJ29_rotateRight_87 xk_36 (by decide) (Or.inl q3165) (Or.inl rfl) (Or.inl rfl) (xr_rf _ _) ?_
  refine xr_aload_n 0 (r := l1) F dJ29_rotateRight_90 rfl ?_
  refine xr_aload_n 1 (r := l2) F dJ29_rotateRight_91 rfl ?_
  refine xr_put (r := l1) (ref := "java/util/TreeMap$Entry") F dJ29_rotateRight_92 xk_36 (by decide) (Or.inl q3167) (Or.inl rfl) (Or.inl rfl) (xr_rf _ _) ?_
  exact xr_vret F dJ29_rotateRight_95
theorem fJ29_rotateRight_p32_ok {x : xC} (F : xF x RJ29 cJ29_rotateRight none) (hnL : xnL x = 3) (hRm : ∃ dc ds, x.2.2.2.1 = { frames := 1, cells := dc, slots := ds, locals := 12 }) (hno : ∀ pc, xNo x pc) (hmn : xmn x = "rotateRight" ∧ xmy x yJ29_rotateRight) (l0 : Nat) (l1 : Option Nat) (l2 : Option Nat) : xI x xeV 32 [(0, va_rf (some l0)), (1, va_rf l1), (2, va_rf l2)] [] (fJ29_rotateRight_p32 l0 l1 l2) := by
  unfold fJ29_rotateRight_p32
  refine xr_aload_n 2 (r := l2) F dJ29_rotateRight_32 rfl ?_
  refine xr_aload_n 1 (r := l1) F dJ29_rotateRight_33 rfl ?_
  refine xr_gR (r := l1) (ref := "java/util/TreeMap$Entry") F dJ29_rotateRight_34 (C := RJ47) (T := TJ47) (N := 6) rfl (by decide) (Or.inl q3167) (Or.inl rfl) (fun v34 => ?_)
  refine xr_put (r := l2) (ref := "java/util/TreeMap$Entry") F dJ29_rotateRight_37 xk_36 (by decide) (Or.inl q3167) (Or.inl rfl) (Or.inl rfl) (xr_rf _ _) ?_
  refine xr_aload_n 1 (r := l1) F dJ29_rotateRight_40 rfl ?_
  refine xr_gR (r := l1) (ref := "java/util/TreeMap$Entry") F dJ29_rotateRight_41 (C := RJ47) (T := TJ47) (N := 6) rfl (by decide) (Or.inl q3167) (Or.inl rfl) (fun v41 => ?_)
  refine xr_ifnonnull 55 F dJ29_rotateRight_44 rfl ?_ ?_
  · refine xr_aload_n 0 (r := (some l0)) F dJ29_rotateRight_47 rfl ?_
    refine xr_aload_n 2 (r := l2) F dJ29_rotateRight_48 rfl ?_
    refine xr_put (r := (some l0)) (ref := "java/util/TreeMap") F dJ29_rotateRight_49 xk_16 (by decide) (Or.inl q1888) (Or.inl rfl) (Or.inl rfl) (xr_rf _ _) ?_
    refine xr_goto 85 F dJ29_rotateRight_52 rfl ?_
    exact xI.sub [1, 2] rfl (fJ29_rotateRight_p85_ok F hnL hRm hno hmn l1 l2)
  · refine xr_aload_n 1 (r := l1) F dJ29_rotateRight_55 rfl ?_
    refine xr_gR (r := l1) (ref := "java/util/TreeMap$Entry") F dJ29_rotateRight_56 (C := RJ47) (T := TJ47) (N := 6) rfl (by decide) (Or.inl q3167) (Or.inl rfl) (fun v56 => ?_)
    refine xr_gR (r := v56) (ref := "java/util/TreeMap$Entry") F dJ29_rotateRight_59 (C := RJ47) (T := TJ47) (N := 6) rfl (by decide) (Or.inl q3165) (Or.inl rfl) (fun v59 => ?_)
    refine xr_aload_n 1 (r := l1) F dJ29_rotateRight_62 rfl ?_
    refine xr_acmp_ne 77 F dJ29_rotateRight_63 rfl ?_ ?_
    · refine xr_aload_n 1 (r := l1) F dJ29_rotateRight_66 rfl ?_
      refine xr_gR (r := l1) (ref := "java/util/TreeMap$Entry") F dJ29_rotateRight_67 (C := RJ47) (T := TJ47) (N := 6) rfl (by decide) (Or.inl q3167) (Or.inl rfl) (fun v67 => ?_)
      refine xr_aload_n 2 (r := l2) F dJ29_rotateRight_70 rfl ?_
      refine xr_put (r := v67) (ref := "java/util/TreeMap$Entry") F dJ29_rotateRight_71 xk_36 (by decide) (Or.inl q3165) (Or.inl rfl) (Or.inl rfl) (xr_rf _ _) ?_
      refine xr_goto 85 F dJ29_rotateRight_74 rfl ?_
      exact xI.sub [1, 2] rfl (fJ29_rotateRight_p85_ok F hnL hRm hno hmn l1 l2)
    · refine xr_aload_n 1 (r := l1) F dJ29_rotateRight_77 rfl ?_
      refine xr_gR (r := l1) (ref := "java/util/TreeMap$Entry") F dJ29_rotateRight_78 (C := RJ47) (T := TJ47) (N := 6) rfl (by decide) (Or.inl q3167) (Or.inl rfl) (fun v78 => ?_)
      refine xr_aload_n 2 (r := l2) F dJ29_rotateRight_81 rfl ?_
      refine xr_put (r := v78) (ref := "java/util/TreeMap$Entry") F dJ29_rotateRight_82 xk_36 (by decide) (Or.inl q3164) (Or.inl rfl) (Or.inl rfl) (xr_rf _ _) ?_
      exact xI.sub [1, 2] rfl (fJ29_rotateRight_p85_ok F hnL hRm hno hmn l1 l2)
theorem fJ29_rotateRight_m {l : Launch} {D : xD} {s0 : State} {b0 : Nat} {Γ : Nat → Option Nat} (G : xG l D s0 b0 Γ) (a0 : Nat) (p0 : Option Nat) : xMeth l D s0 Γ yJ29_rotateRight (Cond.code yJ29_rotateRight cJ29_rotateRight 3 none) (1) (12) [.ref a0, va_rf p0] xeV (fJ29_rotateRight a0 p0) := by
  refine xMeth.of (lv0 := [(0, va_rf (some a0)), (1, va_rf p0)]) G (by decide +kernel) (Or.inl rfl) (by simp [lg_sl, xrf_cat, xct_i, xct_l, xct_d, xct_r]) (by simp [lv_args, xrf_cat, xct_i, xct_l, xct_d, xct_r, xrf_some]) (fun x F hnL hRm hmn ht e1 e2 e3 e4 => ?_)
  have hno : ∀ pc, xNo x pc := fun pc z hz => by rw [ht.1 rfl] at hz; cases hz
  unfold fJ29_rotateRight
  refine xr_aload_n 1 (r := p0) F dJ29_rotateRight_0 rfl ?_
  refine xr_ifnull 95 F dJ29_rotateRight_1 rfl ?_ ?_
  · exact xr_vret F dJ29_rotateRight_95
  · refine xr_aload_n 1 (r := p0) F dJ29_rotateRight_4 rfl ?_
    refine xr_gR (r := p0) (ref := "java/util/TreeMap$Entry") F dJ29_rotateRight_5 (C := RJ47) (T := TJ47) (N := 6) rfl (by decide) (Or.inl q3164) (Or.inl rfl) (fun v5 => ?_)
    refine xs_a_n [0, 1] F dJ29_rotateRight_8 hnL rfl rfl (xk1 rfl rfl (xk2 rfl (xrf_cat _) xk0)) ?_
    refine xr_aload_n 2 (r := p0) F dJ29_rotateRight_9 rfl ?_
    refine xr_aload_n 0 (r := v5) F dJ29_rotateRight_10 rfl ?_
    refine xr_gR (r := v5) (ref := "java/util/TreeMap$Entry") F dJ29_rotateRight_11 (C := RJ47) (T := TJ47) (N := 6) rfl (by decide) (Or.inl q3165) (Or.inl rfl) (fun v11 => ?_)
    refine xr_put (r := p0) (ref := "java/util/TreeMap$Entry") F dJ29_rotateRight_14 xk_36 (by decide) (Or.inl q3164) (Or.inl rfl) (Or.inl rfl) (xr_rf _ _) ?_
    refine xr_aload_n 0 (r := v5) F dJ29_rotateRight_17 rfl ?_
    refine xr_gR (r := v5) (ref := "java/util/TreeMap$Entry") F dJ29_rotateRight_18 (C := RJ47) (T := TJ47) (N := 6) rfl (by decide) (Or.inl q3165) (Or.inl rfl) (fun v18 => ?_)
    refine xr_ifnull 32 F dJ29_rotateRight_21 rfl ?_ ?_
    · exact xI.sub [1, 2, 0] rfl (fJ29_rotateRight_p32_ok F hnL hRm hno hmn a0 p0 v5)
    · refine xr_aload_n 0 (r := v5) F dJ29_rotateRight_24 rfl ?_
      refine xr_gR (r := v5) (ref := "java/util/TreeMap$Entry") F dJ29_rotateRight_25 (C := RJ47) (T := TJ47) (N := 6) rfl (by decide) (Or.inl q3165) (Or.inl rfl) (fun v25 => ?_)
      refine xr_aload_n 2 (r := p0) F dJ29_rotateRight_28 rfl ?_
      refine xr_put (r := v25) (ref := "java/util/TreeMap$Entry") F dJ29_rotateRight_29 xk_36 (by decide) (Or.inl q3167) (Or.inl rfl) (Or.inl rfl) (xr_rf _ _) ?_
      exact xI.sub [1, 2, 0] rfl (fJ29_rotateRight_p32_ok F hnL hRm hno hmn a0 p0 v5)
theorem fJ29_rotateLeft_p85_ok {x : xC} (F : xF x RJ29 cJ29_rotateLeft none) (hnL : xnL x = 3) (hRm : ∃ dc ds, x.2.2.2.1 = { frames := 1, cells := dc, slots := ds, locals := 12 }) (hno : ∀ pc, xNo x pc) (hmn : xmn x = "rotateLeft" ∧ xmy x yJ29_rotateLeft) (l1 : Option Nat) (l2 : Option Nat) : xI x xeV 85 [(1, va_rf l1), (2, va_rf l2)] [] (fJ29_rotateLeft_p85 l1 l2) := by
  unfold fJ29_rotateLeft_p85
  refine xr_aload_n 1 (r := l2) F dJ29_rotateLeft_85 rfl ?_
  refine xr_aload_n 0 (r := l1) F dJ29_rotateLeft_86 rfl ?_
  refine xr_put (r := l2) (ref := "java/util/TreeMap$Entry") F dJ29_rotateLeft_87 xk_36 (by decide) (Or.inl q3164) (Or.inl rfl) (Or.inl rfl) (xr_rf _ _) ?_
  refine xr_aload_n 0 (r := l1) F dJ29_rotateLeft_90 rfl ?_
  refine xr_aload_n 1 (r := l2) F dJ29_rotateLeft_91 rfl ?_
  refine xr_put (r := l1) (ref := "java/util/TreeMap$Entry") F dJ29_rotateLeft_92 xk_36 (by decide) (Or.inl q3167) (Or.inl rfl) (Or.inl rfl) (xr_rf _ _) ?_
  exact xr_vret F dJ29_rotateLeft_95
theorem fJ29_rotateLeft_p32_ok {x : xC} (F : xF x RJ29 cJ29_rotateLeft none) (hnL : xnL x = 3) (hRm : ∃ dc ds, x.2.2.2.1 = { frames := 1, cells := dc, slots := ds, locals := 12 }) (hno : ∀ pc, xNo x pc) (hmn : xmn x = "rotateLeft" ∧ xmy x yJ29_rotateLeft) (l0 : Nat) (l1 : Option Nat) (l2 : Option Nat) : xI x xeV 32 [(0, va_rf (some l0)), (1, va_rf l1), (2, va_rf l2)] [] (fJ29_rotateLeft_p32 l0 l1 l2) := by
  unfold fJ29_rotateLeft_p32
  refine xr_aload_n 2 (r := l2) F dJ29_rotateLeft_32 rfl ?_
  refine xr_aload_n 1 (r := l1) F dJ29_rotateLeft_33 rfl ?_
  refine xr_gR (r := l1) (ref := "java/util/TreeMap$Entry") F dJ29_rotateLeft_34 (C := RJ47) (T := TJ47) (N := 6) rfl (by decide) (Or.inl q3167) (Or.inl rfl) (fun v34 => ?_)
  refine xr_put (r := l2) (ref := "java/util/TreeMap$Entry") F dJ29_rotateLeft_37 xk_36 (by decide) (Or.inl q3167) (Or.inl rfl) (Or.inl rfl) (xr_rf _ _) ?_
  refine xr_aload_n 1 (r := l1) F dJ29_rotateLeft_40 rfl ?_
  refine xr_gR (r := l1) (ref := "java/util/TreeMap$Entry") F dJ29_rotateLeft_41 (C := RJ47) (T := TJ47) (N := 6) rfl (by decide) (Or.inl q3167) (Or.inl rfl) (fun v41 => ?_)
  refine xr_ifnonnull 55 F dJ29_rotateLeft_44 rfl ?_ ?_
  · refine xr_aload_n 0 (r := (some l0)) F dJ29_rotateLeft_47 rfl ?_
    refine xr_aload_n 2 (r := l2) F dJ29_rotateLeft_48 rfl ?_
    refine xr_put (r := (some l0)) (ref := "java/util/TreeMap") F dJ29_rotateLeft_49 xk_16 (by decide) (Or.inl q1888) (Or.inl rfl) (Or.inl rfl) (xr_rf _ _) ?_
    refine xr_goto 85 F dJ29_rotateLeft_52 rfl ?_
    exact xI.sub [1, 2] rfl (fJ29_rotateLeft_p85_ok F hnL hRm hno hmn l1 l2)
  · refine xr_aload_n 1 (r := l1) F dJ29_rotateLeft_55 rfl ?_
    refine xr_gR (r := l1) (ref := "java/util/TreeMap$Entry") F dJ29_rotateLeft_56 (C := RJ47) (T := TJ47) (N := 6) rfl (by decide) (Or.inl q3167) (Or.inl rfl) (fun v56 => ?_)
    refine xr_gR (r := v56) (ref := "java/util/TreeMap$Entry") F dJ29_rotateLeft_59 (C := RJ47) (T := TJ47) (N := 6) rfl (by decide) (Or.inl q3164) (Or.inl rfl) (fun v59 => ?_)
    refine xr_aload_n 1 (r := l1) F dJ29_rotateLeft_62 rfl ?_
    refine xr_acmp_ne 77 F dJ29_rotateLeft_63 rfl ?_ ?_
    · refine xr_aload_n 1 (r := l1) F dJ29_rotateLeft_66 rfl ?_
      refine xr_gR (r := l1) (ref := "java/util/TreeMap$Entry") F dJ29_rotateLeft_67 (C := RJ47) (T := TJ47) (N := 6) rfl (by decide) (Or.inl q3167) (Or.inl rfl) (fun v67 => ?_)
      refine xr_aload_n 2 (r := l2) F dJ29_rotateLeft_70 rfl ?_
      refine xr_put (r := v67) (ref := "java/util/TreeMap$Entry") F dJ29_rotateLeft_71 xk_36 (by decide) (Or.inl q3164) (Or.inl rfl) (Or.inl rfl) (xr_rf _ _) ?_
      refine xr_goto 85 F dJ29_rotateLeft_74 rfl ?_
      exact xI.sub [1, 2] rfl (fJ29_rotateLeft_p85_ok F hnL hRm hno hmn l1 l2)
    · refine xr_aload_n 1 (r := l1) F dJ29_rotateLeft_77 rfl ?_
      refine xr_gR (r := l1) (ref := "java/util/TreeMap$Entry") F dJ29_rotateLeft_78 (C := RJ47) (T := TJ47) (N := 6) rfl (by decide) (Or.inl q3167) (Or.inl rfl) (fun v78 => ?_)
      refine xr_aload_n 2 (r := l2) F dJ29_rotateLeft_81 rfl ?_
      refine xr_put (r := v78) (ref := "java/util/TreeMap$Entry") F dJ29_rotateLeft_82 xk_36 (by decide) (Or.inl q3165) (Or.inl rfl) (Or.inl rfl) (xr_rf _ _) ?_
      exact xI.sub [1, 2] rfl (fJ29_rotateLeft_p85_ok F hnL hRm hno hmn l1 l2)
theorem fJ29_rotateLeft_m {l : Launch} {D : xD} {s0 : State} {b0 : Nat} {Γ : Nat → Option Nat} (G : xG l D s0 b0 Γ) (a0 : Nat) (p0 : Option Nat) : xMeth l D s0 Γ yJ29_rotateLeft (Cond.code yJ29_rotateLeft cJ29_rotateLeft 3 none) (1) (12) [.ref a0, va_rf p0] xeV (fJ29_rotateLeft a0 p0) := by
  refine xMeth.of (lv0 := [(0, va_rf (some a0)), (1, va_rf p0)]) G (by decide +kernel) (Or.inl rfl) (by simp [lg_sl, xrf_cat, xct_i, xct_l, xct_d, xct_r]) (by simp [lv_args, xrf_cat, xct_i, xct_l, xct_d, xct_r, xrf_some]) (fun x F hnL hRm hmn ht e1 e2 e3 e4 => ?_)
  have hno : ∀ pc, xNo x pc := fun pc z hz => by rw [ht.1 rfl] at hz; cases hz
  unfold fJ29_rotateLeft
  refine xr_aload_n 1 (r := p0) F dJ29_rotateLeft_0 rfl ?_
  refine xr_ifnull 95 F dJ29_rotateLeft_1 rfl ?_ ?_
  · exact xr_vret F dJ29_rotateLeft_95
  · refine xr_aload_n 1 (r := p0) F dJ29_rotateLeft_4 rfl ?_
    refine xr_gR (r := p0) (ref := "java/util/TreeMap$Entry") F dJ29_rotateLeft_5 (C := RJ47) (T := TJ47) (N := 6) rfl (by decide) (Or.inl q3165) (Or.inl rfl) (fun v5 => ?_)
    refine xs_a_n [0, 1] F dJ29_rotateLeft_8 hnL rfl rfl (xk1 rfl rfl (xk2 rfl (xrf_cat _) xk0)) ?_
    refine xr_aload_n 2 (r := p0) F dJ29_rotateLeft_9 rfl ?_
    refine xr_aload_n 0 (r := v5) F dJ29_rotateLeft_10 rfl ?_
    refine xr_gR (r := v5) (ref := "java/util/TreeMap$Entry") F dJ29_rotateLeft_11 (C := RJ47) (T := TJ47) (N := 6) rfl (by decide) (Or.inl q3164) (Or.inl rfl) (fun v11 => ?_)
    refine xr_put (r := p0) (ref := "java/util/TreeMap$Entry") F dJ29_rotateLeft_14 xk_36 (by decide) (Or.inl q3165) (Or.inl rfl) (Or.inl rfl) (xr_rf _ _) ?_
    refine xr_aload_n 0 (r := v5) F dJ29_rotateLeft_17 rfl ?_
    refine xr_gR (r := v5) (ref := "java/util/TreeMap$Entry") F dJ29_rotateLeft_18 (C := RJ47) (T := TJ47) (N := 6) rfl (by decide) (Or.inl q3164) (Or.inl rfl) (fun v18 => ?_)
    refine xr_ifnull 32 F dJ29_rotateLeft_21 rfl ?_ ?_
    · exact xI.sub [1, 2, 0] rfl (fJ29_rotateLeft_p32_ok F hnL hRm hno hmn a0 p0 v5)
    · refine xr_aload_n 0 (r := v5) F dJ29_rotateLeft_24 rfl ?_
      refine xr_gR (r := v5) (ref := "java/util/TreeMap$Entry") F dJ29_rotateLeft_25 (C := RJ47) (T := TJ47) (N := 6) rfl (by decide) (Or.inl q3164) (Or.inl rfl) (fun v25 => ?_)
      refine xr_aload_n 2 (r := p0) F dJ29_rotateLeft_28 rfl ?_
      refine xr_put (r := v25) (ref := "java/util/TreeMap$Entry") F dJ29_rotateLeft_29 xk_36 (by decide) (Or.inl q3167) (Or.inl rfl) (Or.inl rfl) (xr_rf _ _) ?_
      exact xI.sub [1, 2, 0] rfl (fJ29_rotateLeft_p32_ok F hnL hRm hno hmn a0 p0 v5)
theorem fJ29_leftOf_m {l : Launch} {D : xD} {s0 : State} {b0 : Nat} {Γ : Nat → Option Nat} (G : xG l D s0 b0 Γ) (p0 : Option Nat) : xMeth l D s0 Γ yJ29_leftOf (Cond.code yJ29_leftOf cJ29_leftOf 1 (some (.object "java/util/TreeMap$Entry"))) (1) (12) [va_rf p0] xeR (fJ29_leftOf p0) := by
  refine xMeth.of (lv0 := [(0, va_rf p0)]) G (by decide +kernel) (Or.inl rfl) (by simp [lg_sl, xrf_cat, xct_i, xct_l, xct_d, xct_r]) (by simp [lv_args, xrf_cat, xct_i, xct_l, xct_d, xct_r, xrf_some]) (fun x F hnL hRm hmn ht e1 e2 e3 e4 => ?_)
  have hno : ∀ pc, xNo x pc := fun pc z hz => by rw [ht.1 rfl] at hz; cases hz
  unfold fJ29_leftOf
  refine xr_aload_n 0 (r := p0) F dJ29_leftOf_0 rfl ?_
  refine xr_ifnonnull 8 F dJ29_leftOf_1 rfl ?_ ?_
  · refine xr_null F dJ29_leftOf_4 ?_
    refine xr_goto 12 F dJ29_leftOf_5 rfl ?_
    exact xr_aret (v := none) F dJ29_leftOf_12 (Or.inl ⟨_, rfl⟩)
  · refine xr_aload_n 0 (r := p0) F dJ29_leftOf_8 rfl ?_
    refine xr_gR (r := p0) (ref := "java/util/TreeMap$Entry") F dJ29_leftOf_9 (C := RJ47) (T := TJ47) (N := 6) rfl (by decide) (Or.inl q3164) (Or.inl rfl) (fun v9 => ?_)
    exact xr_aret (v := v9) F dJ29_leftOf_12 (Or.inl ⟨_, rfl⟩)
theorem fJ29_rightOf_m {l : Launch} {D : xD} {s0 : State} {b0 : Nat} {Γ : Nat → Option Nat} (G : xG l D s0 b0 Γ) (p0 : Option Nat) : xMeth l D s0 Γ yJ29_rightOf (Cond.code yJ29_rightOf cJ29_rightOf 1 (some (.object "java/util/TreeMap$Entry"))) (1) (12) [va_rf p0] xeR (fJ29_rightOf p0) := by
  refine xMeth.of (lv0 := [(0, va_rf p0)]) G (by decide +kernel) (Or.inl rfl) (by simp [lg_sl, xrf_cat, xct_i, xct_l, xct_d, xct_r]) (by simp [lv_args, xrf_cat, xct_i, xct_l, xct_d, xct_r, xrf_some]) (fun x F hnL hRm hmn ht e1 e2 e3 e4 => ?_)
  have hno : ∀ pc, xNo x pc := fun pc z hz => by rw [ht.1 rfl] at hz; cases hz
  unfold fJ29_rightOf
  refine xr_aload_n 0 (r := p0) F dJ29_rightOf_0 rfl ?_
  refine xr_ifnonnull 8 F dJ29_rightOf_1 rfl ?_ ?_
  · refine xr_null F dJ29_rightOf_4 ?_
    refine xr_goto 12 F dJ29_rightOf_5 rfl ?_
    exact xr_aret (v := none) F dJ29_rightOf_12 (Or.inl ⟨_, rfl⟩)
  · refine xr_aload_n 0 (r := p0) F dJ29_rightOf_8 rfl ?_
    refine xr_gR (r := p0) (ref := "java/util/TreeMap$Entry") F dJ29_rightOf_9 (C := RJ47) (T := TJ47) (N := 6) rfl (by decide) (Or.inl q3165) (Or.inl rfl) (fun v9 => ?_)
    exact xr_aret (v := v9) F dJ29_rightOf_12 (Or.inl ⟨_, rfl⟩)
theorem fJ29_colorOf_m {l : Launch} {D : xD} {s0 : State} {b0 : Nat} {Γ : Nat → Option Nat} (G : xG l D s0 b0 Γ) (p0 : Option Nat) : xMeth l D s0 Γ yJ29_colorOf (Cond.code yJ29_colorOf cJ29_colorOf 1 (some .boolean)) (1) (12) [va_rf p0] xeI (fJ29_colorOf p0) := by
  refine xMeth.of (lv0 := [(0, va_rf p0)]) G (by decide +kernel) (Or.inl rfl) (by simp [lg_sl, xrf_cat, xct_i, xct_l, xct_d, xct_r]) (by simp [lv_args, xrf_cat, xct_i, xct_l, xct_d, xct_r, xrf_some]) (fun x F hnL hRm hmn ht e1 e2 e3 e4 => ?_)
  have hno : ∀ pc, xNo x pc := fun pc z hz => by rw [ht.1 rfl] at hz; cases hz
  unfold fJ29_colorOf
  refine xr_aload_n 0 (r := p0) F dJ29_colorOf_0 rfl ?_
  refine xr_ifnonnull 8 F dJ29_colorOf_1 rfl ?_ ?_
  · refine xr_iconst (1 : Int32) F dJ29_colorOf_4 rfl ?_
    refine xr_goto 12 F dJ29_colorOf_5 rfl ?_
    exact xr_zret F dJ29_colorOf_12 rfl
  · refine xr_aload_n 0 (r := p0) F dJ29_colorOf_8 rfl ?_
    refine xr_gI (r := p0) (ref := "java/util/TreeMap$Entry") F dJ29_colorOf_9 (C := RJ47) (T := TJ47) (N := 6) rfl (by decide) (Or.inl q3169) (Or.inl rfl) (fun v9 => ?_)
    exact xr_nret F dJ29_colorOf_12
theorem fJ29_fixAfterInsertion_p148_ok {x : xC} (F : xF x RJ29 cJ29_fixAfterInsertion none) (hnL : xnL x = 3) (hRm : ∃ dc ds, x.2.2.2.1 = { frames := 2, cells := dc, slots := ds, locals := 34 }) (hno : ∀ pc, xNo x pc) (hmn : xmn x = "fixAfterInsertion" ∧ xmy x yJ29_fixAfterInsertion) {k5 : Nat → Option Nat → xM (Unit)} (hk5 : ∀ (l0 : Nat) (l1 : Option Nat), xI x xeV 5 [(0, va_rf (some l0)), (1, va_rf l1)] [] (k5 l0 l1)) (l0 : Nat) (l1 : Option Nat) : xI x xeV 148 [(0, va_rf (some l0)), (1, va_rf l1)] [] (fJ29_fixAfterInsertion_p148 k5 l0 l1) := by
  unfold fJ29_fixAfterInsertion_p148
  refine xr_goto 5 F dJ29_fixAfterInsertion_148 rfl ?_
  exact xI.sub [0, 1] rfl (hk5 l0 l1)
theorem fJ29_fixAfterInsertion_p118_ok {x : xC} (F : xF x RJ29 cJ29_fixAfterInsertion none) (hnL : xnL x = 3) (hRm : ∃ dc ds, x.2.2.2.1 = { frames := 2, cells := dc, slots := ds, locals := 34 }) (hno : ∀ pc, xNo x pc) (hmn : xmn x = "fixAfterInsertion" ∧ xmy x yJ29_fixAfterInsertion) {k5 : Nat → Option Nat → xM (Unit)} (hk5 : ∀ (l0 : Nat) (l1 : Option Nat), xI x xeV 5 [(0, va_rf (some l0)), (1, va_rf l1)] [] (k5 l0 l1)) (l0 : Nat) (l1 : Option Nat) : xI x xeV 118 [(0, va_rf (some l0)), (1, va_rf l1)] [] (fJ29_fixAfterInsertion_p118 k5 l0 l1) := by
  unfold fJ29_fixAfterInsertion_p118
  refine xr_aload_n 1 (r := l1) F dJ29_fixAfterInsertion_118 rfl ?_
  refine xr_SR (y := yJ29_parentOf) (As := [va_rf l1]) F (hno _) dJ29_fixAfterInsertion_119 (fJ29_parentOf_m (xFG F) l1) (Or.inl rfl) q1695 q157 (Or.inl q1693) q1694 (xroom hRm (Nat.le_of_ble_eq_true rfl) (Nat.le_of_ble_eq_true rfl)) ⟨by decide, by decide⟩ n_J29_parentOf rfl (xcat (Nat.le_of_ble_eq_true rfl)) (fun v119 => ?_)
  refine xr_iconst (1 : Int32) F dJ29_fixAfterInsertion_122 rfl ?_
  refine xr_SV (y := yJ29_setColor) (As := [va_rf v119, .int (1 : Int32)]) F (hno _) dJ29_fixAfterInsertion_123 (fJ29_setColor_m (xFG F) v119 (1 : Int32)) (Or.inl rfl) q1704 q157 (Or.inl q1702) q1703 (xroom hRm (Nat.le_of_ble_eq_true rfl) (Nat.le_of_ble_eq_true rfl)) ⟨by decide, by decide⟩ n_J29_setColor rfl (xcat (Nat.le_of_ble_eq_true rfl)) (fun _ => ?_)
  refine xr_aload_n 1 (r := l1) F dJ29_fixAfterInsertion_126 rfl ?_
  refine xr_SR (y := yJ29_parentOf) (As := [va_rf l1]) F (hno _) dJ29_fixAfterInsertion_127 (fJ29_parentOf_m (xFG F) l1) (Or.inl rfl) q1695 q157 (Or.inl q1693) q1694 (xroom hRm (Nat.le_of_ble_eq_true rfl) (Nat.le_of_ble_eq_true rfl)) ⟨by decide, by decide⟩ n_J29_parentOf rfl (xcat (Nat.le_of_ble_eq_true rfl)) (fun v127 => ?_)
  refine xr_SR (y := yJ29_parentOf) (As := [va_rf v127]) F (hno _) dJ29_fixAfterInsertion_130 (fJ29_parentOf_m (xFG F) v127) (Or.inl rfl) q1695 q157 (Or.inl q1693) q1694 (xroom hRm (Nat.le_of_ble_eq_true rfl) (Nat.le_of_ble_eq_true rfl)) ⟨by decide, by decide⟩ n_J29_parentOf rfl (xcat (Nat.le_of_ble_eq_true rfl)) (fun v130 => ?_)
  refine xr_iconst (0 : Int32) F dJ29_fixAfterInsertion_133 rfl ?_
  refine xr_SV (y := yJ29_setColor) (As := [va_rf v130, .int (0 : Int32)]) F (hno _) dJ29_fixAfterInsertion_134 (fJ29_setColor_m (xFG F) v130 (0 : Int32)) (Or.inl rfl) q1704 q157 (Or.inl q1702) q1703 (xroom hRm (Nat.le_of_ble_eq_true rfl) (Nat.le_of_ble_eq_true rfl)) ⟨by decide, by decide⟩ n_J29_setColor rfl (xcat (Nat.le_of_ble_eq_true rfl)) (fun _ => ?_)
  refine xr_aload_n 0 (r := (some l0)) F dJ29_fixAfterInsertion_137 rfl ?_
  refine xr_aload_n 1 (r := l1) F dJ29_fixAfterInsertion_138 rfl ?_
  refine xr_SR (y := yJ29_parentOf) (As := [va_rf l1]) F (hno _) dJ29_fixAfterInsertion_139 (fJ29_parentOf_m (xFG F) l1) (Or.inl rfl) q1695 q157 (Or.inl q1693) q1694 (xroom hRm (Nat.le_of_ble_eq_true rfl) (Nat.le_of_ble_eq_true rfl)) ⟨by decide, by decide⟩ n_J29_parentOf rfl (xcat (Nat.le_of_ble_eq_true rfl)) (fun v139 => ?_)
  refine xr_SR (y := yJ29_parentOf) (As := [va_rf v139]) F (hno _) dJ29_fixAfterInsertion_142 (fJ29_parentOf_m (xFG F) v139) (Or.inl rfl) q1695 q157 (Or.inl q1693) q1694 (xroom hRm (Nat.le_of_ble_eq_true rfl) (Nat.le_of_ble_eq_true rfl)) ⟨by decide, by decide⟩ n_J29_parentOf rfl (xcat (Nat.le_of_ble_eq_true rfl)) (fun v142 => ?_)
  refine xr_VV (y := yJ29_rotateRight) (As := [va_rf v142]) (r := (some l0)) F (hno _) dJ29_fixAfterInsertion_145 (fun z => fJ29_rotateRight_m (xFG F) z v142) (Or.inl rfl) (ci := 16) (C := RJ29) (T := TJ29) rfl q1712 q1709 q1711 qs13 (xroom hRm (Nat.le_of_ble_eq_true rfl) (Nat.le_of_ble_eq_true rfl)) ⟨by decide, by decide⟩ n_J29_rotateRight rfl (xcat (Nat.le_of_ble_eq_true rfl)) (fun _ => ?_)
  exact xI.sub [0, 1] rfl (fJ29_fixAfterInsertion_p148_ok F hnL hRm hno hmn hk5 l0 l1)
theorem fJ29_fixAfterInsertion_p255_ok {x : xC} (F : xF x RJ29 cJ29_fixAfterInsertion none) (hnL : xnL x = 3) (hRm : ∃ dc ds, x.2.2.2.1 = { frames := 2, cells := dc, slots := ds, locals := 34 }) (hno : ∀ pc, xNo x pc) (hmn : xmn x = "fixAfterInsertion" ∧ xmy x yJ29_fixAfterInsertion) {k5 : Nat → Option Nat → xM (Unit)} (hk5 : ∀ (l0 : Nat) (l1 : Option Nat), xI x xeV 5 [(0, va_rf (some l0)), (1, va_rf l1)] [] (k5 l0 l1)) (l0 : Nat) (l1 : Option Nat) : xI x xeV 255 [(0, va_rf (some l0)), (1, va_rf l1)] [] (fJ29_fixAfterInsertion_p255 k5 l0 l1) := by
  unfold fJ29_fixAfterInsertion_p255
  refine xr_goto 5 F dJ29_fixAfterInsertion_255 rfl ?_
  exact xI.sub [0, 1] rfl (hk5 l0 l1)
theorem fJ29_fixAfterInsertion_p225_ok {x : xC} (F : xF x RJ29 cJ29_fixAfterInsertion none) (hnL : xnL x = 3) (hRm : ∃ dc ds, x.2.2.2.1 = { frames := 2, cells := dc, slots := ds, locals := 34 }) (hno : ∀ pc, xNo x pc) (hmn : xmn x = "fixAfterInsertion" ∧ xmy x yJ29_fixAfterInsertion) {k5 : Nat → Option Nat → xM (Unit)} (hk5 : ∀ (l0 : Nat) (l1 : Option Nat), xI x xeV 5 [(0, va_rf (some l0)), (1, va_rf l1)] [] (k5 l0 l1)) (l0 : Nat) (l1 : Option Nat) : xI x xeV 225 [(0, va_rf (some l0)), (1, va_rf l1)] [] (fJ29_fixAfterInsertion_p225 k5 l0 l1) := by
  unfold fJ29_fixAfterInsertion_p225
  refine xr_aload_n 1 (r := l1) F dJ29_fixAfterInsertion_225 rfl ?_
  refine xr_SR (y := yJ29_parentOf) (As := [va_rf l1]) F (hno _) dJ29_fixAfterInsertion_226 (fJ29_parentOf_m (xFG F) l1) (Or.inl rfl) q1695 q157 (Or.inl q1693) q1694 (xroom hRm (Nat.le_of_ble_eq_true rfl) (Nat.le_of_ble_eq_true rfl)) ⟨by decide, by decide⟩ n_J29_parentOf rfl (xcat (Nat.le_of_ble_eq_true rfl)) (fun v226 => ?_)
  refine xr_iconst (1 : Int32) F dJ29_fixAfterInsertion_229 rfl ?_
  refine xr_SV (y := yJ29_setColor) (As := [va_rf v226, .int (1 : Int32)]) F (hno _) dJ29_fixAfterInsertion_230 (fJ29_setColor_m (xFG F) v226 (1 : Int32)) (Or.inl rfl) q1704 q157 (Or.inl q1702) q1703 (xroom hRm (Nat.le_of_ble_eq_true rfl) (Nat.le_of_ble_eq_true rfl)) ⟨by decide, by decide⟩ n_J29_setColor rfl (xcat (Nat.le_of_ble_eq_true rfl)) (fun _ => ?_)
  refine xr_aload_n 1 (r := l1) F dJ29_fixAfterInsertion_233 rfl ?_
  refine xr_SR (y := yJ29_parentOf) (As := [va_rf l1]) F (hno _) dJ29_fixAfterInsertion_234 (fJ29_parentOf_m (xFG F) l1) (Or.inl rfl) q1695 q157 (Or.inl q1693) q1694 (xroom hRm (Nat.le_of_ble_eq_true rfl) (Nat.le_of_ble_eq_true rfl)) ⟨by decide, by decide⟩ n_J29_parentOf rfl (xcat (Nat.le_of_ble_eq_true rfl)) (fun v234 => ?_)
  refine xr_SR (y := yJ29_parentOf) (As := [va_rf v234]) F (hno _) dJ29_fixAfterInsertion_237 (fJ29_parentOf_m (xFG F) v234) (Or.inl rfl) q1695 q157 (Or.inl q1693) q1694 (xroom hRm (Nat.le_of_ble_eq_true rfl) (Nat.le_of_ble_eq_true rfl)) ⟨by decide, by decide⟩ n_J29_parentOf rfl (xcat (Nat.le_of_ble_eq_true rfl)) (fun v237 => ?_)
  refine xr_iconst (0 : Int32) F dJ29_fixAfterInsertion_240 rfl ?_
  refine xr_SV (y := yJ29_setColor) (As := [va_rf v237, .int (0 : Int32)]) F (hno _) dJ29_fixAfterInsertion_241 (fJ29_setColor_m (xFG F) v237 (0 : Int32)) (Or.inl rfl) q1704 q157 (Or.inl q1702) q1703 (xroom hRm (Nat.le_of_ble_eq_true rfl) (Nat.le_of_ble_eq_true rfl)) ⟨by decide, by decide⟩ n_J29_setColor rfl (xcat (Nat.le_of_ble_eq_true rfl)) (fun _ => ?_)
  refine xr_aload_n 0 (r := (some l0)) F dJ29_fixAfterInsertion_244 rfl ?_
  refine xr_aload_n 1 (r := l1) F dJ29_fixAfterInsertion_245 rfl ?_
  refine xr_SR (y := yJ29_parentOf) (As := [va_rf l1]) F (hno _) dJ29_fixAfterInsertion_246 (fJ29_parentOf_m (xFG F) l1) (Or.inl rfl) q1695 q157 (Or.inl q1693) q1694 (xroom hRm (Nat.le_of_ble_eq_true rfl) (Nat.le_of_ble_eq_true rfl)) ⟨by decide, by decide⟩ n_J29_parentOf rfl (xcat (Nat.le_of_ble_eq_true rfl)) (fun v246 => ?_)
  refine xr_SR (y := yJ29_parentOf) (As := [va_rf v246]) F (hno _) dJ29_fixAfterInsertion_249 (fJ29_parentOf_m (xFG F) v246) (Or.inl rfl) q1695 q157 (Or.inl q1693) q1694 (xroom hRm (Nat.le_of_ble_eq_true rfl) (Nat.le_of_ble_eq_true rfl)) ⟨by decide, by decide⟩ n_J29_parentOf rfl (xcat (Nat.le_of_ble_eq_true rfl)) (fun v249 => ?_)
  refine xr_VV (y := yJ29_rotateLeft) (As := [va_rf v249]) (r := (some l0)) F (hno _) dJ29_fixAfterInsertion_252 (fun z => fJ29_rotateLeft_m (xFG F) z v249) (Or.inl rfl) (ci := 16) (C := RJ29) (T := TJ29) rfl q1708 q1705 q1707 qs12 (xroom hRm (Nat.le_of_ble_eq_true rfl) (Nat.le_of_ble_eq_true rfl)) ⟨by decide, by decide⟩ n_J29_rotateLeft rfl (xcat (Nat.le_of_ble_eq_true rfl)) (fun _ => ?_)
  exact xI.sub [0, 1] rfl (fJ29_fixAfterInsertion_p255_ok F hnL hRm hno hmn hk5 l0 l1)
theorem fJ29_fixAfterInsertion_p258_ok {x : xC} (F : xF x RJ29 cJ29_fixAfterInsertion none) (hnL : xnL x = 3) (hRm : ∃ dc ds, x.2.2.2.1 = { frames := 2, cells := dc, slots := ds, locals := 34 }) (hno : ∀ pc, xNo x pc) (hmn : xmn x = "fixAfterInsertion" ∧ xmy x yJ29_fixAfterInsertion) (l0 : Nat) : xI x xeV 258 [(0, va_rf (some l0))] [] (fJ29_fixAfterInsertion_p258 l0) := by
  unfold fJ29_fixAfterInsertion_p258
  refine xr_aload_n 0 (r := (some l0)) F dJ29_fixAfterInsertion_258 rfl ?_
  refine xr_gR (r := (some l0)) (ref := "java/util/TreeMap") F dJ29_fixAfterInsertion_259 (C := RJ29) (T := TJ29) (N := 9) rfl (by decide) (Or.inl q1888) (Or.inl rfl) (fun v259 => ?_)
  refine xr_iconst (1 : Int32) F dJ29_fixAfterInsertion_262 rfl ?_
  refine xr_pN (r := v259) (ref := "java/util/TreeMap$Entry") F dJ29_fixAfterInsertion_263 xk_36 (by decide) (Or.inl q3169) (Or.inl rfl) (Or.inl rfl) ?_
  exact xr_vret F dJ29_fixAfterInsertion_266
theorem fJ29_fixAfterInsertion_p5_ok {x : xC} (F : xF x RJ29 cJ29_fixAfterInsertion none) (hnL : xnL x = 3) (hRm : ∃ dc ds, x.2.2.2.1 = { frames := 2, cells := dc, slots := ds, locals := 34 }) (hno : ∀ pc, xNo x pc) (hmn : xmn x = "fixAfterInsertion" ∧ xmy x yJ29_fixAfterInsertion) : ∀ (n : Nat) (l0 : Nat) (l1 : Option Nat), xI x xeV 5 [(0, va_rf (some l0)), (1, va_rf l1)] [] (fJ29_fixAfterInsertion_p5 n l0 l1) := by
  intro n
  induction n with
  | zero => intro l0 l1; exact xI.stuck
  | succ n ih =>
    intro l0 l1
    unfold fJ29_fixAfterInsertion_p5
    refine xr_aload_n 1 (r := l1) F dJ29_fixAfterInsertion_5 rfl ?_
    refine xr_ifnull 258 F dJ29_fixAfterInsertion_6 rfl ?_ ?_
    · exact xI.sub [0] rfl (fJ29_fixAfterInsertion_p258_ok F hnL hRm hno hmn l0)
    · refine xr_aload_n 1 (r := l1) F dJ29_fixAfterInsertion_9 rfl ?_
      refine xr_aload_n 0 (r := (some l0)) F dJ29_fixAfterInsertion_10 rfl ?_
      refine xr_gR (r := (some l0)) (ref := "java/util/TreeMap") F dJ29_fixAfterInsertion_11 (C := RJ29) (T := TJ29) (N := 9) rfl (by decide) (Or.inl q1888) (Or.inl rfl) (fun v11 => ?_)
      refine xr_acmp_eq 258 F dJ29_fixAfterInsertion_14 rfl ?_ ?_
      · exact xI.sub [0] rfl (fJ29_fixAfterInsertion_p258_ok F hnL hRm hno hmn l0)
      · refine xr_aload_n 1 (r := l1) F dJ29_fixAfterInsertion_17 rfl ?_
        refine xr_gR (r := l1) (ref := "java/util/TreeMap$Entry") F dJ29_fixAfterInsertion_18 (C := RJ47) (T := TJ47) (N := 6) rfl (by decide) (Or.inl q3167) (Or.inl rfl) (fun v18 => ?_)
        refine xr_gI (r := v18) (ref := "java/util/TreeMap$Entry") F dJ29_fixAfterInsertion_21 (C := RJ47) (T := TJ47) (N := 6) rfl (by decide) (Or.inl q3169) (Or.inl rfl) (fun v21 => ?_)
        refine xr_if_ne 258 F dJ29_fixAfterInsertion_24 rfl ?_ ?_
        · refine xr_aload_n 1 (r := l1) F dJ29_fixAfterInsertion_27 rfl ?_
          refine xr_SR (y := yJ29_parentOf) (As := [va_rf l1]) F (hno _) dJ29_fixAfterInsertion_28 (fJ29_parentOf_m (xFG F) l1) (Or.inl rfl) q1695 q157 (Or.inl q1693) q1694 (xroom hRm (Nat.le_of_ble_eq_true rfl) (Nat.le_of_ble_eq_true rfl)) ⟨by decide, by decide⟩ n_J29_parentOf rfl (xcat (Nat.le_of_ble_eq_true rfl)) (fun v28 => ?_)
          refine xr_aload_n 1 (r := l1) F dJ29_fixAfterInsertion_31 rfl ?_
          refine xr_SR (y := yJ29_parentOf) (As := [va_rf l1]) F (hno _) dJ29_fixAfterInsertion_32 (fJ29_parentOf_m (xFG F) l1) (Or.inl rfl) q1695 q157 (Or.inl q1693) q1694 (xroom hRm (Nat.le_of_ble_eq_true rfl) (Nat.le_of_ble_eq_true rfl)) ⟨by decide, by decide⟩ n_J29_parentOf rfl (xcat (Nat.le_of_ble_eq_true rfl)) (fun v32 => ?_)
          refine xr_SR (y := yJ29_parentOf) (As := [va_rf v32]) F (hno _) dJ29_fixAfterInsertion_35 (fJ29_parentOf_m (xFG F) v32) (Or.inl rfl) q1695 q157 (Or.inl q1693) q1694 (xroom hRm (Nat.le_of_ble_eq_true rfl) (Nat.le_of_ble_eq_true rfl)) ⟨by decide, by decide⟩ n_J29_parentOf rfl (xcat (Nat.le_of_ble_eq_true rfl)) (fun v35 => ?_)
          refine xr_SR (y := yJ29_leftOf) (As := [va_rf v35]) F (hno _) dJ29_fixAfterInsertion_38 (fJ29_leftOf_m (xFG F) v35) (Or.inl rfl) q1698 q157 (Or.inl q1696) q1697 (xroom hRm (Nat.le_of_ble_eq_true rfl) (Nat.le_of_ble_eq_true rfl)) ⟨by decide, by decide⟩ n_J29_leftOf rfl (xcat (Nat.le_of_ble_eq_true rfl)) (fun v38 => ?_)
          refine xr_acmp_ne 151 F dJ29_fixAfterInsertion_41 rfl ?_ ?_
          · refine xr_aload_n 1 (r := l1) F dJ29_fixAfterInsertion_44 rfl ?_
            refine xr_SR (y := yJ29_parentOf) (As := [va_rf l1]) F (hno _) dJ29_fixAfterInsertion_45 (fJ29_parentOf_m (xFG F) l1) (Or.inl rfl) q1695 q157 (Or.inl q1693) q1694 (xroom hRm (Nat.le_of_ble_eq_true rfl) (Nat.le_of_ble_eq_true rfl)) ⟨by decide, by decide⟩ n_J29_parentOf rfl (xcat (Nat.le_of_ble_eq_true rfl)) (fun v45 => ?_)
            refine xr_SR (y := yJ29_parentOf) (As := [va_rf v45]) F (hno _) dJ29_fixAfterInsertion_48 (fJ29_parentOf_m (xFG F) v45) (Or.inl rfl) q1695 q157 (Or.inl q1693) q1694 (xroom hRm (Nat.le_of_ble_eq_true rfl) (Nat.le_of_ble_eq_true rfl)) ⟨by decide, by decide⟩ n_J29_parentOf rfl (xcat (Nat.le_of_ble_eq_true rfl)) (fun v48 => ?_)
            refine xr_SR (y := yJ29_rightOf) (As := [va_rf v48]) F (hno _) dJ29_fixAfterInsertion_51 (fJ29_rightOf_m (xFG F) v48) (Or.inl rfl) q1701 q157 (Or.inl q1699) q1700 (xroom hRm (Nat.le_of_ble_eq_true rfl) (Nat.le_of_ble_eq_true rfl)) ⟨by decide, by decide⟩ n_J29_rightOf rfl (xcat (Nat.le_of_ble_eq_true rfl)) (fun v51 => ?_)
            refine xs_a_n [0, 1] F dJ29_fixAfterInsertion_54 hnL rfl rfl (xk1 rfl rfl (xk2 rfl (xrf_cat _) xk0)) ?_
            refine xr_aload_n 0 (r := v51) F dJ29_fixAfterInsertion_55 rfl ?_
            refine xr_SI (y := yJ29_colorOf) (As := [va_rf v51]) F (hno _) dJ29_fixAfterInsertion_56 (fJ29_colorOf_m (xFG F) v51) (Or.inl rfl) q1692 q157 (Or.inl q1690) q1691 (xroom hRm (Nat.le_of_ble_eq_true rfl) (Nat.le_of_ble_eq_true rfl)) ⟨by decide, by decide⟩ n_J29_colorOf rfl (xcat (Nat.le_of_ble_eq_true rfl)) (fun v56 => ?_)
            refine xr_if_ne 97 F dJ29_fixAfterInsertion_59 rfl ?_ ?_
            · refine xr_aload_n 2 (r := l1) F dJ29_fixAfterInsertion_62 rfl ?_
              refine xr_SR (y := yJ29_parentOf) (As := [va_rf l1]) F (hno _) dJ29_fixAfterInsertion_63 (fJ29_parentOf_m (xFG F) l1) (Or.inl rfl) q1695 q157 (Or.inl q1693) q1694 (xroom hRm (Nat.le_of_ble_eq_true rfl) (Nat.le_of_ble_eq_true rfl)) ⟨by decide, by decide⟩ n_J29_parentOf rfl (xcat (Nat.le_of_ble_eq_true rfl)) (fun v63 => ?_)
              refine xr_iconst (1 : Int32) F dJ29_fixAfterInsertion_66 rfl ?_
              refine xr_SV (y := yJ29_setColor) (As := [va_rf v63, .int (1 : Int32)]) F (hno _) dJ29_fixAfterInsertion_67 (fJ29_setColor_m (xFG F) v63 (1 : Int32)) (Or.inl rfl) q1704 q157 (Or.inl q1702) q1703 (xroom hRm (Nat.le_of_ble_eq_true rfl) (Nat.le_of_ble_eq_true rfl)) ⟨by decide, by decide⟩ n_J29_setColor rfl (xcat (Nat.le_of_ble_eq_true rfl)) (fun _ => ?_)
              refine xr_aload_n 0 (r := v51) F dJ29_fixAfterInsertion_70 rfl ?_
              refine xr_iconst (1 : Int32) F dJ29_fixAfterInsertion_71 rfl ?_
              refine xr_SV (y := yJ29_setColor) (As := [va_rf v51, .int (1 : Int32)]) F (hno _) dJ29_fixAfterInsertion_72 (fJ29_setColor_m (xFG F) v51 (1 : Int32)) (Or.inl rfl) q1704 q157 (Or.inl q1702) q1703 (xroom hRm (Nat.le_of_ble_eq_true rfl) (Nat.le_of_ble_eq_true rfl)) ⟨by decide, by decide⟩ n_J29_setColor rfl (xcat (Nat.le_of_ble_eq_true rfl)) (fun _ => ?_)
              refine xr_aload_n 2 (r := l1) F dJ29_fixAfterInsertion_75 rfl ?_
              refine xr_SR (y := yJ29_parentOf) (As := [va_rf l1]) F (hno _) dJ29_fixAfterInsertion_76 (fJ29_parentOf_m (xFG F) l1) (Or.inl rfl) q1695 q157 (Or.inl q1693) q1694 (xroom hRm (Nat.le_of_ble_eq_true rfl) (Nat.le_of_ble_eq_true rfl)) ⟨by decide, by decide⟩ n_J29_parentOf rfl (xcat (Nat.le_of_ble_eq_true rfl)) (fun v76 => ?_)
              refine xr_SR (y := yJ29_parentOf) (As := [va_rf v76]) F (hno _) dJ29_fixAfterInsertion_79 (fJ29_parentOf_m (xFG F) v76) (Or.inl rfl) q1695 q157 (Or.inl q1693) q1694 (xroom hRm (Nat.le_of_ble_eq_true rfl) (Nat.le_of_ble_eq_true rfl)) ⟨by decide, by decide⟩ n_J29_parentOf rfl (xcat (Nat.le_of_ble_eq_true rfl)) (fun v79 => ?_)
              refine xr_iconst (0 : Int32) F dJ29_fixAfterInsertion_82 rfl ?_
              refine xr_SV (y := yJ29_setColor) (As := [va_rf v79, .int (0 : Int32)]) F (hno _) dJ29_fixAfterInsertion_83 (fJ29_setColor_m (xFG F) v79 (0 : Int32)) (Or.inl rfl) q1704 q157 (Or.inl q1702) q1703 (xroom hRm (Nat.le_of_ble_eq_true rfl) (Nat.le_of_ble_eq_true rfl)) ⟨by decide, by decide⟩ n_J29_setColor rfl (xcat (Nat.le_of_ble_eq_true rfl)) (fun _ => ?_)
              refine xr_aload_n 2 (r := l1) F dJ29_fixAfterInsertion_86 rfl ?_
              refine xr_SR (y := yJ29_parentOf) (As := [va_rf l1]) F (hno _) dJ29_fixAfterInsertion_87 (fJ29_parentOf_m (xFG F) l1) (Or.inl rfl) q1695 q157 (Or.inl q1693) q1694 (xroom hRm (Nat.le_of_ble_eq_true rfl) (Nat.le_of_ble_eq_true rfl)) ⟨by decide, by decide⟩ n_J29_parentOf rfl (xcat (Nat.le_of_ble_eq_true rfl)) (fun v87 => ?_)
              refine xr_SR (y := yJ29_parentOf) (As := [va_rf v87]) F (hno _) dJ29_fixAfterInsertion_90 (fJ29_parentOf_m (xFG F) v87) (Or.inl rfl) q1695 q157 (Or.inl q1693) q1694 (xroom hRm (Nat.le_of_ble_eq_true rfl) (Nat.le_of_ble_eq_true rfl)) ⟨by decide, by decide⟩ n_J29_parentOf rfl (xcat (Nat.le_of_ble_eq_true rfl)) (fun v90 => ?_)
              refine xs_a_n [1] F dJ29_fixAfterInsertion_93 hnL rfl rfl (xk2 rfl (xrf_cat _) xk0) ?_
              refine xr_goto 148 F dJ29_fixAfterInsertion_94 rfl ?_
              exact xI.sub [1, 0] rfl (fJ29_fixAfterInsertion_p148_ok F hnL hRm hno hmn ih l0 v90)
            · refine xr_aload_n 2 (r := l1) F dJ29_fixAfterInsertion_97 rfl ?_
              refine xr_aload_n 2 (r := l1) F dJ29_fixAfterInsertion_98 rfl ?_
              refine xr_SR (y := yJ29_parentOf) (As := [va_rf l1]) F (hno _) dJ29_fixAfterInsertion_99 (fJ29_parentOf_m (xFG F) l1) (Or.inl rfl) q1695 q157 (Or.inl q1693) q1694 (xroom hRm (Nat.le_of_ble_eq_true rfl) (Nat.le_of_ble_eq_true rfl)) ⟨by decide, by decide⟩ n_J29_parentOf rfl (xcat (Nat.le_of_ble_eq_true rfl)) (fun v99 => ?_)
              refine xr_SR (y := yJ29_rightOf) (As := [va_rf v99]) F (hno _) dJ29_fixAfterInsertion_102 (fJ29_rightOf_m (xFG F) v99) (Or.inl rfl) q1701 q157 (Or.inl q1699) q1700 (xroom hRm (Nat.le_of_ble_eq_true rfl) (Nat.le_of_ble_eq_true rfl)) ⟨by decide, by decide⟩ n_J29_rightOf rfl (xcat (Nat.le_of_ble_eq_true rfl)) (fun v102 => ?_)
              refine xr_acmp_ne 118 F dJ29_fixAfterInsertion_105 rfl ?_ ?_
              · refine xr_aload_n 2 (r := l1) F dJ29_fixAfterInsertion_108 rfl ?_
                refine xr_SR (y := yJ29_parentOf) (As := [va_rf l1]) F (hno _) dJ29_fixAfterInsertion_109 (fJ29_parentOf_m (xFG F) l1) (Or.inl rfl) q1695 q157 (Or.inl q1693) q1694 (xroom hRm (Nat.le_of_ble_eq_true rfl) (Nat.le_of_ble_eq_true rfl)) ⟨by decide, by decide⟩ n_J29_parentOf rfl (xcat (Nat.le_of_ble_eq_true rfl)) (fun v109 => ?_)
                refine xs_a_n [1] F dJ29_fixAfterInsertion_112 hnL rfl rfl (xk2 rfl (xrf_cat _) xk0) ?_
                refine xr_aload_n 1 (r := (some l0)) F dJ29_fixAfterInsertion_113 rfl ?_
                refine xr_aload_n 0 (r := v109) F dJ29_fixAfterInsertion_114 rfl ?_
                refine xr_VV (y := yJ29_rotateLeft) (As := [va_rf v109]) (r := (some l0)) F (hno _) dJ29_fixAfterInsertion_115 (fun z => fJ29_rotateLeft_m (xFG F) z v109) (Or.inl rfl) (ci := 16) (C := RJ29) (T := TJ29) rfl q1708 q1705 q1707 qs12 (xroom hRm (Nat.le_of_ble_eq_true rfl) (Nat.le_of_ble_eq_true rfl)) ⟨by decide, by decide⟩ n_J29_rotateLeft rfl (xcat (Nat.le_of_ble_eq_true rfl)) (fun _ => ?_)
                exact xI.sub [1, 0] rfl (fJ29_fixAfterInsertion_p118_ok F hnL hRm hno hmn ih l0 v109)
              · exact xI.sub [1, 2] rfl (fJ29_fixAfterInsertion_p118_ok F hnL hRm hno hmn ih l0 l1)
          · refine xr_aload_n 1 (r := l1) F dJ29_fixAfterInsertion_151 rfl ?_
            refine xr_SR (y := yJ29_parentOf) (As := [va_rf l1]) F (hno _) dJ29_fixAfterInsertion_152 (fJ29_parentOf_m (xFG F) l1) (Or.inl rfl) q1695 q157 (Or.inl q1693) q1694 (xroom hRm (Nat.le_of_ble_eq_true rfl) (Nat.le_of_ble_eq_true rfl)) ⟨by decide, by decide⟩ n_J29_parentOf rfl (xcat (Nat.le_of_ble_eq_true rfl)) (fun v152 => ?_)
            refine xr_SR (y := yJ29_parentOf) (As := [va_rf v152]) F (hno _) dJ29_fixAfterInsertion_155 (fJ29_parentOf_m (xFG F) v152) (Or.inl rfl) q1695 q157 (Or.inl q1693) q1694 (xroom hRm (Nat.le_of_ble_eq_true rfl) (Nat.le_of_ble_eq_true rfl)) ⟨by decide, by decide⟩ n_J29_parentOf rfl (xcat (Nat.le_of_ble_eq_true rfl)) (fun v155 => ?_)
            refine xr_SR (y := yJ29_leftOf) (As := [va_rf v155]) F (hno _) dJ29_fixAfterInsertion_158 (fJ29_leftOf_m (xFG F) v155) (Or.inl rfl) q1698 q157 (Or.inl q1696) q1697 (xroom hRm (Nat.le_of_ble_eq_true rfl) (Nat.le_of_ble_eq_true rfl)) ⟨by decide, by decide⟩ n_J29_leftOf rfl (xcat (Nat.le_of_ble_eq_true rfl)) (fun v158 => ?_)
            refine xs_a_n [0, 1] F dJ29_fixAfterInsertion_161 hnL rfl rfl (xk1 rfl rfl (xk2 rfl (xrf_cat _) xk0)) ?_
            refine xr_aload_n 0 (r := v158) F dJ29_fixAfterInsertion_162 rfl ?_
            refine xr_SI (y := yJ29_colorOf) (As := [va_rf v158]) F (hno _) dJ29_fixAfterInsertion_163 (fJ29_colorOf_m (xFG F) v158) (Or.inl rfl) q1692 q157 (Or.inl q1690) q1691 (xroom hRm (Nat.le_of_ble_eq_true rfl) (Nat.le_of_ble_eq_true rfl)) ⟨by decide, by decide⟩ n_J29_colorOf rfl (xcat (Nat.le_of_ble_eq_true rfl)) (fun v163 => ?_)
            refine xr_if_ne 204 F dJ29_fixAfterInsertion_166 rfl ?_ ?_
            · refine xr_aload_n 2 (r := l1) F dJ29_fixAfterInsertion_169 rfl ?_
              refine xr_SR (y := yJ29_parentOf) (As := [va_rf l1]) F (hno _) dJ29_fixAfterInsertion_170 (fJ29_parentOf_m (xFG F) l1) (Or.inl rfl) q1695 q157 (Or.inl q1693) q1694 (xroom hRm (Nat.le_of_ble_eq_true rfl) (Nat.le_of_ble_eq_true rfl)) ⟨by decide, by decide⟩ n_J29_parentOf rfl (xcat (Nat.le_of_ble_eq_true rfl)) (fun v170 => ?_)
              refine xr_iconst (1 : Int32) F dJ29_fixAfterInsertion_173 rfl ?_
              refine xr_SV (y := yJ29_setColor) (As := [va_rf v170, .int (1 : Int32)]) F (hno _) dJ29_fixAfterInsertion_174 (fJ29_setColor_m (xFG F) v170 (1 : Int32)) (Or.inl rfl) q1704 q157 (Or.inl q1702) q1703 (xroom hRm (Nat.le_of_ble_eq_true rfl) (Nat.le_of_ble_eq_true rfl)) ⟨by decide, by decide⟩ n_J29_setColor rfl (xcat (Nat.le_of_ble_eq_true rfl)) (fun _ => ?_)
              refine xr_aload_n 0 (r := v158) F dJ29_fixAfterInsertion_177 rfl ?_
              refine xr_iconst (1 : Int32) F dJ29_fixAfterInsertion_178 rfl ?_
              refine xr_SV (y := yJ29_setColor) (As := [va_rf v158, .int (1 : Int32)]) F (hno _) dJ29_fixAfterInsertion_179 (fJ29_setColor_m (xFG F) v158 (1 : Int32)) (Or.inl rfl) q1704 q157 (Or.inl q1702) q1703 (xroom hRm (Nat.le_of_ble_eq_true rfl) (Nat.le_of_ble_eq_true rfl)) ⟨by decide, by decide⟩ n_J29_setColor rfl (xcat (Nat.le_of_ble_eq_true rfl)) (fun _ => ?_)
              refine xr_aload_n 2 (r := l1) F dJ29_fixAfterInsertion_182 rfl ?_
              refine xr_SR (y := yJ29_parentOf) (As := [va_rf l1]) F (hno _) dJ29_fixAfterInsertion_183 (fJ29_parentOf_m (xFG F) l1) (Or.inl rfl) q1695 q157 (Or.inl q1693) q1694 (xroom hRm (Nat.le_of_ble_eq_true rfl) (Nat.le_of_ble_eq_true rfl)) ⟨by decide, by decide⟩ n_J29_parentOf rfl (xcat (Nat.le_of_ble_eq_true rfl)) (fun v183 => ?_)
              refine xr_SR (y := yJ29_parentOf) (As := [va_rf v183]) F (hno _) dJ29_fixAfterInsertion_186 (fJ29_parentOf_m (xFG F) v183) (Or.inl rfl) q1695 q157 (Or.inl q1693) q1694 (xroom hRm (Nat.le_of_ble_eq_true rfl) (Nat.le_of_ble_eq_true rfl)) ⟨by decide, by decide⟩ n_J29_parentOf rfl (xcat (Nat.le_of_ble_eq_true rfl)) (fun v186 => ?_)
              refine xr_iconst (0 : Int32) F dJ29_fixAfterInsertion_189 rfl ?_
              refine xr_SV (y := yJ29_setColor) (As := [va_rf v186, .int (0 : Int32)]) F (hno _) dJ29_fixAfterInsertion_190 (fJ29_setColor_m (xFG F) v186 (0 : Int32)) (Or.inl rfl) q1704 q157 (Or.inl q1702) q1703 (xroom hRm (Nat.le_of_ble_eq_true rfl) (Nat.le_of_ble_eq_true rfl)) ⟨by decide, by decide⟩ n_J29_setColor rfl (xcat (Nat.le_of_ble_eq_true rfl)) (fun _ => ?_)
              refine xr_aload_n 2 (r := l1) F dJ29_fixAfterInsertion_193 rfl ?_
              refine xr_SR (y := yJ29_parentOf) (As := [va_rf l1]) F (hno _) dJ29_fixAfterInsertion_194 (fJ29_parentOf_m (xFG F) l1) (Or.inl rfl) q1695 q157 (Or.inl q1693) q1694 (xroom hRm (Nat.le_of_ble_eq_true rfl) (Nat.le_of_ble_eq_true rfl)) ⟨by decide, by decide⟩ n_J29_parentOf rfl (xcat (Nat.le_of_ble_eq_true rfl)) (fun v194 => ?_)
              refine xr_SR (y := yJ29_parentOf) (As := [va_rf v194]) F (hno _) dJ29_fixAfterInsertion_197 (fJ29_parentOf_m (xFG F) v194) (Or.inl rfl) q1695 q157 (Or.inl q1693) q1694 (xroom hRm (Nat.le_of_ble_eq_true rfl) (Nat.le_of_ble_eq_true rfl)) ⟨by decide, by decide⟩ n_J29_parentOf rfl (xcat (Nat.le_of_ble_eq_true rfl)) (fun v197 => ?_)
              refine xs_a_n [1] F dJ29_fixAfterInsertion_200 hnL rfl rfl (xk2 rfl (xrf_cat _) xk0) ?_
              refine xr_goto 255 F dJ29_fixAfterInsertion_201 rfl ?_
              exact xI.sub [1, 0] rfl (fJ29_fixAfterInsertion_p255_ok F hnL hRm hno hmn ih l0 v197)
            · refine xr_aload_n 2 (r := l1) F dJ29_fixAfterInsertion_204 rfl ?_
              refine xr_aload_n 2 (r := l1) F dJ29_fixAfterInsertion_205 rfl ?_
              refine xr_SR (y := yJ29_parentOf) (As := [va_rf l1]) F (hno _) dJ29_fixAfterInsertion_206 (fJ29_parentOf_m (xFG F) l1) (Or.inl rfl) q1695 q157 (Or.inl q1693) q1694 (xroom hRm (Nat.le_of_ble_eq_true rfl) (Nat.le_of_ble_eq_true rfl)) ⟨by decide, by decide⟩ n_J29_parentOf rfl (xcat (Nat.le_of_ble_eq_true rfl)) (fun v206 => ?_)
              refine xr_SR (y := yJ29_leftOf) (As := [va_rf v206]) F (hno _) dJ29_fixAfterInsertion_209 (fJ29_leftOf_m (xFG F) v206) (Or.inl rfl) q1698 q157 (Or.inl q1696) q1697 (xroom hRm (Nat.le_of_ble_eq_true rfl) (Nat.le_of_ble_eq_true rfl)) ⟨by decide, by decide⟩ n_J29_leftOf rfl (xcat (Nat.le_of_ble_eq_true rfl)) (fun v209 => ?_)
              refine xr_acmp_ne 225 F dJ29_fixAfterInsertion_212 rfl ?_ ?_
              · refine xr_aload_n 2 (r := l1) F dJ29_fixAfterInsertion_215 rfl ?_
                refine xr_SR (y := yJ29_parentOf) (As := [va_rf l1]) F (hno _) dJ29_fixAfterInsertion_216 (fJ29_parentOf_m (xFG F) l1) (Or.inl rfl) q1695 q157 (Or.inl q1693) q1694 (xroom hRm (Nat.le_of_ble_eq_true rfl) (Nat.le_of_ble_eq_true rfl)) ⟨by decide, by decide⟩ n_J29_parentOf rfl (xcat (Nat.le_of_ble_eq_true rfl)) (fun v216 => ?_)
                refine xs_a_n [1] F dJ29_fixAfterInsertion_219 hnL rfl rfl (xk2 rfl (xrf_cat _) xk0) ?_
                refine xr_aload_n 1 (r := (some l0)) F dJ29_fixAfterInsertion_220 rfl ?_
                refine xr_aload_n 0 (r := v216) F dJ29_fixAfterInsertion_221 rfl ?_
                refine xr_VV (y := yJ29_rotateRight) (As := [va_rf v216]) (r := (some l0)) F (hno _) dJ29_fixAfterInsertion_222 (fun z => fJ29_rotateRight_m (xFG F) z v216) (Or.inl rfl) (ci := 16) (C := RJ29) (T := TJ29) rfl q1712 q1709 q1711 qs13 (xroom hRm (Nat.le_of_ble_eq_true rfl) (Nat.le_of_ble_eq_true rfl)) ⟨by decide, by decide⟩ n_J29_rotateRight rfl (xcat (Nat.le_of_ble_eq_true rfl)) (fun _ => ?_)
                exact xI.sub [1, 0] rfl (fJ29_fixAfterInsertion_p225_ok F hnL hRm hno hmn ih l0 v216)
              · exact xI.sub [1, 2] rfl (fJ29_fixAfterInsertion_p225_ok F hnL hRm hno hmn ih l0 l1)
        · exact xI.sub [0] rfl (fJ29_fixAfterInsertion_p258_ok F hnL hRm hno hmn l0)
theorem fJ29_fixAfterInsertion_m {l : Launch} {D : xD} {s0 : State} {b0 : Nat} {Γ : Nat → Option Nat} (G : xG l D s0 b0 Γ) (a0 : Nat) (p0 : Option Nat) : xMeth l D s0 Γ yJ29_fixAfterInsertion (Cond.code yJ29_fixAfterInsertion cJ29_fixAfterInsertion 3 none) (2) (34) [.ref a0, va_rf p0] xeV (fJ29_fixAfterInsertion a0 p0) := by
  refine xMeth.of (lv0 := [(0, va_rf (some a0)), (1, va_rf p0)]) G (by decide +kernel) (Or.inl rfl) (by simp [lg_sl, xrf_cat, xct_i, xct_l, xct_d, xct_r]) (by simp [lv_args, xrf_cat, xct_i, xct_l, xct_d, xct_r, xrf_some]) (fun x F hnL hRm hmn ht e1 e2 e3 e4 => ?_)
  have hno : ∀ pc, xNo x pc := fun pc z hz => by rw [ht.1 rfl] at hz; cases hz
  unfold fJ29_fixAfterInsertion
  refine xr_aload_n 1 (r := p0) F dJ29_fixAfterInsertion_0 rfl ?_
  refine xr_iconst (0 : Int32) F dJ29_fixAfterInsertion_1 rfl ?_
  refine xr_pN (r := p0) (ref := "java/util/TreeMap$Entry") F dJ29_fixAfterInsertion_2 xk_36 (by decide) (Or.inl q3169) (Or.inl rfl) (Or.inl rfl) ?_
  exact xI.sub [0, 1] rfl (fJ29_fixAfterInsertion_p5_ok F hnL hRm hno hmn xFU a0 p0)
theorem fJ47_init_m {l : Launch} {D : xD} {s0 : State} {b0 : Nat} {Γ : Nat → Option Nat} (G : xG l D s0 b0 Γ) (a0 : Nat) (p0 : Option Nat) (p1 : Option Nat) (p2 : Option Nat) : xMeth l D s0 Γ yJ47_init (Cond.code yJ47_init cJ47_init 4 none) (1) (20) [.ref a0, va_rf p0, va_rf p1, va_rf p2] xeV (fJ47_init a0 p0 p1 p2) := by
  refine xMeth.of (lv0 := [(0, va_rf (some a0)), (1, va_rf p0), (2, va_rf p1), (3, va_rf p2)]) G (by decide +kernel) (Or.inl rfl) (by simp [lg_sl, xrf_cat, xct_i, xct_l, xct_d, xct_r]) (by simp [lv_args, xrf_cat, xct_i, xct_l, xct_d, xct_r, xrf_some]) (fun x F hnL hRm hmn ht e1 e2 e3 e4 => ?_)
  have hno : ∀ pc, xNo x pc := fun pc z hz => by rw [ht.1 rfl] at hz; cases hz
  unfold fJ47_init
  refine xr_aload_n 0 (r := (some a0)) F dJ47_init_0 rfl ?_
  refine xr_obj F dJ47_init_1 q3158 q200 (q_objcode) (xroom hRm (Nat.le_of_ble_eq_true rfl) (Nat.le_of_ble_eq_true rfl)) (xcat (Nat.le_of_ble_eq_true rfl)) ?_
  refine xr_aload_n 0 (r := (some a0)) F dJ47_init_4 rfl ?_
  refine xr_iconst (1 : Int32) F dJ47_init_5 rfl ?_
  refine xr_pN (r := (some a0)) (ref := "java/util/TreeMap$Entry") F dJ47_init_6 xk_36 (by decide) (Or.inl q3168) (Or.inl rfl) (Or.inl rfl) ?_
  refine xr_aload_n 0 (r := (some a0)) F dJ47_init_9 rfl ?_
  refine xr_aload_n 1 (r := p0) F dJ47_init_10 rfl ?_
  refine xr_put (r := (some a0)) (ref := "java/util/TreeMap$Entry") F dJ47_init_11 xk_36 (by decide) (Or.inl q3159) (Or.inl rfl) (Or.inl rfl) (xr_rf _ _) ?_
  refine xr_aload_n 0 (r := (some a0)) F dJ47_init_14 rfl ?_
  refine xr_aload_n 2 (r := p1) F dJ47_init_15 rfl ?_
  refine xr_put (r := (some a0)) (ref := "java/util/TreeMap$Entry") F dJ47_init_16 xk_36 (by decide) (Or.inl q3161) (Or.inl rfl) (Or.inl rfl) (xr_rf _ _) ?_
  refine xr_aload_n 0 (r := (some a0)) F dJ47_init_19 rfl ?_
  refine xr_aload_n 3 (r := p2) F dJ47_init_20 rfl ?_
  refine xr_put (r := (some a0)) (ref := "java/util/TreeMap$Entry") F dJ47_init_21 xk_36 (by decide) (Or.inl q3166) (Or.inl rfl) (Or.inl rfl) (xr_rf _ _) ?_
  exact xr_vret F dJ47_init_24
theorem fJ29_addEntry_p32_ok {x : xC} (F : xF x RJ29 cJ29_addEntry none) (hnL : xnL x = 6) (hRm : ∃ dc ds, x.2.2.2.1 = { frames := 3, cells := dc, slots := ds, locals := 56 }) (hno : ∀ pc, xNo x pc) (hmn : xmn x = "addEntry" ∧ xmy x yJ29_addEntry) (l0 : Nat) (l5 : Nat) : xI x xeV 32 [(0, va_rf (some l0)), (5, va_rf (some l5))] [] (fJ29_addEntry_p32 l0 l5) := by
  unfold fJ29_addEntry_p32
  refine xr_aload_n 0 (r := (some l0)) F dJ29_addEntry_32 rfl ?_
  refine xr_aload 1 (r := (some l5)) F dJ29_addEntry_33 rfl ?_
  refine xr_VV (y := yJ29_fixAfterInsertion) (As := [va_rf (some l5)]) (r := (some l0)) F (hno _) dJ29_addEntry_35 (fun z => fJ29_fixAfterInsertion_m (xFG F) z (some l5)) (Or.inl rfl) (ci := 16) (C := RJ29) (T := TJ29) rfl q3190 q3187 q3189 qs48 (xroom hRm (Nat.le_of_ble_eq_true rfl) (Nat.le_of_ble_eq_true rfl)) ⟨by decide, by decide⟩ n_J29_fixAfterInsertion rfl (xcat (Nat.le_of_ble_eq_true rfl)) (fun _ => ?_)
  refine xr_aload_n 0 (r := (some l0)) F dJ29_addEntry_38 rfl ?_
  refine xr_dup F dJ29_addEntry_39 (xrf_cat _) ?_
  refine xr_gI (r := (some l0)) (ref := "java/util/TreeMap") F dJ29_addEntry_40 (C := RJ29) (T := TJ29) (N := 9) rfl (by decide) (Or.inl q1889) (Or.inl rfl) (fun v40 => ?_)
  refine xr_iconst (1 : Int32) F dJ29_addEntry_43 rfl ?_
  refine xr_iadd F dJ29_addEntry_44 ?_
  refine xr_put (r := (some l0)) (ref := "java/util/TreeMap") F dJ29_addEntry_45 xk_16 (by decide) (Or.inl q1889) (Or.inl rfl) (Or.inl rfl) ⟨rfl, rfl⟩ ?_
  refine xr_aload_n 0 (r := (some l0)) F dJ29_addEntry_48 rfl ?_
  refine xr_dup F dJ29_addEntry_49 (xrf_cat _) ?_
  refine xr_gI (r := (some l0)) (ref := "java/util/TreeMap") F dJ29_addEntry_50 (C := RJ29) (T := TJ29) (N := 9) rfl (by decide) (Or.inl q1890) (Or.inl rfl) (fun v50 => ?_)
  refine xr_iconst (1 : Int32) F dJ29_addEntry_53 rfl ?_
  refine xr_iadd F dJ29_addEntry_54 ?_
  refine xr_put (r := (some l0)) (ref := "java/util/TreeMap") F dJ29_addEntry_55 xk_16 (by decide) (Or.inl q1890) (Or.inl rfl) (Or.inl rfl) ⟨rfl, rfl⟩ ?_
  exact xr_vret F dJ29_addEntry_58
theorem fJ29_addEntry_m {l : Launch} {D : xD} {s0 : State} {b0 : Nat} {Γ : Nat → Option Nat} (G : xG l D s0 b0 Γ) (a0 : Nat) (p0 : Option Nat) (p1 : Option Nat) (p2 : Option Nat) (p3 : Int32) : xMeth l D s0 Γ yJ29_addEntry (Cond.code yJ29_addEntry cJ29_addEntry 6 none) (3) (56) [.ref a0, va_rf p0, va_rf p1, va_rf p2, .int p3] xeV (fJ29_addEntry a0 p0 p1 p2 p3) := by
  refine xMeth.of (lv0 := [(0, va_rf (some a0)), (1, va_rf p0), (2, va_rf p1), (3, va_rf p2), (4, .int p3)]) G (by decide +kernel) (Or.inl rfl) (by simp [lg_sl, xrf_cat, xct_i, xct_l, xct_d, xct_r]) (by simp [lv_args, xrf_cat, xct_i, xct_l, xct_d, xct_r, xrf_some]) (fun x F hnL hRm hmn ht e1 e2 e3 e4 => ?_)
  have hno : ∀ pc, xNo x pc := fun pc z hz => by rw [ht.1 rfl] at hz; cases hz
  unfold fJ29_addEntry
  refine xr_new F dJ29_addEntry_0 xk_36 xdf_36 q3153 q3154 q190 (fun v0 => ?_)
  refine xr_dup F dJ29_addEntry_3 (xrf_cat _) ?_
  refine xr_aload_n 1 (r := p0) F dJ29_addEntry_4 rfl ?_
  refine xr_aload_n 2 (r := p1) F dJ29_addEntry_5 rfl ?_
  refine xr_aload_n 3 (r := p2) F dJ29_addEntry_6 rfl ?_
  refine xr_IV (y := yJ47_init) (As := [va_rf p0, va_rf p1, va_rf p2]) F (hno _) dJ29_addEntry_7 (fJ47_init_m (xFG F) v0 p0 p1 p2) rfl rfl q3157 (Or.inl q3155) q3156 (xroom hRm (Nat.le_of_ble_eq_true rfl) (Nat.le_of_ble_eq_true rfl)) ⟨by decide, by decide⟩ n_J47_init rfl (xcat (Nat.le_of_ble_eq_true rfl)) (fun _ => ?_)
  refine xs_a [0, 3, 4] F dJ29_addEntry_10 hnL rfl rfl (xk1 rfl rfl (xk1 rfl rfl (xk2 rfl rfl xk0))) ?_
  refine xr_iload 3 F dJ29_addEntry_12 rfl ?_
  refine xr_if_eq 26 F dJ29_addEntry_14 rfl ?_ ?_
  · refine xr_aload_n 2 (r := p2) F dJ29_addEntry_26 rfl ?_
    refine xr_aload 0 (r := (some v0)) F dJ29_addEntry_27 rfl ?_
    refine xr_put (r := p2) (ref := "java/util/TreeMap$Entry") F dJ29_addEntry_29 xk_36 (by decide) (Or.inl q3165) (Or.inl rfl) (Or.inl rfl) (xr_rf _ _) ?_
    exact xI.sub [1, 0] rfl (fJ29_addEntry_p32_ok F hnL hRm hno hmn a0 v0)
  · refine xr_aload_n 2 (r := p2) F dJ29_addEntry_17 rfl ?_
    refine xr_aload 0 (r := (some v0)) F dJ29_addEntry_18 rfl ?_
    refine xr_put (r := p2) (ref := "java/util/TreeMap$Entry") F dJ29_addEntry_20 xk_36 (by decide) (Or.inl q3164) (Or.inl rfl) (Or.inl rfl) (xr_rf _ _) ?_
    refine xr_goto 32 F dJ29_addEntry_23 rfl ?_
    exact xI.sub [1, 0] rfl (fJ29_addEntry_p32_ok F hnL hRm hno hmn a0 v0)
theorem fJ29_addEntryToEmptyMap_m {l : Launch} {D : xD} {s0 : State} {b0 : Nat} {Γ : Nat → Option Nat} (G : xG l D s0 b0 Γ) (a0 : Nat) (p0 : Option Nat) (p1 : Option Nat) : xMeth l D s0 Γ yJ29_addEntryToEmptyMap (Cond.code yJ29_addEntryToEmptyMap cJ29_addEntryToEmptyMap 3 none) (6) (120) [.ref a0, va_rf p0, va_rf p1] xeV (fJ29_addEntryToEmptyMap a0 p0 p1) := by
  refine xMeth.of (lv0 := [(0, va_rf (some a0)), (1, va_rf p0), (2, va_rf p1)]) G (by decide +kernel) (Or.inl rfl) (by simp [lg_sl, xrf_cat, xct_i, xct_l, xct_d, xct_r]) (by simp [lv_args, xrf_cat, xct_i, xct_l, xct_d, xct_r, xrf_some]) (fun x F hnL hRm hmn ht e1 e2 e3 e4 => ?_)
  have hno : ∀ pc, xNo x pc := fun pc z hz => by rw [ht.1 rfl] at hz; cases hz
  unfold fJ29_addEntryToEmptyMap
  refine xr_aload_n 0 (r := (some a0)) F dJ29_addEntryToEmptyMap_0 rfl ?_
  refine xr_aload_n 1 (r := p0) F dJ29_addEntryToEmptyMap_1 rfl ?_
  refine xr_aload_n 1 (r := p0) F dJ29_addEntryToEmptyMap_2 rfl ?_
  refine xr_VI (y := yJ29_compare) (As := [va_rf p0, va_rf p0]) (r := (some a0)) F (hno _) dJ29_addEntryToEmptyMap_3 (fun z => fJ29_compare_m (xFG F) z p0 p0) (Or.inl rfl) (ci := 16) (C := RJ29) (T := TJ29) rfl q2660 q2657 q2658 q2659 (xroom hRm (Nat.le_of_ble_eq_true rfl) (Nat.le_of_ble_eq_true rfl)) ⟨by decide, by decide⟩ n_J29_compare rfl (xcat (Nat.le_of_ble_eq_true rfl)) (fun v3 => ?_)
  refine xr_pop F dJ29_addEntryToEmptyMap_6 rfl ?_
  refine xr_aload_n 0 (r := (some a0)) F dJ29_addEntryToEmptyMap_7 rfl ?_
  refine xr_new F dJ29_addEntryToEmptyMap_8 xk_36 xdf_36 q3153 q3154 q190 (fun v8 => ?_)
  refine xr_dup F dJ29_addEntryToEmptyMap_11 (xrf_cat _) ?_
  refine xr_aload_n 1 (r := p0) F dJ29_addEntryToEmptyMap_12 rfl ?_
  refine xr_aload_n 2 (r := p1) F dJ29_addEntryToEmptyMap_13 rfl ?_
  refine xr_null F dJ29_addEntryToEmptyMap_14 ?_
  refine xr_IV (y := yJ47_init) (As := [va_rf p0, va_rf p1, va_rf none]) F (hno _) dJ29_addEntryToEmptyMap_15 (fJ47_init_m (xFG F) v8 p0 p1 none) rfl rfl q3157 (Or.inl q3155) q3156 (xroom hRm (Nat.le_of_ble_eq_true rfl) (Nat.le_of_ble_eq_true rfl)) ⟨by decide, by decide⟩ n_J47_init rfl (xcat (Nat.le_of_ble_eq_true rfl)) (fun _ => ?_)
  refine xr_put (r := (some a0)) (ref := "java/util/TreeMap") F dJ29_addEntryToEmptyMap_18 xk_16 (by decide) (Or.inl q1888) (Or.inl rfl) (Or.inl rfl) (xr_rf _ _) ?_
  refine xr_aload_n 0 (r := (some a0)) F dJ29_addEntryToEmptyMap_21 rfl ?_
  refine xr_iconst (1 : Int32) F dJ29_addEntryToEmptyMap_22 rfl ?_
  refine xr_put (r := (some a0)) (ref := "java/util/TreeMap") F dJ29_addEntryToEmptyMap_23 xk_16 (by decide) (Or.inl q1889) (Or.inl rfl) (Or.inl rfl) ⟨rfl, rfl⟩ ?_
  refine xr_aload_n 0 (r := (some a0)) F dJ29_addEntryToEmptyMap_26 rfl ?_
  refine xr_dup F dJ29_addEntryToEmptyMap_27 (xrf_cat _) ?_
  refine xr_gI (r := (some a0)) (ref := "java/util/TreeMap") F dJ29_addEntryToEmptyMap_28 (C := RJ29) (T := TJ29) (N := 9) rfl (by decide) (Or.inl q1890) (Or.inl rfl) (fun v28 => ?_)
  refine xr_iconst (1 : Int32) F dJ29_addEntryToEmptyMap_31 rfl ?_
  refine xr_iadd F dJ29_addEntryToEmptyMap_32 ?_
  refine xr_put (r := (some a0)) (ref := "java/util/TreeMap") F dJ29_addEntryToEmptyMap_33 xk_16 (by decide) (Or.inl q1890) (Or.inl rfl) (Or.inl rfl) ⟨rfl, rfl⟩ ?_
  exact xr_vret F dJ29_addEntryToEmptyMap_36
theorem fJ29_put_2_p216_ok {x : xC} (F : xF x RJ29 cJ29_put_2 (some (.object "java/lang/Object"))) (hnL : xnL x = 10) (hRm : ∃ dc ds, x.2.2.2.1 = { frames := 7, cells := dc, slots := ds, locals := 142 }) (hno : ∀ pc, xNo x pc) (hmn : xmn x = "put" ∧ xmy x yJ29_put_2) (s0 : Int32) (s1 : Option Nat) (s2 : Option Nat) (s3 : Option Nat) (s4 : Nat) : xI x xeR 216 [] [.int s0, va_rf s1, va_rf s2, va_rf s3, va_rf (some s4)] (fJ29_put_2_p216 s0 s1 s2 s3 s4) := by
  unfold fJ29_put_2_p216
  refine xr_VV (y := yJ29_addEntry) (As := [va_rf s3, va_rf s2, va_rf s1, .int s0]) (r := (some s4)) F (hno _) dJ29_put_2_216 (fun z => fJ29_addEntry_m (xFG F) z s3 s2 s1 s0) (Or.inl rfl) (ci := 16) (C := RJ29) (T := TJ29) rfl q3186 q3183 q3185 qs47 (xroom hRm (Nat.le_of_ble_eq_true rfl) (Nat.le_of_ble_eq_true rfl)) ⟨by decide, by decide⟩ n_J29_addEntry rfl (xcat (Nat.le_of_ble_eq_true rfl)) (fun _ => ?_)
  refine xr_null F dJ29_put_2_219 ?_
  exact xr_aret (v := none) F dJ29_put_2_220 (Or.inl ⟨_, rfl⟩)
theorem fJ29_put_2_p201_ok {x : xC} (F : xF x RJ29 cJ29_put_2 (some (.object "java/lang/Object"))) (hnL : xnL x = 10) (hRm : ∃ dc ds, x.2.2.2.1 = { frames := 7, cells := dc, slots := ds, locals := 142 }) (hno : ∀ pc, xNo x pc) (hmn : xmn x = "put" ∧ xmy x yJ29_put_2) (l0 : Nat) (l1 : Option Nat) (l2 : Option Nat) (l5 : Int32) (l6 : Option Nat) : xI x xeR 201 [(0, va_rf (some l0)), (1, va_rf l1), (2, va_rf l2), (5, .int l5), (6, va_rf l6)] [] (fJ29_put_2_p201 l0 l1 l2 l5 l6) := by
  unfold fJ29_put_2_p201
  refine xr_aload_n 0 (r := (some l0)) F dJ29_put_2_201 rfl ?_
  refine xr_aload_n 1 (r := l1) F dJ29_put_2_202 rfl ?_
  refine xr_aload_n 2 (r := l2) F dJ29_put_2_203 rfl ?_
  refine xr_aload 4 (r := l6) F dJ29_put_2_204 rfl ?_
  refine xr_iload 3 F dJ29_put_2_206 rfl ?_
  refine xr_if_ge 215 F dJ29_put_2_208 rfl ?_ ?_
  · refine xr_iconst (0 : Int32) F dJ29_put_2_215 rfl ?_
    exact xI.sub [] rfl (fJ29_put_2_p216_ok F hnL hRm hno hmn (0 : Int32) l6 l2 l1 l0)
  · refine xr_iconst (1 : Int32) F dJ29_put_2_211 rfl ?_
    refine xr_goto 216 F dJ29_put_2_212 rfl ?_
    exact xI.sub [] rfl (fJ29_put_2_p216_ok F hnL hRm hno hmn (1 : Int32) l6 l2 l1 l0)
theorem fJ29_put_2_p104_ok {x : xC} (F : xF x RJ29 cJ29_put_2 (some (.object "java/lang/Object"))) (hnL : xnL x = 10) (hRm : ∃ dc ds, x.2.2.2.1 = { frames := 7, cells := dc, slots := ds, locals := 142 }) (hno : ∀ pc, xNo x pc) (hmn : xmn x = "put" ∧ xmy x yJ29_put_2) {k30 : Nat → Option Nat → Option Nat → Int32 → Option Nat → Option Nat → xM (Option Nat)} (hk30 : ∀ (l0 : Nat) (l1 : Option Nat) (l2 : Option Nat) (l3 : Int32) (l4 : Option Nat) (l7 : Option Nat), xI x xeR 30 [(0, va_rf (some l0)), (1, va_rf l1), (2, va_rf l2), (3, .int l3), (4, va_rf l4), (7, va_rf l7)] [] (k30 l0 l1 l2 l3 l4 l7)) (l0 : Nat) (l1 : Option Nat) (l2 : Option Nat) (l3 : Int32) (l4 : Option Nat) (l5 : Int32) (l6 : Option Nat) (l7 : Option Nat) : xI x xeR 104 [(0, va_rf (some l0)), (1, va_rf l1), (2, va_rf l2), (3, .int l3), (4, va_rf l4), (5, .int l5), (6, va_rf l6), (7, va_rf l7)] [] (fJ29_put_2_p104 k30 l0 l1 l2 l3 l4 l5 l6 l7) := by
  unfold fJ29_put_2_p104
  refine xr_aload 4 (r := l4) F dJ29_put_2_104 rfl ?_
  refine xr_ifnonnull 30 F dJ29_put_2_106 rfl ?_ ?_
  · refine xr_goto 201 F dJ29_put_2_109 rfl ?_
    exact xI.sub [0, 1, 2, 5, 6] rfl (fJ29_put_2_p201_ok F hnL hRm hno hmn l0 l1 l2 l5 l6)
  · exact xI.sub [0, 1, 2, 3, 4, 7] rfl (hk30 l0 l1 l2 l3 l4 l7)
theorem fJ29_put_2_p95_ok {x : xC} (F : xF x RJ29 cJ29_put_2 (some (.object "java/lang/Object"))) (hnL : xnL x = 10) (hRm : ∃ dc ds, x.2.2.2.1 = { frames := 7, cells := dc, slots := ds, locals := 142 }) (hno : ∀ pc, xNo x pc) (hmn : xmn x = "put" ∧ xmy x yJ29_put_2) (l2 : Option Nat) (l4 : Option Nat) (l8 : Option Nat) : xI x xeR 95 [(2, va_rf l2), (4, va_rf l4), (8, va_rf l8)] [] (fJ29_put_2_p95 l2 l4 l8) := by
  unfold fJ29_put_2_p95
  refine xr_aload 1 (r := l4) F dJ29_put_2_95 rfl ?_
  refine xr_aload_n 0 (r := l2) F dJ29_put_2_97 rfl ?_
  refine xr_put (r := l4) (ref := "java/util/TreeMap$Entry") F dJ29_put_2_98 xk_36 (by decide) (Or.inl q3163) (Or.inl rfl) (Or.inl rfl) (xr_rf _ _) ?_
  refine xr_aload 2 (r := l8) F dJ29_put_2_101 rfl ?_
  exact xr_aret (v := l8) F dJ29_put_2_103 (Or.inl ⟨_, rfl⟩)
theorem fJ29_put_2_p30_ok {x : xC} (F : xF x RJ29 cJ29_put_2 (some (.object "java/lang/Object"))) (hnL : xnL x = 10) (hRm : ∃ dc ds, x.2.2.2.1 = { frames := 7, cells := dc, slots := ds, locals := 142 }) (hno : ∀ pc, xNo x pc) (hmn : xmn x = "put" ∧ xmy x yJ29_put_2) : ∀ (n : Nat) (l0 : Nat) (l1 : Option Nat) (l2 : Option Nat) (l3 : Int32) (l4 : Option Nat) (l7 : Option Nat), xI x xeR 30 [(0, va_rf (some l0)), (1, va_rf l1), (2, va_rf l2), (3, .int l3), (4, va_rf l4), (7, va_rf l7)] [] (fJ29_put_2_p30 n l0 l1 l2 l3 l4 l7) := by
  intro n
  induction n with
  | zero => intro l0 l1 l2 l3 l4 l7; exact xI.stuck
  | succ n ih =>
    intro l0 l1 l2 l3 l4 l7
    unfold fJ29_put_2_p30
    refine xr_aload 4 (r := l4) F dJ29_put_2_30 rfl ?_
    refine xs_a [0, 1, 2, 3, 4, 5] F dJ29_put_2_32 hnL rfl rfl (xk1 rfl rfl (xk1 rfl rfl (xk1 rfl rfl (xk1 rfl rfl (xk1 rfl rfl (xk1 rfl rfl xk0)))))) ?_
    refine xr_aload 6 (r := l7) F dJ29_put_2_34 rfl ?_
    refine xr_aload_n 2 (r := l1) F dJ29_put_2_36 rfl ?_
    refine xr_aload 5 (r := l4) F dJ29_put_2_37 rfl ?_
    refine xr_gR (r := l4) (ref := "java/util/TreeMap$Entry") F dJ29_put_2_39 (C := RJ47) (T := TJ47) (N := 6) rfl (by decide) (Or.inl q3160) (Or.inl rfl) (fun v39 => ?_)
    refine xr_FI (x0 := ⟨"java/util/Comparator", "compare", "(Ljava/lang/Object;Ljava/lang/Object;)I"⟩) (y := yX16_compare) (As := [va_rf l1, va_rf v39]) (r := l7) F (hno _) dJ29_put_2_42 (fun z => fX16_compare_m (xFG F) z l1 v39) rfl (ci := 34) (C := RX16) (T := TX16) rfl q1343 q1335 q1341 q1339 q1337 q1336 q1342 q1340 q1338 (xroom hRm (Nat.le_of_ble_eq_true rfl) (Nat.le_of_ble_eq_true rfl)) ⟨by decide, by decide⟩ n_X16_compare rfl (xcat (Nat.le_of_ble_eq_true rfl)) (fun v42 => ?_)
    refine xs_i [0, 1, 2, 3, 4, 5, 6] F dJ29_put_2_47 hnL rfl rfl (xk1 rfl rfl (xk1 rfl rfl (xk1 rfl rfl (xk1 rfl rfl (xk1 rfl rfl (xk2 rfl (xrf_cat _) (xk1 rfl rfl xk0))))))) ?_
    refine xr_iload 0 F dJ29_put_2_49 rfl ?_
    refine xr_if_ge 64 F dJ29_put_2_51 rfl ?_ ?_
    · refine xr_iload 0 F dJ29_put_2_64 rfl ?_
      refine xr_if_le 79 F dJ29_put_2_66 rfl ?_ ?_
      · refine xr_aload 6 (r := l4) F dJ29_put_2_79 rfl ?_
        refine xr_gR (r := l4) (ref := "java/util/TreeMap$Entry") F dJ29_put_2_81 (C := RJ47) (T := TJ47) (N := 6) rfl (by decide) (Or.inl q3163) (Or.inl rfl) (fun v81 => ?_)
        refine xs_a [4, 5, 6] F dJ29_put_2_84 hnL rfl rfl (xk1 rfl rfl (xk1 rfl rfl (xk1 rfl rfl xk0))) ?_
        refine xr_iload_n 2 F dJ29_put_2_86 rfl ?_
        refine xr_if_ne 95 F dJ29_put_2_87 rfl ?_ ?_
        · refine xr_aload 0 (r := v81) F dJ29_put_2_90 rfl ?_
          refine xr_ifnonnull 101 F dJ29_put_2_92 rfl ?_ ?_
          · exact xI.sub [1, 3, 0] rfl (fJ29_put_2_p95_ok F hnL hRm hno hmn l2 l4 v81)
          · refine xr_aload 0 (r := v81) F dJ29_put_2_101 rfl ?_
            exact xr_aret (v := v81) F dJ29_put_2_103 (Or.inl ⟨_, rfl⟩)
        · exact xI.sub [1, 3, 0] rfl (fJ29_put_2_p95_ok F hnL hRm hno hmn l2 l4 v81)
      · refine xr_aload 6 (r := l4) F dJ29_put_2_69 rfl ?_
        refine xr_gR (r := l4) (ref := "java/util/TreeMap$Entry") F dJ29_put_2_71 (C := RJ47) (T := TJ47) (N := 6) rfl (by decide) (Or.inl q3165) (Or.inl rfl) (fun v71 => ?_)
        refine xs_a [0, 1, 2, 3, 4, 5, 7] F dJ29_put_2_74 hnL rfl rfl (xk1 rfl rfl (xk1 rfl rfl (xk1 rfl rfl (xk1 rfl rfl (xk1 rfl rfl (xk2 rfl rfl (xk1 rfl rfl xk0))))))) ?_
        refine xr_goto 104 F dJ29_put_2_76 rfl ?_
        exact xI.sub [3, 4, 5, 6, 0, 1, 2, 7] rfl (fJ29_put_2_p104_ok F hnL hRm hno hmn ih l0 l1 l2 l3 v71 v42 l4 l7)
    · refine xr_aload 6 (r := l4) F dJ29_put_2_54 rfl ?_
      refine xr_gR (r := l4) (ref := "java/util/TreeMap$Entry") F dJ29_put_2_56 (C := RJ47) (T := TJ47) (N := 6) rfl (by decide) (Or.inl q3164) (Or.inl rfl) (fun v56 => ?_)
      refine xs_a [0, 1, 2, 3, 4, 5, 7] F dJ29_put_2_59 hnL rfl rfl (xk1 rfl rfl (xk1 rfl rfl (xk1 rfl rfl (xk1 rfl rfl (xk1 rfl rfl (xk2 rfl rfl (xk1 rfl rfl xk0))))))) ?_
      refine xr_goto 104 F dJ29_put_2_61 rfl ?_
      exact xI.sub [3, 4, 5, 6, 0, 1, 2, 7] rfl (fJ29_put_2_p104_ok F hnL hRm hno hmn ih l0 l1 l2 l3 v56 v42 l4 l7)
theorem fJ29_put_2_p196_ok {x : xC} (F : xF x RJ29 cJ29_put_2 (some (.object "java/lang/Object"))) (hnL : xnL x = 10) (hRm : ∃ dc ds, x.2.2.2.1 = { frames := 7, cells := dc, slots := ds, locals := 142 }) (hno : ∀ pc, xNo x pc) (hmn : xmn x = "put" ∧ xmy x yJ29_put_2) {k123 : Nat → Option Nat → Option Nat → Int32 → Option Nat → Option Nat → xM (Option Nat)} (hk123 : ∀ (l0 : Nat) (l1 : Option Nat) (l2 : Option Nat) (l3 : Int32) (l4 : Option Nat) (l8 : Option Nat), xI x xeR 123 [(0, va_rf (some l0)), (1, va_rf l1), (2, va_rf l2), (3, .int l3), (4, va_rf l4), (8, va_rf l8)] [] (k123 l0 l1 l2 l3 l4 l8)) (l0 : Nat) (l1 : Option Nat) (l2 : Option Nat) (l3 : Int32) (l4 : Option Nat) (l5 : Int32) (l6 : Option Nat) (l8 : Option Nat) : xI x xeR 196 [(0, va_rf (some l0)), (1, va_rf l1), (2, va_rf l2), (3, .int l3), (4, va_rf l4), (5, .int l5), (6, va_rf l6), (8, va_rf l8)] [] (fJ29_put_2_p196 k123 l0 l1 l2 l3 l4 l5 l6 l8) := by
  unfold fJ29_put_2_p196
  refine xr_aload 4 (r := l4) F dJ29_put_2_196 rfl ?_
  refine xr_ifnonnull 123 F dJ29_put_2_198 rfl ?_ ?_
  · exact xI.sub [0, 1, 2, 5, 6] rfl (fJ29_put_2_p201_ok F hnL hRm hno hmn l0 l1 l2 l5 l6)
  · exact xI.sub [0, 1, 2, 3, 4, 7] rfl (hk123 l0 l1 l2 l3 l4 l8)
theorem fJ29_put_2_p187_ok {x : xC} (F : xF x RJ29 cJ29_put_2 (some (.object "java/lang/Object"))) (hnL : xnL x = 10) (hRm : ∃ dc ds, x.2.2.2.1 = { frames := 7, cells := dc, slots := ds, locals := 142 }) (hno : ∀ pc, xNo x pc) (hmn : xmn x = "put" ∧ xmy x yJ29_put_2) (l2 : Option Nat) (l4 : Option Nat) (l9 : Option Nat) : xI x xeR 187 [(2, va_rf l2), (4, va_rf l4), (9, va_rf l9)] [] (fJ29_put_2_p187 l2 l4 l9) := by
  unfold fJ29_put_2_p187
  refine xr_aload 1 (r := l4) F dJ29_put_2_187 rfl ?_
  refine xr_aload_n 0 (r := l2) F dJ29_put_2_189 rfl ?_
  refine xr_put (r := l4) (ref := "java/util/TreeMap$Entry") F dJ29_put_2_190 xk_36 (by decide) (Or.inl q3163) (Or.inl rfl) (Or.inl rfl) (xr_rf _ _) ?_
  refine xr_aload 2 (r := l9) F dJ29_put_2_193 rfl ?_
  exact xr_aret (v := l9) F dJ29_put_2_195 (Or.inl ⟨_, rfl⟩)
theorem fJ29_put_2_p123_ok {x : xC} (F : xF x RJ29 cJ29_put_2 (some (.object "java/lang/Object"))) (hnL : xnL x = 10) (hRm : ∃ dc ds, x.2.2.2.1 = { frames := 7, cells := dc, slots := ds, locals := 142 }) (hno : ∀ pc, xNo x pc) (hmn : xmn x = "put" ∧ xmy x yJ29_put_2) : ∀ (n : Nat) (l0 : Nat) (l1 : Option Nat) (l2 : Option Nat) (l3 : Int32) (l4 : Option Nat) (l8 : Option Nat), xI x xeR 123 [(0, va_rf (some l0)), (1, va_rf l1), (2, va_rf l2), (3, .int l3), (4, va_rf l4), (8, va_rf l8)] [] (fJ29_put_2_p123 n l0 l1 l2 l3 l4 l8) := by
  intro n
  induction n with
  | zero => intro l0 l1 l2 l3 l4 l8; exact xI.stuck
  | succ n ih =>
    intro l0 l1 l2 l3 l4 l8
    unfold fJ29_put_2_p123
    refine xr_aload 4 (r := l4) F dJ29_put_2_123 rfl ?_
    refine xs_a [0, 1, 2, 3, 4, 5] F dJ29_put_2_125 hnL rfl rfl (xk1 rfl rfl (xk1 rfl rfl (xk1 rfl rfl (xk1 rfl rfl (xk1 rfl rfl (xk1 rfl rfl xk0)))))) ?_
    refine xr_aload 6 (r := l8) F dJ29_put_2_127 rfl ?_
    refine xr_aload 5 (r := l4) F dJ29_put_2_129 rfl ?_
    refine xr_gR (r := l4) (ref := "java/util/TreeMap$Entry") F dJ29_put_2_131 (C := RJ47) (T := TJ47) (N := 6) rfl (by decide) (Or.inl q3160) (Or.inl rfl) (fun v131 => ?_)
    refine xr_FI (x0 := ⟨"java/lang/Comparable", "compareTo", "(Ljava/lang/Object;)I"⟩) (y := yJ17_compareTo) (As := [va_rf v131]) (r := l8) F (hno _) dJ29_put_2_134 (fun z => fJ17_compareTo_m (xFG F) z v131) rfl (ci := 15) (C := RJ17) (T := TJ17) rfl q1452 q1366 q1450 q1448 q1368 q1367 q1451 q1449 q1447 (xroom hRm (Nat.le_of_ble_eq_true rfl) (Nat.le_of_ble_eq_true rfl)) ⟨by decide, by decide⟩ n_J17_compareTo rfl (xcat (Nat.le_of_ble_eq_true rfl)) (fun v134 => ?_)
    refine xs_i [0, 1, 2, 3, 4, 5, 6] F dJ29_put_2_139 hnL rfl rfl (xk1 rfl rfl (xk1 rfl rfl (xk1 rfl rfl (xk1 rfl rfl (xk1 rfl rfl (xk2 rfl (xrf_cat _) (xk1 rfl rfl xk0))))))) ?_
    refine xr_iload 0 F dJ29_put_2_141 rfl ?_
    refine xr_if_ge 156 F dJ29_put_2_143 rfl ?_ ?_
    · refine xr_iload 0 F dJ29_put_2_156 rfl ?_
      refine xr_if_le 171 F dJ29_put_2_158 rfl ?_ ?_
      · refine xr_aload 6 (r := l4) F dJ29_put_2_171 rfl ?_
        refine xr_gR (r := l4) (ref := "java/util/TreeMap$Entry") F dJ29_put_2_173 (C := RJ47) (T := TJ47) (N := 6) rfl (by decide) (Or.inl q3163) (Or.inl rfl) (fun v173 => ?_)
        refine xs_a [4, 5, 6] F dJ29_put_2_176 hnL rfl rfl (xk1 rfl rfl (xk1 rfl rfl (xk1 rfl rfl xk0))) ?_
        refine xr_iload_n 2 F dJ29_put_2_178 rfl ?_
        refine xr_if_ne 187 F dJ29_put_2_179 rfl ?_ ?_
        · refine xr_aload 0 (r := v173) F dJ29_put_2_182 rfl ?_
          refine xr_ifnonnull 193 F dJ29_put_2_184 rfl ?_ ?_
          · exact xI.sub [1, 3, 0] rfl (fJ29_put_2_p187_ok F hnL hRm hno hmn l2 l4 v173)
          · refine xr_aload 0 (r := v173) F dJ29_put_2_193 rfl ?_
            exact xr_aret (v := v173) F dJ29_put_2_195 (Or.inl ⟨_, rfl⟩)
        · exact xI.sub [1, 3, 0] rfl (fJ29_put_2_p187_ok F hnL hRm hno hmn l2 l4 v173)
      · refine xr_aload 6 (r := l4) F dJ29_put_2_161 rfl ?_
        refine xr_gR (r := l4) (ref := "java/util/TreeMap$Entry") F dJ29_put_2_163 (C := RJ47) (T := TJ47) (N := 6) rfl (by decide) (Or.inl q3165) (Or.inl rfl) (fun v163 => ?_)
        refine xs_a [0, 1, 2, 3, 4, 5, 7] F dJ29_put_2_166 hnL rfl rfl (xk1 rfl rfl (xk1 rfl rfl (xk1 rfl rfl (xk1 rfl rfl (xk1 rfl rfl (xk2 rfl rfl (xk1 rfl rfl xk0))))))) ?_
        refine xr_goto 196 F dJ29_put_2_168 rfl ?_
        exact xI.sub [3, 4, 5, 6, 0, 1, 2, 7] rfl (fJ29_put_2_p196_ok F hnL hRm hno hmn ih l0 l1 l2 l3 v163 v134 l4 l8)
    · refine xr_aload 6 (r := l4) F dJ29_put_2_146 rfl ?_
      refine xr_gR (r := l4) (ref := "java/util/TreeMap$Entry") F dJ29_put_2_148 (C := RJ47) (T := TJ47) (N := 6) rfl (by decide) (Or.inl q3164) (Or.inl rfl) (fun v148 => ?_)
      refine xs_a [0, 1, 2, 3, 4, 5, 7] F dJ29_put_2_151 hnL rfl rfl (xk1 rfl rfl (xk1 rfl rfl (xk1 rfl rfl (xk1 rfl rfl (xk1 rfl rfl (xk2 rfl rfl (xk1 rfl rfl xk0))))))) ?_
      refine xr_goto 196 F dJ29_put_2_153 rfl ?_
      exact xI.sub [3, 4, 5, 6, 0, 1, 2, 7] rfl (fJ29_put_2_p196_ok F hnL hRm hno hmn ih l0 l1 l2 l3 v148 v134 l4 l8)
theorem fJ29_put_2_m {l : Launch} {D : xD} {s0 : State} {b0 : Nat} {Γ : Nat → Option Nat} (G : xG l D s0 b0 Γ) (a0 : Nat) (p0 : Option Nat) (p1 : Option Nat) (p2 : Int32) : xMeth l D s0 Γ yJ29_put_2 (Cond.code yJ29_put_2 cJ29_put_2 10 (some (.object "java/lang/Object"))) (7) (142) [.ref a0, va_rf p0, va_rf p1, .int p2] xeR (fJ29_put_2 a0 p0 p1 p2) := by
  refine xMeth.of (lv0 := [(0, va_rf (some a0)), (1, va_rf p0), (2, va_rf p1), (3, .int p2)]) G (by decide +kernel) (Or.inl rfl) (by simp [lg_sl, xrf_cat, xct_i, xct_l, xct_d, xct_r]) (by simp [lv_args, xrf_cat, xct_i, xct_l, xct_d, xct_r, xrf_some]) (fun x F hnL hRm hmn ht e1 e2 e3 e4 => ?_)
  have hno : ∀ pc, xNo x pc := fun pc z hz => by rw [ht.1 rfl] at hz; cases hz
  unfold fJ29_put_2
  refine xr_aload_n 0 (r := (some a0)) F dJ29_put_2_0 rfl ?_
  refine xr_gR (r := (some a0)) (ref := "java/util/TreeMap") F dJ29_put_2_1 (C := RJ29) (T := TJ29) (N := 9) rfl (by decide) (Or.inl q1888) (Or.inl rfl) (fun v1 => ?_)
  refine xs_a [0, 1, 2, 3] F dJ29_put_2_4 hnL rfl rfl (xk1 rfl rfl (xk1 rfl rfl (xk1 rfl rfl (xk2 rfl rfl xk0)))) ?_
  refine xr_aload 0 (r := v1) F dJ29_put_2_6 rfl ?_
  refine xr_ifnonnull 19 F dJ29_put_2_8 rfl ?_ ?_
  · refine xr_aload_n 1 (r := (some a0)) F dJ29_put_2_11 rfl ?_
    refine xr_aload_n 2 (r := p0) F dJ29_put_2_12 rfl ?_
    refine xr_aload_n 3 (r := p1) F dJ29_put_2_13 rfl ?_
    refine xr_VV (y := yJ29_addEntryToEmptyMap) (As := [va_rf p0, va_rf p1]) (r := (some a0)) F (hno _) dJ29_put_2_14 (fun z => fJ29_addEntryToEmptyMap_m (xFG F) z p0 p1) (Or.inl rfl) (ci := 16) (C := RJ29) (T := TJ29) rfl q3152 q3149 q3151 qs46 (xroom hRm (Nat.le_of_ble_eq_true rfl) (Nat.le_of_ble_eq_true rfl)) ⟨by decide, by decide⟩ n_J29_addEntryToEmptyMap rfl (xcat (Nat.le_of_ble_eq_true rfl)) (fun _ => ?_)
    refine xr_null F dJ29_put_2_17 ?_
    exact xr_aret (v := none) F dJ29_put_2_18 (Or.inl ⟨_, rfl⟩)
  · refine xr_aload_n 1 (r := (some a0)) F dJ29_put_2_19 rfl ?_
    refine xr_gR (r := (some a0)) (ref := "java/util/TreeMap") F dJ29_put_2_20 (C := RJ29) (T := TJ29) (N := 9) rfl (by decide) (Or.inl q1887) (Or.inl rfl) (fun v20 => ?_)
    refine xs_a [0, 1, 2, 3, 4] F dJ29_put_2_23 hnL rfl rfl (xk1 rfl rfl (xk1 rfl rfl (xk1 rfl rfl (xk1 rfl rfl (xk1 rfl rfl xk0))))) ?_
    refine xr_aload 0 (r := v20) F dJ29_put_2_25 rfl ?_
    refine xr_ifnull 112 F dJ29_put_2_27 rfl ?_ ?_
    · refine xr_aload_n 3 (r := p0) F dJ29_put_2_112 rfl ?_
      refine xr_SR (y := yJ25_requireNonNull) (As := [va_rf p0]) F (hno _) dJ29_put_2_113 (fJ25_requireNonNull_m (xFG F) p0) (Or.inl rfl) q1363 q153 (Or.inl q1361) q1362 (xroom hRm (Nat.le_of_ble_eq_true rfl) (Nat.le_of_ble_eq_true rfl)) ⟨by decide, by decide⟩ n_J25_requireNonNull rfl (xcat (Nat.le_of_ble_eq_true rfl)) (fun v113 => ?_)
      refine xr_pop F dJ29_put_2_116 (xrf_cat _) ?_
      refine xr_aload_n 3 (r := p0) F dJ29_put_2_117 rfl ?_
      refine xr_cast (r := p0) F dJ29_put_2_118 q1364 xok_4_5_15_40_41_42_43_44_45_46_47_48_49_50_51_52_java_lang_Comparable ?_
      refine xs_a [1, 2, 3, 4, 5] F dJ29_put_2_121 hnL rfl rfl (xk1 rfl rfl (xk1 rfl rfl (xk1 rfl rfl (xk1 rfl rfl (xk1 rfl rfl xk0))))) ?_
      exact xI.sub [2, 3, 4, 5, 1, 0] rfl (fJ29_put_2_p123_ok F hnL hRm hno hmn xFU a0 p0 p1 p2 v1 p0)
    · exact xI.sub [2, 3, 4, 5, 1, 0] rfl (fJ29_put_2_p30_ok F hnL hRm hno hmn xFU a0 p0 p1 p2 v1 v20)
